/-! ===== an attempt goes on from a step: the tests ===== -/
def shb (m : Mst) (a k : Nat) : Bool := !decide (m 29 (3 * a + k) = -1)
theorem q_shownIn_eq {m : Mst} {a : Nat} (ha : a < 60) : q_shownIn (nI a) m = some (fset (shb m a), m) := by
  unfold q_shownIn
  have step : ∀ k (u : Int32) (L : Int32 × Int32 → PM Int32), k < 3 → (un2 fun u1 u2 => qc ((3 : Int32) ≤ u2) (qrt u1) (qa 29 180 (((3 : Int32) * nI a) + u2) fun v8 => qc (v8 = (-1 : Int32)) (L ((u1 ||| (0 : Int32)), (u2 + (1 : Int32)))) (L ((u1 ||| ((1 : Int32) <<< (u2 &&& 31))), (u2 + (1 : Int32)))))) (u, nI k) m = L (u ||| bk (shb m a k) k, nI (k + 1)) m := fun k u L hk => by
    show qc ((3 : Int32) ≤ nI k) _ _ _ = _
    rw [qc_f (by rw [show (3 : Int32) = nI 3 from by decide +kernel]; exact nI_ge hk (by decide)), qa_e ix3p (by omega) (by decide)]
    unfold shb
    by_cases q : m 29 (3 * a + k) = -1
    · rw [qc_t q, decide_eq_true q, nI_1]; rfl
    · rw [qc_f q, decide_eq_false q, nI_1]; rfl
  refine q_loop (N := 3) (s := fun j => ((if j = 0 then 0 else if j = 1 then (0 ||| bk (shb m a 0) 0) else if j = 2 then ((0 ||| bk (shb m a 0) 0) ||| bk (shb m a 1) 1) else fset (shb m a)), nI j)) (w := fun _ => m) (congrArg (Prod.mk _) nI_0.symm) (fun j hj L => ?_) (fun L => ?_) (by decide)
  · rcases (by omega : j = 0 ∨ j = 1 ∨ j = 2) with q | q | q <;> subst q
    · exact step 0 _ L (by decide)
    · exact step 1 _ L (by decide)
    · exact step 2 _ L (by decide)
  · show qc ((3 : Int32) ≤ nI 3) _ _ _ = _
    rw [qc_t (by decide +kernel)]
    rfl
theorem lev_f {f : Nat → Bool} : (((fset f &&& (1 : Int32)) + (fset f &&& (2 : Int32))) + ((3 : Int32) * ((fset f >>> ((2 : Int32) &&& 31)) &&& (1 : Int32)))) = lev f := by
  unfold lev fset
  exact lev_b (f 0) (f 1) (f 2)
/-- whether a test holds -/
def hdv (m : Mst) (a p d l t : Nat) : Int32 := if m 11 t = 1 then m 5 (6 * p + d) else if m 11 t = 2 then (if rkv m p d l 0 < m 12 t then 0 else 1) else if m 11 t = 3 then (if m 1 (3 * p + (m 12 t).toNatClampNeg) = 1 then 1 else 0) else (if lev (shb m a) < m 12 t then 0 else 1)
theorem q_holds_eq {m : Mst} {a p d l t : Nat} (ha : a < 60) (hp : p < 6) (hd : d < 6) (hl : l < 6) (ht : t < 108) (e20 : m 20 a = nI p) (e21 : m 21 a = nI d) (e22 : m 22 a = nI l) (b5 : iBo (m 5)) (h3 : m 11 t = 3 → ix (m 12 t) 3) : q_holds (nI a) (nI t) m = some (hdv m a p d l t, m) := by
  unfold q_holds hdv
  rw [qa_e rfl ha (by decide), e20, qa_e rfl ht (by decide)]
  by_cases q1 : m 11 t = 1
  · rw [qc_t q1, if_pos q1, qa_e rfl ha (by decide), e21, qa_e ix6 (by omega) (by decide), qas_t (b5 _)]; rfl
  · rw [qc_f q1, if_neg q1, qa_e rfl ht (by decide)]
    by_cases q2 : m 11 t = 2
    · rw [qc_t q2, if_pos q2, qbd_e (q_riskOf_eq ha hp hd hl e20 e21 e22), qa_e rfl ht (by decide)]
      by_cases q : rkv m p d l 0 < m 12 t
      · rw [qc_t q, if_pos q]; rfl
      · rw [qc_f q, if_neg q]; rfl
    · rw [qc_f q2, if_neg q2, qa_e rfl ht (by decide)]
      by_cases q3 : m 11 t = 3
      · obtain ⟨j, j1, j2⟩ := h3 q3
        rw [qc_t q3, if_pos q3, qa_e rfl ht (by decide), j2, qa_e ix3p (by omega) (by decide), nI_clamp (by omega)]
        by_cases q : m 1 (3 * p + j) = 1
        · rw [qc_t q, if_pos q]; rfl
        · rw [qc_f q, if_neg q]; rfl
      · rw [qc_f q3, if_neg q3, qbd_e (q_shownIn_eq ha)]
        refine qbd_t (r := lev (shb m a)) (m' := m) (by show some (_, m) = _; rw [lev_f]) ?_
        rw [qa_e rfl ht (by decide)]
        by_cases q : lev (shb m a) < m 12 t
        · rw [qc_t q, if_pos q]; rfl
        · rw [qc_f q, if_neg q]; rfl
theorem c_holds {U : (Nat → List Nat) → Prop} {nL : Nat} {v : Vw} {m m0 : Mst} {o : Nat × Int64} {b T a p d l t q : Nat} (h : CCh U nL v m m0 o (b + 10) T) (hc : ix (m 0 0) 30001) (ha : a < nn m 19) (hp : p < 6) (hd : d < 6) (hl : l < 6) (e20 : m 20 a = nI p) (e21 : m 21 a = nI d) (e22 : m 22 a = nI l) (b5 : iBo (m 5)) (h3 : m 11 t = 3 → ix (m 12 t) 3) (s0 : vM v 6 q 0 = m 11 t) (s1 : vM v 6 q 1 = m 12 t) {P : Int32 → Vw → Prop} {X : String → Vw → Prop} (hP : ∀ v', (v' = v ∨ v' = ub v 10) → CCh U nL v' m m0 o b T → P (hdv m a p d l t) v') : h_X8_holds a (idc 6 q) P X v := by
  have hv0 : CCh U nL v m m0 o b T := h.less (by omega) (Nat.le_refl _)
  have n0 : vN v 7 a 0 = idc 2 p := by
    have := h.1.hR70 a ha
    rw [e20, rf_ix (by omega)] at this
    exact this
  obtain ⟨p1, p2, p3, p4, p5, p6, p7, p8, p9⟩ := h.1.hPe p hp
  obtain ⟨l1, l2, l3⟩ := h.1.hLn.2.2.2.2.2.2.2 p hp
  obtain ⟨d1, d2⟩ := h.1.hDv p hp d hd
  have h14 := h.1.hCt.2.2.2.2.2.2.2.2.2.1
  unfold h_X8_holds
  refine hisK_i (hgI_e s0 (hcnd_i (fun q1 => ?_) fun q1 => hcnd_i (fun q2 => ?_) fun q2 => hcnd_i (fun q3 => ?_) fun q3 => ?_))
  · refine hgR_e n0 (hisK_i (hgR_e p4 (hgI_e ((h.1.f 7 1 21 (by decide) ha).trans e21) (hisK_i (hbn0_i ⟨d, ⟨rfl, by omega, by omega⟩, ?_⟩)))))
    have hh := hP v (Or.inl rfl) hv0
    unfold hdv at hh
    rw [if_pos q1] at hh
    have e : (if vB v (1 + 2 * p) d = true then (1 : Int32) else 0) = m 5 (6 * p + d) := by
      rw [d1]
      rcases b5 (6 * p + d) with r | r <;> rw [r] <;> rfl
    rw [e]
    exact hasr_i (b5 _) (hrt_i hh)
  · refine hbn0_i (c_risk h hc ha hp hd hl e20 e21 e22 fun v' ev hv => ?_)
    have hh := hP v' (Or.inr ev) hv
    unfold hdv at hh
    rw [if_neg q1, if_pos q2] at hh
    have s1' : vM v' 6 q 1 = m 12 t := by rw [ev]; exact s1
    refine hgI_e s1' (hcnd_i (fun r => hasr_i (Or.inl rfl) (hrt_i ?_)) fun r => hasr_i (Or.inr rfl) (hrt_i ?_))
    · rw [if_pos r] at hh; exact hh
    · rw [if_neg r] at hh; exact hh
  · obtain ⟨j, j1, j2⟩ := h3 q3
    have hh := hP v (Or.inl rfl) hv0
    unfold hdv at hh
    rw [if_neg q1, if_neg q2, if_pos q3, j2, nI_clamp (by omega)] at hh
    refine hgR_e n0 (hisK_i (hgR_e p2 (hgI_e (s1.trans j2) (hisK_i (haI_e rfl (by rw [l1]; exact j1) (by omega) ((h.1.hAr.2.2.2.2 p hp).1 j j1) (hcnd_i (fun r => hasr_i (Or.inr rfl) (hrt_i ?_)) fun r => hasr_i (Or.inl rfl) (hrt_i ?_)))))))
    · rw [if_pos r] at hh; exact hh
    · rw [if_neg r] at hh; exact hh
  · have hh := hP v (Or.inl rfl) hv0
    unfold hdv at hh
    rw [if_neg q1, if_neg q2, if_neg q3] at hh
    obtain ⟨a1, a2, a3, a4, a5, a6⟩ := h.1.hSa a ha
    refine hgI_e a5 (hbn0_i (c_levelOf (f := shb m a) (fun k hk => bt_st3 hk) (hgI_e s1 (hcnd_i (fun r => hasr_i (Or.inl rfl) (hrt_i ?_)) fun r => hasr_i (Or.inr rfl) (hrt_i ?_)))))
    · rw [if_pos r] at hh; exact hh
    · rw [if_neg r] at hh; exact hh
theorem le0_lt1 {x : Int32} : x ≤ 0 ↔ x < 1 := by
  rw [Int32.le_iff_toInt_le, Int32.lt_iff_toInt_lt]
  have e1 : (1 : Int32).toInt = 1 := rfl
  have e0 : (0 : Int32).toInt = 0 := rfl
  omega
theorem five_le {x : Int32} : 5 ≤ x ↔ 4 < x := by
  rw [Int32.le_iff_toInt_le, Int32.lt_iff_toInt_lt]
  have e1 : (5 : Int32).toInt = 5 := rfl
  have e0 : (4 : Int32).toInt = 4 := rfl
  omega
theorem tst_iff {x : Int32} : tst x ↔ ¬ x < 1 ∧ ¬ 4 < x := by
  unfold tst
  rw [Int32.not_lt, Int32.not_lt]
theorem q_isTest_t {x : Int32} {m : Mst} (h : tst x) : q_isTest x m = some (1, m) := by
  obtain ⟨h1, h2⟩ := tst_iff.mp h
  unfold q_isTest
  rw [qc_f h1, qc_f h2, qas_t (Or.inr rfl)]; rfl
theorem q_isTest_f {x : Int32} {m : Mst} (h : ¬ tst x) : q_isTest x m = some (0, m) := by
  unfold q_isTest
  by_cases h1 : x < 1
  · rw [qc_t h1, qas_t (Or.inl rfl)]; rfl
  · by_cases h2 : 4 < x
    · rw [qc_f h1, qc_t h2, qas_t (Or.inl rfl)]; rfl
    · exact absurd (tst_iff.mpr ⟨h1, h2⟩) h
theorem c_isTest {v : Vw} {q : Nat} {x : Int32} (s0 : vM v 6 q 0 = x) {P : Int32 → Vw → Prop} {X : String → Vw → Prop} (h1 : tst x → P 1 v) (h0 : ¬ tst x → P 0 v) : h_X7_isTest q P X v := by
  unfold h_X7_isTest
  refine hgI_e s0 (hcnd_i (fun r => hasr_i (Or.inl rfl) (hrt_i (h0 fun t => (tst_iff.mp t).1 (le0_lt1.mp r)))) fun r => hgI_e s0 (hcnd_i (fun r2 => hasr_i (Or.inl rfl) (hrt_i (h0 fun t => (tst_iff.mp t).2 (five_le.mp r2)))) fun r2 => hasr_i (Or.inr rfl) (hrt_i (h1 (tst_iff.mpr ⟨fun t => r (le0_lt1.mpr t), fun t => r2 (five_le.mpr t)⟩)))))
/-- an attempt's flow -/
theorem flow_of {U : (Nat → List Nat) → Prop} {nL : Nat} {v : Vw} {m m0 : Mst} {o : Nat × Int64} {b T a V n : Nat} (h : CCh U nL v m m0 o b T) (ha : a < nn m 19) (e23 : m 23 a = nI V) (hV : V < nn m 9) (h10 : m 10 V = nI n) (hn : n ≤ 12) : ∃ w, vN v 7 a 3 = idc 1 w ∧ vN v 1 w 0 = idc 13 (fl w) ∧ fl w < vK v 13 ∧ vZ v (fl w) = n ∧ ∀ j, j < n → ∃ q, vE v (fl w) j = idc 6 q ∧ vM v 6 q 0 = m 11 (12 * V + j) ∧ vM v 6 q 1 = m 12 (12 * V + j) ∧ vM v 6 q 2 = m 13 (12 * V + j) ∧ vM v 6 q 3 = m 14 (12 * V + j) ∧ vM v 6 q 4 = m 15 (12 * V + j) := by
  obtain ⟨f1, f2, f3, f4, f5, f6⟩ := h.1.hFl
  have e9 : nn m 9 = vZ v 1 := nIx f4 (by omega)
  obtain ⟨w, w1, w2, g1, g2, g3⟩ := f6 V (by omega)
  have h13 := h.1.hCt.2.2.2.2.2.2.2.1
  have hZ : vZ v (fl w) = n := by
    have := (nI_eq (by omega) (by omega)).mp (h10.symm.trans g1)
    exact this.symm
  refine ⟨w, ?_, f2 w (by omega), ?_, hZ, fun j hj => ?_⟩
  · have := (h.1.hAt a ha).1
    rw [e23, nI_clamp (by omega), w1] at this
    exact this
  · unfold fl
    split <;> omega
  · obtain ⟨q, q1, q2, q3, q4, q5, q6, q7⟩ := g3 j (by omega)
    exact ⟨q, q1, q3, q4, q5, q6, q7⟩
def goF (a1 : Int32) : (Int32 × Int32 → PM (Int32 × Int32)) → Int32 × Int32 → PM (Int32 × Int32) := (fun r7 => un2 fun u5 u6 => qc (u5 = (-1 : Int32)) (qrt (u5, u6)) (qa 11 108 u6 fun v15 => qbd (q_isTest v15) (fun v16 => qc (v16 = 0) (qrt (u5, u6)) (qbd (q_holds a1 u6) (fun v18 => qbd (α := Int32) (qc (v18 = 0) (qa 15 108 u6 fun v29 => qrt v29) (qa 14 108 u6 fun v33 => qrt v33)) (fun u19 => qa 23 60 a1 fun v23 => r7 (u19, (((12 : Int32) * v23) + u19))))))))
def cgoF (i0 : Nat) : (Int32 → PV Int32) → Int32 → PV Int32 := (fun r2 => fun u1 => hcnd (u1 = (-1 : Int32)) (hrt u1) (hgR 7 i0 3 fun v6 => hisK 1 v6 fun i7 => hgR 1 i7 0 fun v9 => hisK 13 v9 fun i10 => hbn0 (h_J2_get i10 u1) (fun v12 => hisK 6 v12 fun i13 => hbn0 (h_X7_isTest i13) (fun v15 => hcnd (v15 = 0) (hrt u1) (hgR 7 i0 3 fun v17 => hisK 1 v17 fun i18 => hgR 1 i18 0 fun v20 => hisK 13 v20 fun i21 => hbn0 (h_J2_get i21 u1) (fun v23 => hisK 6 v23 fun i24 => hbn0 (h_X8_holds i0 (idc 6 i24)) (fun v26 => hcnd (v26 = 0) (hgI 6 i24 4 fun v28 => r2 v28) (hgI 6 i24 3 fun v29 => r2 v29))))))))
theorem ix12p {p k : Nat} : ((12 : Int32) * nI p) + nI k = nI (12 * p + k) := by rw [show (12 : Int32) = nI 12 from by decide +kernel, pk_mul, nI_add]
theorem hdv24 {m : Mst} {a p d l t : Nat} {x y : Int32} : hdv (up2 (up2 m 24 a x) 26 a y) a p d l t = hdv m a p d l t := rfl
theorem go_ex {m m0 : Mst} {o : Nat × Int64} {T a p d l V n : Nat} {x y : Int32} (ha : a < nn m 19) (ha60 : a < 60) (hp : p < 6) (hd : d < 6) (hl : l < 6) (e20 : m 20 a = nI p) (e21 : m 21 a = nI d) (e22 : m 22 a = nI l) (e23 : m 23 a = nI V) (hV : V < nn m 9) (hV8 : V < 8) (h10 : m 10 V = nI n) (hn : n ≤ 12) (hst : iSt (m 11) (m 12) (m 13) (m 14) (m 15) (12 * V) n) (b5 : iBo (m 5)) (hc : ix (m 0 0) 30001) {rk : Nat → Nat}
    (hpu : ∀ k, k < n → m 11 (12 * V + k) < 5 → ixn (m 14 (12 * V + k)) n ∧ ixn (m 15 (12 * V + k)) n) (hrk : ∀ k j, k < n → j < n → tst (m 11 (12 * V + k)) → tst (m 11 (12 * V + j)) → (m 14 (12 * V + k) = nI j ∨ m 15 (12 * V + k) = nI j) → rk j < rk k) : ∀ (K : Nat) (u : Int32), ixn u n → (∀ j, j < n → u = nI j → tst (m 11 (12 * V + j)) → rk j < K) → ∃ r, ixn r n ∧ (∀ j, j < n → r = nI j → ¬ tst (m 11 (12 * V + j))) ∧ (∀ fuel, K < fuel → qlN (goF (nI a)) fuel (u, ((12 : Int32) * nI V) + u) m = some ((r, ((12 : Int32) * nI V) + r), m)) ∧ (∀ (U : (Nat → List Nat) → Prop) (nL b : Nat) (v : Vw) (P : Int32 → Vw → Prop) (X : String → Vw → Prop), CCh U nL v (up2 (up2 m 24 a x) 26 a y) m0 o (b + 10 * (K + 1)) T → (∀ v', CCh U nL v' (up2 (up2 m 24 a x) 26 a y) m0 o b T → P r v') → hlpN (cgoF a) (K + 1) u P X v) := by
  -- where it stops at once
  have base : ∀ (K : Nat) (u : Int32), ixn u n → (∀ j, j < n → u = nI j → ¬ tst (m 11 (12 * V + j))) → ∃ r, ixn r n ∧ (∀ j, j < n → r = nI j → ¬ tst (m 11 (12 * V + j))) ∧ (∀ fuel, K < fuel → qlN (goF (nI a)) fuel (u, ((12 : Int32) * nI V) + u) m = some ((r, ((12 : Int32) * nI V) + r), m)) ∧ (∀ (U : (Nat → List Nat) → Prop) (nL b : Nat) (v : Vw) (P : Int32 → Vw → Prop) (X : String → Vw → Prop), CCh U nL v (up2 (up2 m 24 a x) 26 a y) m0 o (b + 10 * (K + 1)) T → (∀ v', CCh U nL v' (up2 (up2 m 24 a x) 26 a y) m0 o b T → P r v') → hlpN (cgoF a) (K + 1) u P X v) := fun K u hu hnt => by
    refine ⟨u, hu, hnt, fun fuel hf => ?_, fun U nL b v P X h hP => ?_⟩
    · obtain ⟨g, rfl⟩ : ∃ g, fuel = g + 1 := ⟨fuel - 1, by omega⟩
      show qc (u = -1) _ _ _ = _
      rcases hu with r | ⟨j, j1, j2⟩
      · rw [qc_t r]; rfl
      · rw [qc_f (by rw [j2]; exact nI_nm (by omega)), j2, qa_e ix12p (by omega) (by decide), qbd_e (q_isTest_f (hnt j j1 j2)), qc_t rfl]
        rfl
    · show cgoF a (hlpN (cgoF a) K) u P X v
      have hv0 := h.less (b' := b) (by omega) (Nat.le_refl _)
      unfold cgoF
      rcases hu with r | ⟨j, j1, j2⟩
      · exact hcnd_t r (hrt_i (hP v hv0))
      · obtain ⟨w, w1, w2, w3, w4, w5⟩ := flow_of (V := V) (n := n) h ha e23 hV h10 hn
        obtain ⟨q, q1, q2, q3, q4, q5, q6⟩ := w5 j j1
        have q2 : vM v 6 q 0 = m 11 (12 * V + j) := q2
        refine hcnd_f (by rw [j2]; exact nI_nm (by omega)) (hgR_e w1 (hisK_i (hgR_e w2 (hisK_i (hbn0_i (J2get w3 j2 (by omega) (by omega) q1 (hisK_i (hbn0_i (c_isTest q2 (fun t => absurd t (hnt j j1 j2)) fun _ => hcnd_t rfl (hrt_i (hP v hv0)))))))))))
  intro K
  induction K with
  | zero =>
    intro u hu hr
    exact base 0 u hu fun j hj1 hj ht => absurd (hr j hj1 hj ht) (Nat.not_lt_zero _)
  | succ K ih =>
    intro u hu hr
    rcases hu with r | ⟨j, j1, j2⟩
    · exact base (K + 1) u (Or.inl r) fun j hj1 hj => absurd (hj.symm.trans r) (nI_nm (by omega))
    · by_cases ht : tst (m 11 (12 * V + j))
      rotate_left
      · exact base (K + 1) u (Or.inr ⟨j, j1, j2⟩) fun j' hj' e => by
          have e2 : j' = j := (nI_eq (by omega) (by omega)).mp (e.symm.trans j2)
          rw [e2]; exact ht
      · have hlt := hr j j1 j2 ht
        have k5 : m 11 (12 * V + j) < 5 := Int32.not_le.mp fun t => (tst_iff.mp ht).2 (five_le.mp t)
        obtain ⟨n1, n2⟩ := hpu j j1 k5
        have h3 : m 11 (12 * V + j) = 3 → ix (m 12 (12 * V + j)) 3 := fun e => (hst j j1).2.2.1 (Or.inr e)
        obtain ⟨u', hu'⟩ : ∃ u' : Int32, u' = if hdv m a p d l (12 * V + j) = 0 then m 15 (12 * V + j) else m 14 (12 * V + j) := ⟨_, rfl⟩
        have hu'n : ixn u' n := by
          rw [hu']
          split
          · exact n2
          · exact n1
        have hr' : ∀ j', j' < n → u' = nI j' → tst (m 11 (12 * V + j')) → rk j' < K := fun j' hj' e ht' => by
          have := hrk j j' j1 hj' ht ht' (by
            rw [hu'] at e
            split at e
            · exact Or.inr e
            · exact Or.inl e)
          omega
        obtain ⟨r, r1, r2, r3, r4⟩ := ih u' hu'n hr'
        refine ⟨r, r1, r2, fun fuel hf => ?_, fun U nL b v P X h hP => ?_⟩
        · obtain ⟨g, rfl⟩ : ∃ g, fuel = g + 1 := ⟨fuel - 1, by omega⟩
          show qc (u = -1) _ _ _ = _
          rw [qc_f (by rw [j2]; exact nI_nm (by omega)), j2, ix12p, qa_e rfl (by omega) (by decide), qbd_e (q_isTest_t ht), qc_f one_ne, qbd_e (q_holds_eq ha60 hp hd hl (by omega) e20 e21 e22 b5 h3)]
          refine qbd_t (r := u') (m' := m) ?_ ?_
          · rw [hu']
            by_cases q : hdv m a p d l (12 * V + j) = 0
            · rw [qc_t q, qa_e rfl (by omega) (by decide), if_pos q]; rfl
            · rw [qc_f q, qa_e rfl (by omega) (by decide), if_neg q]; rfl
          · rw [qa_e rfl ha60 (by decide), e23]
            exact r3 g (by omega)
        · show cgoF a (hlpN (cgoF a) (K + 1)) u P X v
          obtain ⟨w, w1, w2, w3, w4, w5⟩ := flow_of (V := V) (n := n) h ha e23 hV h10 hn
          obtain ⟨q, q1, q2, q3, q4, q5, q6⟩ := w5 j j1
          have q2 : vM v 6 q 0 = m 11 (12 * V + j) := q2
          have r4' := fun v' hv => r4 U nL b v' P X hv hP
          generalize hlpN (cgoF a) (K + 1) = L at r4' ⊢
          unfold cgoF
          refine hcnd_f (by rw [j2]; exact nI_nm (by omega)) (hgR_e w1 (hisK_i (hgR_e w2 (hisK_i (hbn0_i (J2get w3 j2 (by omega) (by omega) q1 (hisK_i (hbn0_i (c_isTest q2 (fun _ => hcnd_f one_ne (hgR_e w1 (hisK_i (hgR_e w2 (hisK_i (hbn0_i (J2get w3 j2 (by omega) (by omega) q1 (hisK_i (hbn0_i (c_holds (m := up2 (up2 m 24 a x) 26 a y) (t := 12 * V + j) (p := p) (d := d) (l := l) (b := b + 10 * (K + 1)) (h.less (by omega) (Nat.le_refl _)) hc ha hp hd hl e20 e21 e22 b5 h3 q2 q3 fun v' hvv hv => ?_)))))))))) fun t => absurd ht t)))))))))
          have s3 : vM v' 6 q 3 = m 14 (12 * V + j) := by rcases hvv with e | e <;> subst e <;> exact q5
          have s4 : vM v' 6 q 4 = m 15 (12 * V + j) := by rcases hvv with e | e <;> subst e <;> exact q6
          rw [hdv24]
          refine hcnd_i (fun z => hgI_e (x := u') (by rw [s4, hu', if_pos z]) (r4' v' hv)) fun z => hgI_e (x := u') (by rw [s3, hu', if_neg z]) (r4' v' hv)
