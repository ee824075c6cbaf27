/-! ===== all sessions of a person end; operations (18): finish, leave ===== -/
theorem mES_o {m : Mst} {s F : Nat} (h : F ≠ 77 ∧ F ≠ 78 ∧ F ≠ 79 ∧ F ≠ 80 ∧ F ≠ 81) (h2 : F ≠ 69 ∧ F ≠ 51) (h3 : F ≠ 35) : (mES m s).1 F = m F := by
  unfold mES
  show mEFs _ _ _ F = m F
  rw [mEFs_o h h2, mCh_o h h2 h3, mLv_o h h3]
theorem EI.es {m : Mst} {s : Nat} (h : EI m) (hs : s < nn m 30) (hl : m 35 s ≠ 0) : EI (mES m s).1 := by
  have e1 := h.lv hs hl
  have n30 : nn (mLv m s) 30 = nn m 30 := by unfold nn; rw [mLv_o (by decide) (by decide)]
  have n46 : nn (mLv m s) 46 = nn m 46 := by unfold nn; rw [mLv_o (by decide) (by decide)]
  have e2 := (e1.ch (s := s) (nn m 30) (by omega)).1
  exact e2.efs (s := s) (nn m 46) (by rw [mCh_n (by decide) (by decide) (by decide)]; omega)
def mEA (m : Mst) (p : Nat) : Nat → Mst × Nat
  | 0 => (m, 0)
  | j + 1 => if (mEA m p j).1 35 j ≠ 0 ∧ m 31 j = nI p then ((mES (mEA m p j).1 j).1, (mEA m p j).2 + (mES (mEA m p j).1 j).2) else mEA m p j
theorem mEA_e {m : Mst} {p j : Nat} : mEA m p (j + 1) = if (mEA m p j).1 35 j ≠ 0 ∧ m 31 j = nI p then ((mES (mEA m p j).1 j).1, (mEA m p j).2 + (mES (mEA m p j).1 j).2) else mEA m p j := rfl
theorem mEA_o {m : Mst} {p F : Nat} (h : F ≠ 77 ∧ F ≠ 78 ∧ F ≠ 79 ∧ F ≠ 80 ∧ F ≠ 81) (h2 : F ≠ 69 ∧ F ≠ 51) (h3 : F ≠ 35) : ∀ j, (mEA m p j).1 F = m F
  | 0 => rfl
  | j + 1 => by
    have ih := mEA_o (m := m) (p := p) h h2 h3 j
    rw [mEA_e]
    split
    · exact (mES_o h h2 h3).trans ih
    · exact ih
theorem mEA_n {m : Mst} {p F : Nat} (h : F ≠ 77 ∧ F ≠ 78 ∧ F ≠ 79 ∧ F ≠ 80 ∧ F ≠ 81) (h2 : F ≠ 69 ∧ F ≠ 51) (h3 : F ≠ 35) (j : Nat) : nn (mEA m p j).1 F = nn m F := by
  unfold nn
  rw [mEA_o h h2 h3]
theorem EI.ea {m : Mst} {p : Nat} (h : EI m) : ∀ j, j ≤ nn m 30 → EI (mEA m p j).1
  | 0, _ => h
  | j + 1, hj => by
    have ih := EI.ea (p := p) h j (by omega)
    rw [mEA_e]
    split
    · rename_i q
      exact ih.es (by rw [mEA_n (by decide) (by decide) (by decide)]; omega) q.1
    · exact ih
theorem Inv.ea {m : Mst} {T p : Nat} (h : Inv m T) (hT : T < 24) : ∀ j, j ≤ nn m 30 → Inv (mEA m p j).1 T
  | 0, _ => h
  | j + 1, hj => by
    have ih := Inv.ea (p := p) h hT j (by omega)
    rw [mEA_e]
    split
    · rename_i q
      exact ih.es hT (by rw [mEA_n (by decide) (by decide) (by decide)]; omega) q.1
    · exact ih
theorem q_endAll_eq {m : Mst} {p : Nat} (h : EI m) : q_endAllOf (nI p) m = some (nI (mEA m p (nn m 30)).2, (mEA m p (nn m 30)).1) := by
  have hS60 := h.2.2.1.2
  unfold q_endAllOf
  refine q_loop (N := nn m 30) (s := fun j => (nI (mEA m p j).2, nI j)) (w := fun j => (mEA m p j).1) (by show ((0 : Int32), (0 : Int32)) = (nI 0, nI 0); rw [nI_0]) (fun j hj L => ?_) (fun L => ?_) (by omega)
  · have hej := h.ea (p := p) j (by omega)
    have n30 : nn (mEA m p j).1 30 = nn m 30 := mEA_n (by decide) (by decide) (by decide) j
    have x31 : (mEA m p j).1 31 j = m 31 j := by rw [mEA_o (by decide) (by decide) (by decide)]
    show qc ((mEA m p j).1 30 0 ≤ nI j) _ _ _ = L (nI (mEA m p (j + 1)).2, nI (j + 1)) (mEA m p (j + 1)).1
    rw [mEA_e]
    generalize mEA m p j = r at hej n30 x31 ⊢
    rw [qc_f (by rw [hej.2.2.1.1]; exact nI_ge (by omega) (by omega)), qa_e rfl (by omega) (by decide)]
    show qc (r.1 35 j = 0) _ _ _ = _
    by_cases q1 : r.1 35 j = 0
    · rw [qc_t q1, if_neg (fun t => t.1 q1)]
      show L (nI r.2 + 0, nI j + 1) r.1 = _
      rw [Int32.add_zero, nI_1]
    · rw [qc_f q1, qa_e rfl (by omega) (by decide), x31]
      by_cases q2 : m 31 j = nI p
      · rw [qc_t q2, if_pos ⟨q1, q2⟩, qbd_e (q_endSession_eq hej (by omega) q1)]
        show L (nI r.2 + nI (mES r.1 j).2, nI j + 1) _ = _
        rw [nI_add, nI_1]
      · rw [qc_f q2, if_neg (fun t => q2 t.2)]
        show L (nI r.2 + 0, nI j + 1) r.1 = _
        rw [Int32.add_zero, nI_1]
  · have n30 : nn (mEA m p (nn m 30)).1 30 = nn m 30 := mEA_n (by decide) (by decide) (by decide) _
    have hej := h.ea (p := p) (nn m 30) (Nat.le_refl _)
    show qc ((mEA m p (nn m 30)).1 30 0 ≤ nI (nn m 30)) _ _ _ = _
    rw [qc_t (by rw [hej.2.2.1.1, n30]; exact nI_le (Nat.le_refl _) (by omega))]
    rfl
theorem c_endAll {v : Vw} {m m0 : Mst} {o : Nat × Int64} {b T p : Nat} (h : CC v m m0 o b T) (he : EI m) (h31 : ∀ s, s < nn m 30 → ix (m 31 s) 6) (hp : p < 6) {P : Int32 → Vw → Prop} {X : String → Vw → Prop} (hP : ∀ v', CC v' (mEA m p (nn m 30)).1 m0 o b T → P (nI (mEA m p (nn m 30)).2) v') : h_X1_endAll 0 (idc 2 p) P X v := by
  have hS60 := he.2.2.1.2
  unfold h_X1_endAll
  refine h_loop (N := nn m 30) (s := fun j => (nI (mEA m p j).2, nI j)) (fun j w => CC w (mEA m p j).1 m0 o b T) (by show ((0 : Int32), (0 : Int32)) = (nI 0, nI 0); rw [nI_0]) (fun j w hj hw L hL => ?_) (fun w hw L => ?_) h
  · have hw : CC w (mEA m p j).1 m0 o b T := hw
    have hL : ∀ w', CC w' (mEA m p (j + 1)).1 m0 o b T → L (nI (mEA m p (j + 1)).2, nI (j + 1)) P X w' := hL
    have hej := he.ea (p := p) j (by omega)
    have n30 : nn (mEA m p j).1 30 = nn m 30 := mEA_n (by decide) (by decide) (by decide) j
    have x31 : (mEA m p j).1 31 j = m 31 j := by rw [mEA_o (by decide) (by decide) (by decide)]
    rw [mEA_e] at hL
    obtain ⟨ps, hps, eps⟩ := h31 j hj
    refine hun2_i ?_
    generalize mEA m p j = r at hej n30 x31 hw hL ⊢
    have hj' : j < nn r.1 30 := by omega
    have N1 : vN w 8 j 1 = rf 2 (m 31 j) := by
      have := hw.1.hR81 j hj'
      rw [x31] at this
      exact this
    have er := rf_eq (K := 2) (x := m 31 j) (s := p) (by decide) (Or.inr ⟨ps, eps, by omega⟩) (by omega)
    refine (hgR_e hw.1.s4 (hisK_i (hbn0_i (J2sz (hw.1.lt13 (by decide)) hw.1.hL3.1 (hcnd_f (nI_ge hj' (by omega)) (hgR_e hw.1.s4 (hisK_i (hbn0_i (J2get (hw.1.lt13 (by decide)) rfl (by omega) (by rw [hw.1.hL3.1]; omega) (hw.1.hL3.2 j hj') (hisK_i (hgR_e N1 (hasr_i ⟨cmp_rf (by decide), cmp_idc (by decide)⟩ (hcnd_i (fun q1 => hgR_e hw.1.s4 (hisK_i (hbn0_i (J2get (hw.1.lt13 (by decide)) rfl (by omega) (by rw [hw.1.hL3.1]; omega) (hw.1.hL3.2 j hj') (hisK_i (hbn0_i ?_)))))) fun q1 => ?_)))))))))))))
    · by_cases q0 : r.1 35 j = 0
      · refine c_end_dead hw hj' q0 ?_
        rw [if_neg (fun t => t.1 q0)] at hL
        show L (nI r.2 + 0, nI j + 1) P X w
        rw [Int32.add_zero, nI_1]
        exact hL w hw
      · refine c_end (n := 28) hw hej hj' q0 fun w' hw' => ?_
        rw [if_pos ⟨q0, er.mp q1⟩] at hL
        show L (nI r.2 + nI (mES r.1 j).2, nI j + 1) P X w'
        rw [nI_add, nI_1]
        exact hL w' hw'
    · rw [if_neg (fun t => q1 (er.mpr t.2))] at hL
      show L (nI r.2 + 0, nI j + 1) P X w
      rw [Int32.add_zero, nI_1]
      exact hL w hw
  · have hw : CC w (mEA m p (nn m 30)).1 m0 o b T := hw
    have n30 : nn (mEA m p (nn m 30)).1 30 = nn m 30 := mEA_n (by decide) (by decide) (by decide) _
    exact hun2_i (hgR_e hw.1.s4 (hisK_i (hbn0_i (J2sz (hw.1.lt13 (by decide)) (hw.1.hL3.1.trans n30) (hcnd_t (nI_le (Nat.le_refl _) (by omega)) (hrt_i (hP w hw)))))))
/-! finish -/
def eb (m : Mst) (p k : Nat) : Bool := decide (m 1 (3 * p + k) ≠ 0)
def ndF (a1 v1 : Int32) : (Int32 × Int32 → PM Int32) → Int32 × Int32 → PM Int32 := (fun r5 => un2 fun u3 u4 => qc ((3 : Int32) ≤ u4) (qrt u3) (qc (v1 = 0) (qrt u3) (qa 71 20 a1 fun v14 => qa 1 18 (((3 : Int32) * v14) + u4) fun v17 => qc (v17 = 0) (r5 ((u3 + (0 : Int32)), (u4 + (1 : Int32)))) (qbd (q_weight u4) (fun v19 => r5 ((u3 + v19), (u4 + (1 : Int32))))))))
theorem q_needed {m : Mst} {r p : Nat} (hr : r < 20) (hp : p < 6) (e : m 71 r = nI p) : qlp (σ := Int32 × Int32) (ndF (nI r) 1) ((0 : Int32), (0 : Int32)) m = some (lev (eb m p), m) := by
  have step : ∀ k (u : Int32) (L : Int32 × Int32 → PM Int32), k < 3 → ndF (nI r) 1 L (u, nI k) m = L (u + (if eb m p k then nI k + 1 else 0), nI (k + 1)) m := fun k u L hk => by
    show qc ((3 : Int32) ≤ nI k) _ _ _ = _
    rw [qc_f (by rw [show (3 : Int32) = nI 3 from by decide +kernel]; exact nI_ge hk (by decide)), qc_f one_ne, qa_e rfl hr (by decide), e, qa_e ix3p (by omega) (by decide)]
    unfold eb
    by_cases q : m 1 (3 * p + k) = 0
    · rw [qc_t q, decide_eq_false (fun t => t q), nI_1]; rfl
    · rw [qc_f q, decide_eq_true q, ← nI_1]; rfl
  refine q_loop (N := 3) (s := fun j => ((if j = 0 then 0 else if j = 1 then (0 + (if eb m p 0 then nI 0 + 1 else 0)) else if j = 2 then ((0 + (if eb m p 0 then nI 0 + 1 else 0)) + (if eb m p 1 then nI 1 + 1 else 0)) else lev (eb m p)), nI j)) (w := fun _ => m) (congrArg (Prod.mk _) nI_0.symm) (fun j hj L => ?_) (fun L => ?_) (by decide)
  · rcases (by omega : j = 0 ∨ j = 1 ∨ j = 2) with q | q | q <;> subst q
    · exact step 0 _ L (by decide)
    · exact step 1 _ L (by decide)
    · exact step 2 _ L (by decide)
  · have g3 : ∀ x : Int32, 3 ≤ x → ndF (nI r) 1 L (lev (eb m p), x) m = some (lev (eb m p), m) := fun x hx => by
      show qc ((3 : Int32) ≤ x) _ _ _ = _
      rw [qc_t hx]
      rfl
    exact g3 _ (by decide +kernel)
def cenF (i0 : Nat) : (Int32 × Int32 → PV Int32) → Int32 × Int32 → PV Int32 := (fun r3 => un2 fun u1 u2 => hcnd ((3 : Int32) ≤ u2) (hrt u1) (hgR 2 i0 1 fun v5 => hisK 32 v5 fun i6 => haI 32 i6 u2 fun v8 => hcnd (v8 = 0) (r3 ((u1 ||| (0 : Int32)), (u2 + (1 : Int32)))) (r3 ((u1 ||| ((1 : Int32) <<< (u2 &&& 31))), (u2 + (1 : Int32))))))
theorem c_enrolled {v : Vw} {m m0 : Mst} {o : Nat × Int64} {b T p : Nat} (h : CC v m m0 o b T) (hp : p < 6) {P : Int32 → Vw → Prop} {X : String → Vw → Prop} (hP : P (fset (eb m p)) v) : h_X3_enrolled p P X v := by
  obtain ⟨p1, p2, p3, p4, p5, p6, p7, p8, p9⟩ := h.1.hPe p hp
  obtain ⟨l1, l2, l3⟩ := h.1.hLn.2.2.2.2.2.2.2 p hp
  have step : ∀ k (u : Int32) (L : Int32 × Int32 → PV Int32), k < 3 → L (u ||| bk (eb m p k) k, nI (k + 1)) P X v → cenF p L (u, nI k) P X v := fun k u L hk hL => by
    unfold cenF
    refine hun2_i (hcnd_f (by rw [show (3 : Int32) = nI 3 from by decide +kernel]; exact nI_ge hk (by decide)) (hgR_e p2 (hisK_i (haI_e rfl (by rw [l1]; exact hk) (by omega) ((h.1.hAr.2.2.2.2 p hp).1 k hk) (hcnd_i (fun q => ?_) fun q => ?_)))))
    · have e : bk (eb m p k) k = 0 := by unfold eb; rw [decide_eq_false (fun t => t q)]; rfl
      rw [e] at hL
      rw [nI_1]; exact hL
    · have e : bk (eb m p k) k = (1 : Int32) <<< (nI k &&& 31) := by unfold eb; rw [decide_eq_true q]; rfl
      rw [e] at hL
      rw [nI_1]; exact hL
  unfold h_X3_enrolled
  show hlp (σ := Int32 × Int32) (cenF p) ((0 : Int32), (0 : Int32)) P X v
  refine ⟨4, ?_⟩
  show cenF p (hlpN (cenF p) 3) (0, 0) P X v
  rw [show ((0 : Int32), (0 : Int32)) = ((0 : Int32), nI 0) from by rw [nI_0]]
  refine step 0 _ _ (by decide) ?_
  show cenF p (hlpN (cenF p) 2) _ P X v
  refine step 1 _ _ (by decide) ?_
  show cenF p (hlpN (cenF p) 1) _ P X v
  refine step 2 _ _ (by decide) ?_
  show cenF p (hlpN (cenF p) 0) _ P X v
  unfold cenF
  exact hun2_i (hcnd_t (by decide +kernel) (hrt_i hP))
theorem eb_bt {m : Mst} {p : Nat} : ∀ k, k < 3 → bt1 (fset (eb m p)) k = eb m p k := fun k hk => by
  obtain ⟨b0, b1, b2⟩ := bt_b (eb m p 0) (eb m p 1) (eb m p 2)
  rcases (by omega : k = 0 ∨ k = 1 ∨ k = 2) with q | q | q <;> subst q
  · exact b0
  · exact b1
  · exact b2
def rdy (m : Mst) (r p : Nat) (y : Int32) : Prop := m 73 r ≠ 0 ∧ ¬ m 0 0 - m 72 r < 60 ∧ ¬ crd (pbits y) < 2 ∧ ¬ m 75 r < lev (eb m p)
theorem c_isReady {v : Vw} {m m0 : Mst} {o : Nat × Int64} {b T r p bb : Nat} {y : Int32} (h : CC v m m0 o b T) (hr : r < nn m 70) (hp : p < 6) (n0 : vN v 12 r 0 = idc 2 p) (n3 : vN v 12 r 3 = idc 14 bb) (hbb : bb < vK v 14) (hB : ∀ k, vB v bb k = pbits y k) {P : Int32 → Vw → Prop} {X : String → Vw → Prop} (h0 : ¬ rdy m r p y → P 0 v) (h1 : rdy m r p y → P 1 v) : h_X13_isReady r P X v := by
  unfold h_X13_isReady
  refine hgI_e (h.1.f 12 2 73 (by decide) hr) (hcnd_i (fun q => hasr_i (Or.inl rfl) (hrt_i (h0 fun t => t.1 q))) fun q1 => hgR_e (h.1.hT12 r hr) (hisK_i (hgI_e h.1.g16 (hgI_e (h.1.f 12 1 72 (by decide) hr) (hcnd_i (fun q => hasr_i (Or.inl rfl) (hrt_i (h0 fun t => t.2.1 q))) fun q2 => hbn0_i (c_manyP n3 hbb hB (hcnd_i (fun q => hasr_i (Or.inl rfl) (hrt_i (h0 fun t => t.2.2.1 q))) fun q3 => hgI_e (h.1.f 12 4 75 (by decide) hr) (hgR_e n0 (hisK_i (hbn0_i (c_enrolled h hp (hbn0_i (c_levelOf (f := eb m p) eb_bt (hcnd_i (fun q => hasr_i (Or.inl rfl) (hrt_i (h0 fun t => t.2.2.2 q))) fun q4 => hasr_i (Or.inr rfl) (hrt_i (h1 ⟨q1, q2, q3, q4⟩))))))))))))))))
/-- a person's factors gone, then a password again -/
def mZ (m : Mst) (p : Nat) : Mst := up2 (up2 (up2 m 1 (3 * p + 0) 0) 1 (3 * p + 1) 0) 1 (3 * p + 2) 0
def zF (v26 : Int32) : (Int32 → PM Unit) → Int32 → PM Unit := (fun r32 => fun u31 => qc ((3 : Int32) ≤ u31) (qrt ()) (qw 1 18 (((3 : Int32) * v26) + u31) (0 : Int32) <| r32 (u31 + (1 : Int32))))
theorem q_zero {m : Mst} {p : Nat} (hp : p < 6) : qlp (σ := Int32) (zF (nI p)) (0 : Int32) m = some ((), mZ m p) := by
  refine q_loop (N := 3) (s := fun j => nI j) (w := fun j => if j = 0 then m else if j = 1 then up2 m 1 (3 * p + 0) 0 else if j = 2 then up2 (up2 m 1 (3 * p + 0) 0) 1 (3 * p + 1) 0 else mZ m p) nI_0.symm (fun j hj L => ?_) (fun L => ?_) (by decide)
  · have step : ∀ k (w : Mst), k < 3 → zF (nI p) L (nI k) w = L (nI (k + 1)) (up2 w 1 (3 * p + k) 0) := fun k w hk => by
      show qc ((3 : Int32) ≤ nI k) _ _ _ = _
      rw [qc_f (by rw [show (3 : Int32) = nI 3 from by decide +kernel]; exact nI_ge hk (by decide)), qw_e ix3p (by omega) (by decide), nI_1]
    rcases (by omega : j = 0 ∨ j = 1 ∨ j = 2) with q | q | q <;> subst q
    · exact step 0 _ (by decide)
    · exact step 1 _ (by decide)
    · exact step 2 _ (by decide)
  · show qc ((3 : Int32) ≤ nI 3) _ _ _ = _
    rw [qc_t (by decide +kernel)]
    rfl
theorem c_zero {v : Vw} {m m0 : Mst} {o : Nat × Int64} {b T r p : Nat} (h : CC v m m0 o b T) (hr : r < nn m 70) (hp : p < 6) (e71 : m 71 r = nI p) {P : Unit → Vw → Prop} {X : String → Vw → Prop} (hP : ∀ v', CC v' (mZ m p) m0 o b T → P () v') : hlp (σ := Int32) (fun r7 => fun u6 => hcnd ((3 : Int32) ≤ u6) (hrt ()) (hgR 12 r 0 fun v10 => hisK 2 v10 fun i11 => hgR 2 i11 1 fun v13 => hisK 32 v13 fun i14 => hbI 32 i14 u6 (0 : Int32) <| r7 (u6 + (1 : Int32)))) (0 : Int32) P X v := by
  refine h_loop (N := 3) (s := fun j => nI j) (fun j w => CC w (if j = 0 then m else if j = 1 then up2 m 1 (3 * p + 0) 0 else if j = 2 then up2 (up2 m 1 (3 * p + 0) 0) 1 (3 * p + 1) 0 else mZ m p) m0 o b T) nI_0.symm (fun j w hj hw L hL => ?_) (fun w hw L => ?_) h
  · have step : ∀ k (mm : Mst), k < 3 → CC w mm m0 o b T → r < nn mm 70 → mm 71 r = nI p → (∀ v', CC v' (up2 mm 1 (3 * p + k) 0) m0 o b T → L (nI (k + 1)) P X v') → (hcnd ((3 : Int32) ≤ nI k) (hrt ()) (hgR 12 r 0 fun v10 => hisK 2 v10 fun i11 => hgR 2 i11 1 fun v13 => hisK 32 v13 fun i14 => hbI 32 i14 (nI k) (0 : Int32) <| L (nI k + (1 : Int32)))) P X w := fun k mm hk hc hr2 he hl => by
      obtain ⟨p1, p2, p3, p4, p5, p6, p7, p8, p9⟩ := hc.1.hPe p hp
      obtain ⟨l1, l2, l3⟩ := hc.1.hLn.2.2.2.2.2.2.2 p hp
      have n0 : vN w 12 r 0 = idc 2 p := by
        have := hc.1.hRr r hr2
        rw [he, rf_ix (by omega)] at this
        exact this
      refine hcnd_f (by rw [show (3 : Int32) = nI 3 from by decide +kernel]; exact nI_ge hk (by decide)) (hgR_e n0 (hisK_i (hgR_e p2 (hisK_i (hbI_e rfl (by rw [l1]; exact hk) (by omega) ?_)))))
      rw [nI_1]
      exact hl _ ⟨hc.1.arStates p k hp hk 0, hc.2.1.oM (by unfold mcl; rw [decide_eq_false (show ¬ 22 ≤ 4 + 3 * p by omega)]; rfl), hc.2.2⟩
    rcases (by omega : j = 0 ∨ j = 1 ∨ j = 2) with q | q | q <;> subst q
    · exact step 0 m (by decide) hw hr e71 hL
    · exact step 1 (up2 m 1 (3 * p + 0) 0) (by decide) hw hr e71 hL
    · exact step 2 (up2 (up2 m 1 (3 * p + 0) 0) 1 (3 * p + 1) 0) (by decide) hw hr e71 hL
  · exact hcnd_t (by decide +kernel) (hrt_i (hP w hw))
theorem Inv.zz {m : Mst} {T p : Nat} (h : Inv m T) : Inv (mZ m p) T := h
theorem op_finish (a : Int32) : OpV (fun z => h_X0_finish (idc 0 0) a z) (q_finish a) := by
  intro v m T b z x h hI hT
  show OpA (fun z => h_X0_finish (idc 0 0) a z) (q_finish a) v m T b z x
  have hb := h.vb
  obtain ⟨r1, r2⟩ := hI.c70 hT
  rcases ix3 a (n := nn m 70) (by omega) with ha | ⟨r, hr, rfl⟩
  · refine OpA.bad h hI 1 (by decide) ?_ fun P X hP => ?_
    · unfold q_finish
      rw [qbd_e (q_Rec_f r1 (by omega) ha)]
      refine qbd_t (r := (0 : Int32)) (m' := m) rfl ?_
      refine qbd_t (r := (0 : Int32)) (m' := m) ?_ ?_
      · rfl
      · refine qbd_t (r := (0 : Int32)) (m' := m) rfl ?_
        rfl
    · show h_X0_finish (idc 0 0) a z P X v
      unfold h_X0_finish
      refine hisK_i (htry_i ?_)
      unfold h_X1_finish
      exact hgR_e h.1.1.s8 (hbnd_i (c_at_f (h.1.1.lt13 (by decide)) h.1.1.hL7.1 ha (by omega) (hx_1 (hrt_i hP))))
  have cr : ∀ (kk : Nat → PV Int32) (P : Int32 → Vw → Prop) (X : String → Vw → Prop), kk (idc 12 r) P X v → (hgR 0 0 8 fun v1 => hbnd (ρ := Int32) (h_X1_at v1 (nI r)) kk) P X v := fun kk P X hk => hgR_e h.1.1.s8 (hbnd_i (c_at (h.1.1.lt13 (by decide)) h.1.1.hL7.1 (by omega) hr (h.1.1.hL7.2 r hr) hk))
  obtain ⟨p, y, bb, p1, p2, y1, y2, n0, n3, bb1, bb2, bb3, r20⟩ := rec_facts h.1 hI hr
  by_cases C : rdy m r p (nI y)
  · obtain ⟨q1, q2, q3, q4⟩ := C
    have hm73 : up2 (up2 m 82 0 0) 73 r 0 71 r = nI p := p2
    have hI1 : Inv (up2 (up2 m 82 0 0) 73 r 0) T := by
      obtain ⟨i1, i2, i3, b5, b6, b7, b8, b35, b51, b64, b66, b69, b73, rest⟩ := hI.m82 0
      refine ⟨i1, i2, i3, b5, b6, b7, b8, b35, b51, b64, b66, b69, ?_, rest⟩
      show iBo (up2 (up2 m 82 0 0) 73 r 0 73)
      rw [up2_r]
      exact b73.up r (Or.inl rfl)
    have hc1 : CC (uM v 12 r 2 0) (up2 (up2 m 82 0 0) 73 r 0) m (z + 1, x) (b + 40000) T := ⟨(h.1.1.m82 0).isOpen r 0, h.1.2.1.oM rfl, h.1.2.2⟩
    have g82 : up2 (up2 m 82 0 0) 73 r 0 82 0 = 0 := rfl
    have n70 : nn (up2 (up2 m 82 0 0) 73 r 0) 70 = nn m 70 := rfl
    have g71 : up2 m 82 0 0 71 r = nI p := p2
    have hmay : q_mayBoth 1 1 m = some (1, up2 m 82 0 0) := q_both_0 one_ne one_ne
    have hz : qz 73 20 (nI r) 0 (qbd (q_endAllOf (nI p)) (fun v30 => qbd (qlp (σ := Int32) (zF (nI p)) (0 : Int32)) (fun _ => qbd (q_ready (nI p) (0 : Int32)) (fun _ => qbd (q_write (6 : Int32) (nI r)) (fun _ => qrt v30))))) (up2 m 82 0 0) = (qbd (q_endAllOf (nI p)) (fun v30 => qbd (qlp (σ := Int32) (zF (nI p)) (0 : Int32)) (fun _ => qbd (q_ready (nI p) (0 : Int32)) (fun _ => qbd (q_write (6 : Int32) (nI r)) (fun _ => qrt v30))))) (up2 (up2 m 82 0 0) 73 r 0) := qz_e rfl r20 (by decide) (Or.inl rfl)
    have hqq : q_finish (nI r) m = (qbd (q_endAllOf (nI p)) (fun v30 => qbd (qlp (σ := Int32) (zF (nI p)) (0 : Int32)) (fun _ => qbd (q_ready (nI p) (0 : Int32)) (fun _ => qbd (q_write (6 : Int32) (nI r)) (fun _ => qrt v30))))) (up2 (up2 m 82 0 0) 73 r 0) := by
      unfold q_finish
      rw [qbd_e (q_Rec_t r1 (by omega) hr)]
      refine qbd_t (r := (1 : Int32)) (m' := m) ?_ ?_
      · show qc ((1 : Int32) = 0) _ _ _ = _
        rw [qc_f one_ne, qa_e rfl r20 (by decide), qc_f q1, qI_d, qa_e rfl r20 (by decide), qc_f q2, qa_e rfl r20 (by decide), y2, qbd_e (q_many_eq y1), qc_f q3]
        rfl
      · refine qbd_t (q_needed r20 p1 p2) ?_
        refine qbd_t (r := (1 : Int32)) (m' := m) ?_ ?_
        · show qc ((1 : Int32) = 0) _ _ _ = _
          rw [qc_f one_ne, qa_e rfl r20 (by decide), qc_f q4]
          rfl
        · refine qbd_t hmay ?_
          rw [qc_f one_ne, qa_e rfl r20 (by decide), g71]
          exact hz
    generalize up2 (up2 m 82 0 0) 73 r 0 = m1 at hm73 hI1 hc1 g82 n70 hqq
    have he := hI1.ei hT
    have h31 : ∀ s, s < nn m1 30 → ix (m1 31 s) 6 := fun s hs => (hI1.pSe s hs).1
    have hI2 := hI1.ea (p := p) hT (nn m1 30) (Nat.le_refl _)
    have a82 : (mEA m1 p (nn m1 30)).1 82 0 = 0 := by rw [mEA_o (by decide) (by decide) (by decide)]; exact g82
    have a70 : nn (mEA m1 p (nn m1 30)).1 70 = nn m 70 := by rw [mEA_n (by decide) (by decide) (by decide)]; exact n70
    have a71 : (mEA m1 p (nn m1 30)).1 71 r = nI p := by rw [mEA_o (by decide) (by decide) (by decide)]; exact hm73
    have hqe := q_endAll_eq (p := p) he
    have hce := fun (w : Vw) (hw : CC w m1 m (z + 1, x) (b + 40000) T) (P : Int32 → Vw → Prop) (X : String → Vw → Prop) => c_endAll (P := P) (X := X) hw he h31 p1
    generalize mEA m1 p (nn m1 30) = R at hI2 a82 a70 a71 hqe hce
    have hI3 : Inv (mRd (mZ R.1 p) p 0) (T + 1) := (hI2.zz.rd).up
    have hw3 : wOK (mRd (mZ R.1 p) p 0) := hI3.w24 (by omega)
    have hle : nn (mRd (mZ R.1 p) p 0) 77 + 1 + pt (mRd (mZ R.1 p) p 0) ≤ 4 * (T + 1) := by
      have := hI2.pPt
      show nn R.1 77 + 1 + pt R.1 ≤ _
      omega
    refine OpA.ok (r := nI R.2) (m1 := mW (mRd (mZ R.1 p) p 0) 6 (nI r)) ?_ (hI3.wr (by omega) ⟨6, by decide, by decide +kernel⟩ ⟨r, by omega, rfl⟩ hle) (by rw [mW_o (by decide), mRd_o (by decide)]; exact a82) fun P X hP => ?_
    · rw [hqq, qbd_e hqe, qbd_e (q_zero p1)]
      refine qbd_t (q_ready_eq (k := 0) p1 (by decide)) ?_
      rw [qbd_e (q_write_eq hw3)]
      rfl
    · show h_X0_finish (idc 0 0) (nI r) z P X v
      unfold h_X0_finish
      refine hisK_i (htry_i ?_)
      unfold h_X1_finish
      refine cr _ _ _ (hisK_i (hbn0_i (c_isReady h.1 hr p1 n0 n3 bb2 bb3 (fun t => absurd ⟨q1, q2, q3, q4⟩ t) fun _ => hbnd_i (c_can_t one_ne (hbn0_i ?_)))))
      unfold h_X13_finish
      refine hpZ_i (Or.inl rfl) (hgR_e (h.1.1.hT12 r hr) (hgR_e n0 (hisK_i (hbn0_i ?_))))
      refine hce _ hc1 _ _ fun v2 h2 => hbnd_i (c_zero h2 (by omega) p1 a71 fun v3 h3 => ?_)
      have n0' : vN v3 12 r 0 = idc 2 p := by
        have := h3.1.hRr r (show r < nn R.1 70 by omega)
        rw [show mZ R.1 p 71 r = nI p from a71, rf_ix (by omega)] at this
        exact this
      refine hgR_e n0' (hisK_i (hbn0_i ?_))
      rw [show (0 : Int32) = nI 0 from nI_0.symm]
      refine c_enrollP h3 p1 (by decide) fun v4 h4 => hrt_i (hbn0_i ?_)
      have h4' : CC v4 (mRd (mZ R.1 p) p 0) m (z + 1, x) (b + 39000 + 260) T := h4.less (by omega) (Nat.le_refl _)
      exact c_write (k := (6 : Int32)) (n := nI r) h4' hw3 ⟨6, by decide, by decide +kernel⟩ ⟨r, by omega, rfl⟩ fun v5 h5 => hrt_i (hP v5 39000 T (by omega) h5)
  · refine OpA.bad h hI 2 (by decide) ?_ fun P X hP => ?_
    · unfold q_finish
      rw [qbd_e (q_Rec_t r1 (by omega) hr)]
      refine qbd_t (r := if m 73 r ≠ 0 ∧ ¬ m 0 0 - m 72 r < 60 ∧ ¬ crd (pbits (nI y)) < 2 then (1 : Int32) else 0) (m' := m) ?_ ?_
      · show qc ((1 : Int32) = 0) _ _ _ = _
        rw [qc_f one_ne, qa_e rfl r20 (by decide)]
        by_cases q1 : m 73 r = 0
        · rw [qc_t q1, if_neg (fun t => t.1 q1)]; rfl
        · rw [qc_f q1, qI_d, qa_e rfl r20 (by decide)]
          by_cases q2 : m 0 0 - m 72 r < 60
          · rw [qc_t q2, if_neg (fun t => t.2.1 q2)]; rfl
          · rw [qc_f q2, qa_e rfl r20 (by decide), y2, qbd_e (q_many_eq y1)]
            by_cases q3 : crd (pbits (nI y)) < 2
            · rw [qc_t q3, if_neg (fun t => t.2.2 q3)]; rfl
            · rw [qc_f q3, if_pos ⟨q1, q2, q3⟩]; rfl
      · refine qbd_t (q_needed r20 p1 p2) ?_
        refine qbd_t (r := (0 : Int32)) (m' := m) ?_ ?_
        · by_cases q : m 73 r ≠ 0 ∧ ¬ m 0 0 - m 72 r < 60 ∧ ¬ crd (pbits (nI y)) < 2
          · rw [if_pos q]
            show qc ((1 : Int32) = 0) _ _ _ = _
            rw [qc_f one_ne, qa_e rfl r20 (by decide), qc_t (Classical.byContradiction fun t => C ⟨q.1, q.2.1, q.2.2, t⟩)]
            rfl
          · rw [if_neg q]; rfl
        · refine qbd_t (q_both_2 one_ne) ?_
          rfl
    · show h_X0_finish (idc 0 0) (nI r) z P X v
      unfold h_X0_finish
      refine hisK_i (htry_i ?_)
      unfold h_X1_finish
      exact cr _ _ _ (hisK_i (hbn0_i (c_isReady h.1 hr p1 n0 n3 bb2 bb3 (fun _ => hbnd_i (c_can_f (by omega) (hx_s (by decide) (hx_1 (hrt_i hP))))) fun t => absurd t C)))
