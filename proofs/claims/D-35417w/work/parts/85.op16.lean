/-! ===== operations (16): stop, vouch, recover ===== -/
def mnk (x : Int32) : Nat → Int32
  | 0 => 0
  | j + 1 => mnk x j + ((x >>> (nI j &&& 31)) &&& (1 : Int32))
def pbits (y : Int32) (k : Nat) : Bool := decide (k < 6) && bt1 y k
theorem mnk_crd : ∀ y : Fin 64, mnk (nI y.1) 6 = crd (pbits (nI y.1)) := by decide +kernel
theorem q_many_eq {m : Mst} {y : Nat} (hy : y < 64) : q_many (nI y) m = some (crd (pbits (nI y)), m) := by
  rw [← mnk_crd ⟨y, hy⟩]
  unfold q_many
  refine q_loop (N := 6) (s := fun j => (mnk (nI y) j, nI j)) (w := fun _ => m) (congrArg (Prod.mk _) nI_0.symm) (fun j hj L => ?_) (fun L => ?_) (by decide)
  · show qc ((6 : Int32) ≤ nI j) _ _ _ = _
    rw [qc_f (by rw [show (6 : Int32) = nI 6 from by decide +kernel]; exact nI_ge hj (by decide))]
    show L (mnk (nI y) (j + 1), nI j + 1) m = L (mnk (nI y) (j + 1), nI (j + 1)) m
    rw [nI_1]
  · show qc ((6 : Int32) ≤ nI 6) _ _ _ = _
    rw [qc_t (by decide +kernel)]
    rfl
theorem q_Rec_t {m : Mst} {k n : Nat} (h : m 70 0 = nI n) (hn : n < 2 ^ 30) (hk : k < n) : q_isRecovery (nI k) m = some (1, m) := by
  show qbd (q_isIn (nI k) 0 (m 70 0 - 1)) _ m = _
  rw [qbd_e (q_up_t h hn hk)]; rfl
theorem q_Rec_f {m : Mst} {a : Int32} {n : Nat} (h : m 70 0 = nI n) (hn : n < 2 ^ 30) (ha : a < 0 ∨ nI n ≤ a) : q_isRecovery a m = some (0, m) := by
  show qbd (q_isIn a 0 (m 70 0 - 1)) _ m = _
  rw [qbd_e (q_up_f h hn ha)]; rfl
theorem q_speaks_eq {m : Mst} {s : Nat} (hs : s < 60) : q_speaks (nI s) m = some (if m 35 s ≠ 0 ∧ m 34 s = -1 then 1 else 0, m) := by
  unfold q_speaks
  rw [qa_e rfl hs (by decide)]
  by_cases q1 : m 35 s = 0
  · rw [qc_t q1, if_neg (fun t => t.1 q1)]; rfl
  · rw [qc_f q1, qa_e rfl hs (by decide)]
    by_cases q2 : m 34 s = -1
    · rw [qc_t q2, if_pos ⟨q1, q2⟩]; rfl
    · rw [qc_f q2, if_neg (fun t => q2 t.2)]; rfl
theorem rec_facts {v : Vw} {m m0 : Mst} {o : Nat × Int64} {b T T' r : Nat} (h : CC v m m0 o b T') (hI : Inv m T) (hr : r < nn m 70) : ∃ p y bb, p < 6 ∧ m 71 r = nI p ∧ y < 64 ∧ m 74 r = nI y ∧ vN v 12 r 0 = idc 2 p ∧ vN v 12 r 3 = idc 14 bb ∧ 21 ≤ bb ∧ bb < vK v 14 ∧ (∀ k, vB v bb k = pbits (nI y) k) ∧ r < 20 := by
  obtain ⟨⟨p, p1, p2⟩, ⟨y, y1, y2⟩, r20⟩ := hI.pRe r hr
  obtain ⟨a1, a2, a3, a4⟩ := h.1.hPp r hr
  have a1 : vN v 12 r 3 = idc 14 (vN v 12 r 3 / 64) := a1
  refine ⟨p, y, vN v 12 r 3 / 64, p1, p2, y1, y2, ?_, a1, a2, a3, fun k => ?_, r20⟩
  · have := h.1.hRr r hr
    rw [p2, rf_ix (by omega)] at this
    exact this
  · have := a4 k
    rw [y2] at this
    exact this
theorem ses_facts {v : Vw} {m m0 : Mst} {o : Nat × Int64} {b T T' s : Nat} (h : CC v m m0 o b T') (hI : Inv m T) (hs : s < nn m 30) (hS : nn m 30 ≤ 60) : ∃ ps, ps < 6 ∧ m 31 s = nI ps ∧ vN v 8 s 1 = idc 2 ps ∧ vN v 8 s 2 = rf 8 (m 34 s) ∧ (rf 8 (m 34 s) = nul ↔ m 34 s = -1) := by
  obtain ⟨⟨ps, hps, eps⟩, how⟩ := hI.pSe s hs
  refine ⟨ps, hps, eps, ?_, h.1.hR82 s hs, ?_⟩
  · have := h.1.hR81 s hs
    rw [eps, rf_ix (by omega)] at this
    exact this
  · rcases how with r | ⟨o, o1, o2, _⟩
    · rw [r]; exact ⟨fun _ => rfl, fun _ => rf_m1⟩
    · rw [o2, rf_ix (by omega)]
      exact ⟨fun r => by unfold idc nul at r; omega, fun r => absurd r (nI_nm (by omega))⟩
theorem idc2_eq {a b : Nat} : idc 2 a = idc 2 b ↔ a = b := by unfold idc; omega
theorem c_isBy {v : Vw} {m m0 : Mst} {o : Nat × Int64} {b T r s p ps : Nat} (h : CC v m m0 o b T) (hs : s < nn m 30) (n0 : vN v 12 r 0 = idc 2 p) (n1 : vN v 8 s 1 = idc 2 ps) (n2 : vN v 8 s 2 = rf 8 (m 34 s)) (n3 : rf 8 (m 34 s) = nul ↔ m 34 s = -1) {P : Int32 → Vw → Prop} {X : String → Vw → Prop} (hP : P (if m 35 s ≠ 0 ∧ m 34 s = -1 ∧ ps = p then 1 else 0) v) : h_X13_isBy r (idc 8 s) P X v := by
  unfold h_X13_isBy
  refine hisK_i (hgI_e (h.1.f 8 5 35 (by decide) hs) (hcnd_i (fun q1 => hasr_i (Or.inl rfl) (hrt_i ?_)) fun q1 => hgR_e n2 (hcnd_i (fun q2 => hgR_e n1 (hgR_e n0 (hasr_i ⟨cmp_idc (by decide), cmp_idc (by decide)⟩ (hcnd_i (fun q3 => hasr_i (Or.inr rfl) (hrt_i ?_)) fun q3 => hasr_i (Or.inl rfl) (hrt_i ?_))))) fun q2 => hasr_i (Or.inl rfl) (hrt_i ?_))))
  · rw [if_neg (fun t => t.1 q1)] at hP; exact hP
  · rw [if_pos ⟨q1, n3.mp q2, idc2_eq.mp q3⟩] at hP; exact hP
  · rw [if_neg (fun t => q3 (idc2_eq.mpr t.2.2))] at hP; exact hP
  · rw [if_neg (fun t => q2 (n3.mpr t.2.1))] at hP; exact hP
theorem c_manyP {v : Vw} {r bb : Nat} {y : Int32} (n3 : vN v 12 r 3 = idc 14 bb) (hb : bb < vK v 14) (hB : ∀ k, vB v bb k = pbits y k) {P : Int32 → Vw → Prop} {X : String → Vw → Prop} (hP : P (crd (pbits y)) v) : h_X13_many r P X v := by
  unfold h_X13_many
  refine hgR_e n3 (hisK_i (hbn0_i ⟨⟨hb, fun k hk => ?_⟩, hrt_i ?_⟩))
  · rw [hB]; unfold pbits; rw [decide_eq_false (by omega)]; rfl
  · have e : crd (vB v bb) = crd (pbits y) := crd_cg fun k _ => hB k
    show P (crd (vB v bb)) v
    rw [e]; exact hP
theorem op_stop (a c : Int32) : OpV (fun z => h_X0_stop (idc 0 0) a c z) (q_stop a c) := by
  intro v m T b z x h hI hT
  show OpA (fun z => h_X0_stop (idc 0 0) a c z) (q_stop a c) v m T b z x
  have hb := h.vb
  obtain ⟨r1, r2⟩ := hI.c70 hT
  obtain ⟨s1, s2⟩ := hI.c30 hT
  rcases ix3 a (n := nn m 70) (by omega) with ha | ⟨r, hr, rfl⟩
  · refine OpA.bad h hI 1 (by decide) ?_ fun P X hP => ?_
    · unfold q_stop
      rw [qbd_e (q_Rec_f r1 (by omega) ha), qbd_e qJ_0]; rfl
    · show h_X0_stop (idc 0 0) a c z P X v
      unfold h_X0_stop
      refine hisK_i (htry_i ?_)
      unfold h_X1_stop
      exact hgR_e h.1.1.s8 (hbnd_i (c_at_f (h.1.1.lt13 (by decide)) h.1.1.hL7.1 ha (by omega) (hx_1 (hrt_i hP))))
  have cr : ∀ (kk : Nat → PV Int32) (P : Int32 → Vw → Prop) (X : String → Vw → Prop), kk (idc 12 r) P X v → (hgR 0 0 8 fun v1 => hbnd (ρ := Int32) (h_X1_at v1 (nI r)) kk) P X v := fun kk P X hk => hgR_e h.1.1.s8 (hbnd_i (c_at (h.1.1.lt13 (by decide)) h.1.1.hL7.1 (by omega) hr (h.1.1.hL7.2 r hr) hk))
  rcases ix3 c (n := nn m 30) (by omega) with hc | ⟨s, hs, rfl⟩
  · refine OpA.bad h hI 1 (by decide) ?_ fun P X hP => ?_
    · unfold q_stop
      rw [qbd_e (q_Rec_t r1 (by omega) hr), qbd_e (qJ_2 one_ne (q_Session_f s1 (by omega) hc))]; rfl
    · show h_X0_stop (idc 0 0) (nI r) c z P X v
      unfold h_X0_stop
      refine hisK_i (htry_i ?_)
      unfold h_X1_stop
      exact cr _ _ _ (hisK_i (hgR_e h.1.1.s4 (hbnd_i (c_at_f (h.1.1.lt13 (by decide)) h.1.1.hL3.1 hc (by omega) (hx_1 (hrt_i hP))))))
  have cs : ∀ (kk : Nat → PV Int32) (P : Int32 → Vw → Prop) (X : String → Vw → Prop), kk (idc 8 s) P X v → (hgR 0 0 4 fun v1 => hbnd (ρ := Int32) (h_X1_at v1 (nI s)) kk) P X v := fun kk P X hk => hgR_e h.1.1.s4 (hbnd_i (c_at (h.1.1.lt13 (by decide)) h.1.1.hL3.1 (by omega) hs (h.1.1.hL3.2 s hs) hk))
  obtain ⟨p, y, bb, p1, p2, y1, y2, n0, n3, bb1, bb2, bb3, r20⟩ := rec_facts h.1 hI hr
  obtain ⟨ps, hps, eps, m1, m2, m3⟩ := ses_facts h.1 hI hs (by omega)
  have f73 : vM v 12 r 2 = m 73 r := h.1.1.f 12 2 73 (by decide) hr
  by_cases C : m 73 r ≠ 0 ∧ m 35 s ≠ 0 ∧ m 34 s = -1 ∧ ps = p
  · refine OpA.ok (r := crd (pbits (nI y))) (m1 := up2 (up2 m 82 0 0) 73 r 0) ?_ ?_ rfl fun P X hP => ?_
    · unfold q_stop
      rw [qbd_e (q_Rec_t r1 (by omega) hr), qbd_e (qJ_1 one_ne (q_Session_t s1 (by omega) hs))]
      refine qbd_t (r := (1 : Int32)) (m' := m) ?_ ?_
      · show qc ((1 : Int32) = 0) _ _ _ = _
        rw [qc_f one_ne, qa_e rfl (by omega) (by decide), qc_f C.1, qbd_e (q_speaks_eq (by omega)), if_pos ⟨C.2.1, C.2.2.1⟩, qc_f one_ne, qa_e rfl (by omega) (by decide), qa_e rfl (by omega) (by decide), qc_t (by rw [eps, p2, C.2.2.2])]
        rfl
      · refine qbd_t (q_both_0 one_ne one_ne) ?_
        rw [qc_f one_ne, qz_e rfl (by omega) (by decide) (Or.inl rfl), qa_e rfl (by omega) (by decide)]
        have e74 : up2 (up2 m 82 0 0) 73 r 0 74 r = nI y := y2
        rw [e74, qbd_e (q_many_eq y1)]
        rfl
    · have hI2 := (hI.m82 0).up
      obtain ⟨i1, i2, i3, b5, b6, b7, b8, b35, b51, b64, b66, b69, b73, rest⟩ := hI2
      refine ⟨i1, i2, i3, b5, b6, b7, b8, b35, b51, b64, b66, b69, ?_, rest⟩
      show iBo (up2 (up2 m 82 0 0) 73 r 0 73)
      rw [up2_r]
      exact b73.up r (Or.inl rfl)
    · show h_X0_stop (idc 0 0) (nI r) (nI s) z P X v
      unfold h_X0_stop
      refine hisK_i (htry_i ?_)
      unfold h_X1_stop
      refine cr _ _ _ (hisK_i (cs _ _ _ (hisK_i (hgI_e f73 (hbnd_i (hjo_i (hcnd_f C.1 (hbn0_i (c_isBy h.1 hs n0 m1 m2 m3 ?_)))))))))
      rw [if_pos ⟨C.2.1, C.2.2.1, C.2.2.2⟩]
      refine hcnd_f one_ne (hrt_i (hbnd_i (c_can_t one_ne (hpZ_i (Or.inl rfl) (hbn0_i ?_)))))
      have h2 : CC (uM v 12 r 2 0) (up2 (up2 m 82 0 0) 73 r 0) m (z + 1, x) (b + 40000) T := ⟨(h.1.1.m82 0).isOpen r 0, h.1.2.1.oM rfl, h.1.2.2⟩
      exact c_manyP (v := uM v 12 r 2 0) n3 bb2 bb3 (hrt_i (hP _ 40000 T (by omega) h2))
  · refine OpA.bad h hI 2 (by decide) ?_ fun P X hP => ?_
    · unfold q_stop
      rw [qbd_e (q_Rec_t r1 (by omega) hr), qbd_e (qJ_1 one_ne (q_Session_t s1 (by omega) hs))]
      refine qbd_t (r := (0 : Int32)) (m' := m) ?_ ?_
      · show qc ((1 : Int32) = 0) _ _ _ = _
        rw [qc_f one_ne, qa_e rfl (by omega) (by decide)]
        by_cases q1 : m 73 r = 0
        · rw [qc_t q1]; rfl
        · rw [qc_f q1, qbd_e (q_speaks_eq (by omega))]
          by_cases q2 : m 35 s ≠ 0 ∧ m 34 s = -1
          · rw [if_pos q2, qc_f one_ne, qa_e rfl (by omega) (by decide), qa_e rfl (by omega) (by decide), qc_f (fun t => C ⟨q1, q2.1, q2.2, (nI_eq (by omega) (by omega)).mp (eps.symm.trans (t.trans p2))⟩)]
            rfl
          · rw [if_neg q2, qc_t rfl]; rfl
      · refine qbd_t (q_both_2 one_ne) ?_
        rfl
    · show h_X0_stop (idc 0 0) (nI r) (nI s) z P X v
      unfold h_X0_stop
      refine hisK_i (htry_i ?_)
      unfold h_X1_stop
      have bad : (hbnd (h_X1_can 0) (fun _ => hpZ 12 r 2 (0 : Int32) <| hbn0 (h_X13_many r) (fun v12 => hrt v12))) (fun r v' => (hbJ z r.toInt64 <| hrt (0 : Int32)) P X v') (fun E v' => (hhsel [("java/lang/IndexOutOfBoundsException", hrt (1 : Int32)), ("java/lang/IllegalStateException", hrt (2 : Int32))] E : PV Int32) P X v') v := hbnd_i (c_can_f (by omega) (hx_s (by decide) (hx_1 (hrt_i hP))))
      refine cr _ _ _ (hisK_i (cs _ _ _ (hisK_i (hgI_e f73 (hbnd_i (hjo_i (hcnd_i (fun q1 => hrt_i bad) fun q1 => hbn0_i (c_isBy h.1 hs n0 m1 m2 m3 ?_))))))))
      rw [if_neg (fun t => C ⟨q1, t.1, t.2.1, t.2.2⟩)]
      exact hcnd_t rfl (hrt_i bad)
theorem bt_or6 : ∀ y : Fin 64, ∀ p : Fin 6, (∃ z : Fin 64, nI y.1 ||| ((1 : Int32) <<< (nI p.1 &&& 31)) = nI z.1) ∧ ∀ k : Fin 6, bt1 (nI y.1 ||| ((1 : Int32) <<< (nI p.1 &&& 31))) k.1 = (bt1 (nI y.1) k.1 || decide (k.1 = p.1)) := by decide +kernel
theorem bt1_iff {x : Int32} {k : Nat} : ((x >>> (nI k &&& 31)) &&& (1 : Int32)) = 0 ↔ bt1 x k = false := by
  have e : ∀ w : Int32, (w &&& (1 : Int32)) = 0 ∨ (w &&& (1 : Int32)) = 1 := fun w => by
    obtain ⟨j, j1, j2⟩ := pk_andE w (m := 1) 1 (by decide)
    rw [j2]
    rcases (by omega : j = 0 ∨ j = 1) with r | r <;> subst r
    · exact Or.inl nI_0
    · exact Or.inr (by decide +kernel)
  unfold bt1
  rcases e (x >>> (nI k &&& 31)) with r | r
  · rw [r]; exact ⟨fun _ => rfl, fun _ => rfl⟩
  · rw [r]; exact ⟨fun q => absurd q (by decide), fun q => absurd q (by decide)⟩
theorem c_isVouchedBy {v : Vw} {m m0 : Mst} {o : Nat × Int64} {b T r s p ps bb : Nat} {y : Int32} (h : CC v m m0 o b T) (hs : s < nn m 30) (hps : ps < 6) (n0 : vN v 12 r 0 = idc 2 p) (n3 : vN v 12 r 3 = idc 14 bb) (hbb : bb < vK v 14) (hB : ∀ k, vB v bb k = pbits y k) (n1 : vN v 8 s 1 = idc 2 ps) (n2 : vN v 8 s 2 = rf 8 (m 34 s)) (n4 : rf 8 (m 34 s) = nul ↔ m 34 s = -1) {P : Int32 → Vw → Prop} {X : String → Vw → Prop} (hP : P (if m 35 s ≠ 0 ∧ m 34 s = -1 ∧ ps ≠ p ∧ ¬ lv m s < 3 ∧ bt1 y ps = false then 1 else 0) v) : h_X13_isVouchedBy r (idc 8 s) P X v := by
  unfold h_X13_isVouchedBy
  have k0 : ∀ kk : Int32 → PV Int32, (kk = fun u4 => hcnd (u4 = 0) (hasr (((0 : Int32) = 0) ∨ ((0 : Int32) = 1)) (hrt (0 : Int32))) (hgR 12 r 3 fun v6 => hgR 8 s 1 fun v7 => hisK 2 v7 fun i8 => hgI 2 i8 0 fun v10 => hisK 14 v6 fun i11 => hbn0 (h_J18_get i11 v10) (fun v13 => hcnd (v13 = 0) (hasr (((1 : Int32) = 0) ∨ ((1 : Int32) = 1)) (hrt (1 : Int32))) (hasr (((0 : Int32) = 0) ∨ ((0 : Int32) = 1)) (hrt (0 : Int32)))))) → ¬ (m 35 s ≠ 0 ∧ m 34 s = -1 ∧ ps ≠ p ∧ ¬ lv m s < 3) → kk 0 P X v := fun kk hk q => by
    rw [if_neg (fun t => q ⟨t.1, t.2.1, t.2.2.1, t.2.2.2.1⟩)] at hP
    rw [hk]
    exact hcnd_t rfl (hasr_i (Or.inl rfl) (hrt_i hP))
  refine hisK_i (hgI_e (h.1.f 8 5 35 (by decide) hs) (hbnd_i (hjo_i (hcnd_i (fun q1 => hrt_i (k0 _ rfl fun t => t.1 q1)) fun q1 => hgR_e n2 (hcnd_i (fun q2 => hgR_e n1 (hgR_e n0 (hasr_i ⟨cmp_idc (by decide), cmp_idc (by decide)⟩ (hcnd_i (fun q3 => hrt_i (k0 _ rfl fun t => t.2.2.1 (idc2_eq.mp q3))) fun q3 => hbn0_i (c_level h hs (hcnd_i (fun q4 => hrt_i (k0 _ rfl fun t => t.2.2.2 q4)) fun q4 => hrt_i ?_)))))) fun q2 => hrt_i (k0 _ rfl fun t => q2 (n4.mpr t.2.1)))))))
  refine hcnd_f one_ne (hgR_e n3 (hgR_e n1 (hisK_i (hgI_e (x := nI ps) ((h.1.hPe ps hps).2.2.2.2.2.2.2.2) (hisK_i (hbn0_i ⟨ps, ⟨rfl, by omega, hbb⟩, ?_⟩))))))
  have e : vB v bb ps = bt1 y ps := by rw [hB]; unfold pbits; rw [decide_eq_true hps]; rfl
  rw [e]
  by_cases q5 : bt1 y ps = false
  · rw [if_pos ⟨q1, n4.mp q2, fun t => q3 (idc2_eq.mpr t), q4, q5⟩] at hP
    rw [q5]
    exact hcnd_t rfl (hasr_i (Or.inr rfl) (hrt_i hP))
  · rw [if_neg (fun t => q5 t.2.2.2.2)] at hP
    have q6 : bt1 y ps = true := by cases hq : bt1 y ps <;> first | rfl | exact absurd hq q5
    rw [q6]
    exact hcnd_f one_ne (hasr_i (Or.inl rfl) (hrt_i hP))
theorem op_vouch (a c : Int32) : OpV (fun z => h_X0_vouch (idc 0 0) a c z) (q_vouch a c) := by
  intro v m T b z x h hI hT
  show OpA (fun z => h_X0_vouch (idc 0 0) a c z) (q_vouch a c) v m T b z x
  have hb := h.vb
  obtain ⟨r1, r2⟩ := hI.c70 hT
  obtain ⟨s1, s2⟩ := hI.c30 hT
  rcases ix3 a (n := nn m 70) (by omega) with ha | ⟨r, hr, rfl⟩
  · refine OpA.bad h hI 1 (by decide) ?_ fun P X hP => ?_
    · unfold q_vouch
      rw [qbd_e (q_Rec_f r1 (by omega) ha), qbd_e qJ_0]; rfl
    · show h_X0_vouch (idc 0 0) a c z P X v
      unfold h_X0_vouch
      refine hisK_i (htry_i ?_)
      unfold h_X1_vouch
      exact hgR_e h.1.1.s8 (hbnd_i (c_at_f (h.1.1.lt13 (by decide)) h.1.1.hL7.1 ha (by omega) (hx_1 (hrt_i hP))))
  have cr : ∀ (kk : Nat → PV Int32) (P : Int32 → Vw → Prop) (X : String → Vw → Prop), kk (idc 12 r) P X v → (hgR 0 0 8 fun v1 => hbnd (ρ := Int32) (h_X1_at v1 (nI r)) kk) P X v := fun kk P X hk => hgR_e h.1.1.s8 (hbnd_i (c_at (h.1.1.lt13 (by decide)) h.1.1.hL7.1 (by omega) hr (h.1.1.hL7.2 r hr) hk))
  rcases ix3 c (n := nn m 30) (by omega) with hc | ⟨s, hs, rfl⟩
  · refine OpA.bad h hI 1 (by decide) ?_ fun P X hP => ?_
    · unfold q_vouch
      rw [qbd_e (q_Rec_t r1 (by omega) hr), qbd_e (qJ_2 one_ne (q_Session_f s1 (by omega) hc))]; rfl
    · show h_X0_vouch (idc 0 0) (nI r) c z P X v
      unfold h_X0_vouch
      refine hisK_i (htry_i ?_)
      unfold h_X1_vouch
      exact cr _ _ _ (hisK_i (hgR_e h.1.1.s4 (hbnd_i (c_at_f (h.1.1.lt13 (by decide)) h.1.1.hL3.1 hc (by omega) (hx_1 (hrt_i hP))))))
  have cs : ∀ (kk : Nat → PV Int32) (P : Int32 → Vw → Prop) (X : String → Vw → Prop), kk (idc 8 s) P X v → (hgR 0 0 4 fun v1 => hbnd (ρ := Int32) (h_X1_at v1 (nI s)) kk) P X v := fun kk P X hk => hgR_e h.1.1.s4 (hbnd_i (c_at (h.1.1.lt13 (by decide)) h.1.1.hL3.1 (by omega) hs (h.1.1.hL3.2 s hs) hk))
  obtain ⟨p, y, bb, p1, p2, y1, y2, n0, n3, bb1, bb2, bb3, r20⟩ := rec_facts h.1 hI hr
  obtain ⟨ps, hps, eps, m1, m2, m3⟩ := ses_facts h.1 hI hs (by omega)
  have f73 : vM v 12 r 2 = m 73 r := h.1.1.f 12 2 73 (by decide) hr
  by_cases C : m 73 r ≠ 0 ∧ m 35 s ≠ 0 ∧ m 34 s = -1 ∧ ps ≠ p ∧ ¬ lv m s < 3 ∧ bt1 (nI y) ps = false
  · obtain ⟨⟨⟨y3, y4⟩, hy3⟩, hbt⟩ := bt_or6 ⟨y, y1⟩ ⟨ps, hps⟩
    have hne : m 31 s ≠ m 71 r := fun t => C.2.2.2.1 ((nI_eq (by omega) (by omega)).mp (eps.symm.trans (t.trans p2)))
    refine OpA.ok (r := m 75 r + lv m s) (m1 := up2 (up2 (up2 m 82 0 0) 74 r (nI y3)) 75 r (m 75 r + lv m s)) ?_ ?_ rfl fun P X hP => ?_
    · unfold q_vouch
      rw [qbd_e (q_Rec_t r1 (by omega) hr), qbd_e (qJ_1 one_ne (q_Session_t s1 (by omega) hs))]
      refine qbd_t (r := (1 : Int32)) (m' := m) ?_ ?_
      · show qc ((1 : Int32) = 0) _ _ _ = _
        rw [qc_f one_ne, qa_e rfl (by omega) (by decide), qc_f C.1, qbd_e (q_speaks_eq (by omega)), if_pos ⟨C.2.1, C.2.2.1⟩, qc_f one_ne, qbd_e (q_levelNow_eq (by omega)), qc_f C.2.2.2.2.1, qa_e rfl (by omega) (by decide), qa_e rfl (by omega) (by decide), qc_f hne]
        rfl
      · refine qbd_t (r := (1 : Int32)) (m' := m) ?_ ?_
        · show qc ((1 : Int32) = 0) _ _ _ = _
          rw [qc_f one_ne, qa_e rfl (by omega) (by decide), qa_e rfl (by omega) (by decide), y2, eps, qc_t (bt1_iff.mpr C.2.2.2.2.2)]
          rfl
        · refine qbd_t (q_both_0 one_ne one_ne) ?_
          rw [qc_f one_ne, qa_e rfl (by omega) (by decide), qa_e rfl (by omega) (by decide), qw_e rfl (by omega) (by decide), qa_e rfl (by omega) (by decide), qbd_e (q_levelNow_eq (by omega)), qw_e rfl (by omega) (by decide), qa_e rfl (by omega) (by decide), up2_s]
          have e74 : up2 m 82 0 0 74 r ||| ((1 : Int32) <<< (up2 m 82 0 0 31 s &&& 31)) = nI y3 := by
            show m 74 r ||| ((1 : Int32) <<< (m 31 s &&& 31)) = nI y3
            rw [y2, eps]; exact hy3
          rw [e74]
          rfl
    · have hI2 := (hI.m82 0).up
      obtain ⟨i1, i2, i3, b5, b6, b7, b8, b35, b51, b64, b66, b69, b73, iK, iA, iS, iC, iFm, iz, iT, iR, iRz, rest⟩ := hI2
      refine ⟨i1, i2, i3, b5, b6, b7, b8, b35, b51, b64, b66, b69, b73, iK, iA, iS, iC, iFm, iz, iT, ?_, ?_, rest⟩
      · show iRe (nn m 70) (m 71) (up2 (up2 m 82 0 0) 74 r (nI y3) 74)
        rw [up2_r]
        intro r' hr'
        obtain ⟨j1, j2, j3⟩ := iR r' hr'
        refine ⟨j1, ?_, j3⟩
        by_cases q : r' = r
        · subst q; rw [up1_s]; exact ⟨y3, y4, rfl⟩
        · rw [up1_n q]; exact j2
      · show iR0 (nn m 70) (up2 (up2 m 82 0 0) 74 r (nI y3) 74) (up2 (up2 (up2 m 82 0 0) 74 r (nI y3)) 75 r (m 75 r + lv m s) 75)
        rw [up2_r, up2_r]
        intro r' hr'
        have hne' : r' ≠ r := by omega
        rw [up1_n hne', up1_n hne']
        exact iRz r' hr'
    · show h_X0_vouch (idc 0 0) (nI r) (nI s) z P X v
      unfold h_X0_vouch
      refine hisK_i (htry_i ?_)
      unfold h_X1_vouch
      refine cr _ _ _ (hisK_i (cs _ _ _ (hisK_i (hgI_e f73 (hbnd_i (hjo_i (hcnd_f C.1 (hbn0_i (c_isVouchedBy h.1 hs hps n0 n3 bb2 bb3 m1 m2 m3 ?_)))))))))
      rw [if_pos ⟨C.2.1, C.2.2.1, C.2.2.2.1, C.2.2.2.2.1, C.2.2.2.2.2⟩]
      refine hcnd_f one_ne (hrt_i (hbnd_i (c_can_t one_ne (hbn0_i ?_))))
      unfold h_X13_vouch
      refine hgR_e n3 (hisK_i (hgR_e m1 (hisK_i (hgI_e (x := nI ps) ((h.1.1.hPe ps hps).2.2.2.2.2.2.2.2) (hisK_i (hbn0_i ⟨ps, ⟨rfl, by omega, bb2, by omega⟩, ?_⟩))))))
      have h2 : CC (uBs v bb (up1 (vB v bb) ps true) 3) (up2 (up2 m 82 0 0) 74 r (nI y3)) m (z + 1, x) (b + 39000) T := ⟨((h.1.1.m82 0).less (b' := b + 39000 + 3) (by omega) (Nat.le_refl _)).people (y := nI y3) hr hps n3 (fun k hk => by
        have := hbt ⟨k, hk⟩
        rw [hy3] at this
        show bt1 (nI y3) k = (bt1 (m 74 r) k || decide (k = ps))
        rw [y2]; exact this), h.1.2.1, h.1.2.2⟩
      generalize uBs v bb (up1 (vB v bb) ps true) 3 = v2 at h2 ⊢
      refine hgI_e (h2.1.f 12 4 75 (by decide) hr) (hbn0_i (c_level h2 hs (hpI_i (hgI_e (x := m 75 r + lv m s) up3_s (hrt_i (hrt_i (hP _ 39000 T (by omega) ?_)))))))
      exact ⟨h2.1.levels r _, h2.2.1.oM rfl, h2.2.2⟩
  · refine OpA.bad h hI 2 (by decide) ?_ fun P X hP => ?_
    · unfold q_vouch
      rw [qbd_e (q_Rec_t r1 (by omega) hr), qbd_e (qJ_1 one_ne (q_Session_t s1 (by omega) hs))]
      refine qbd_t (r := if m 73 r ≠ 0 ∧ m 35 s ≠ 0 ∧ m 34 s = -1 ∧ ps ≠ p ∧ ¬ lv m s < 3 then (1 : Int32) else 0) (m' := m) ?_ ?_
      · show qc ((1 : Int32) = 0) _ _ _ = _
        rw [qc_f one_ne, qa_e rfl (by omega) (by decide)]
        by_cases q1 : m 73 r = 0
        · rw [qc_t q1, if_neg (fun t => t.1 q1)]; rfl
        · rw [qc_f q1, qbd_e (q_speaks_eq (by omega))]
          by_cases q2 : m 35 s ≠ 0 ∧ m 34 s = -1
          · rw [if_pos q2, qc_f one_ne, qbd_e (q_levelNow_eq (by omega))]
            by_cases q3 : lv m s < 3
            · rw [qc_t q3, if_neg (fun t => t.2.2.2.2 q3)]; rfl
            · rw [qc_f q3, qa_e rfl (by omega) (by decide), qa_e rfl (by omega) (by decide)]
              by_cases q4 : ps = p
              · rw [qc_t (by rw [eps, p2, q4]), if_neg (fun t => t.2.2.2.1 q4)]; rfl
              · rw [qc_f (fun t => q4 ((nI_eq (by omega) (by omega)).mp (eps.symm.trans (t.trans p2)))), if_pos ⟨q1, q2.1, q2.2, q4, q3⟩]; rfl
          · rw [if_neg q2, qc_t rfl, if_neg (fun t => q2 ⟨t.2.1, t.2.2.1⟩)]; rfl
      · refine qbd_t (r := (0 : Int32)) (m' := m) ?_ ?_
        · by_cases q : m 73 r ≠ 0 ∧ m 35 s ≠ 0 ∧ m 34 s = -1 ∧ ps ≠ p ∧ ¬ lv m s < 3
          · rw [if_pos q]
            show qc ((1 : Int32) = 0) _ _ _ = _
            rw [qc_f one_ne, qa_e rfl (by omega) (by decide), qa_e rfl (by omega) (by decide), y2, eps, qc_f (fun t => C ⟨q.1, q.2.1, q.2.2.1, q.2.2.2.1, q.2.2.2.2, bt1_iff.mp t⟩)]
            rfl
          · rw [if_neg q]; rfl
        · refine qbd_t (q_both_2 one_ne) ?_
          rfl
    · show h_X0_vouch (idc 0 0) (nI r) (nI s) z P X v
      unfold h_X0_vouch
      refine hisK_i (htry_i ?_)
      unfold h_X1_vouch
      have bad : (hbnd (h_X1_can 0) (fun _ => hbn0 (h_X13_vouch r (idc 8 s)) (fun v12 => hrt v12))) (fun r v' => (hbJ z r.toInt64 <| hrt (0 : Int32)) P X v') (fun E v' => (hhsel [("java/lang/IndexOutOfBoundsException", hrt (1 : Int32)), ("java/lang/IllegalStateException", hrt (2 : Int32))] E : PV Int32) P X v') v := hbnd_i (c_can_f (by omega) (hx_s (by decide) (hx_1 (hrt_i hP))))
      refine cr _ _ _ (hisK_i (cs _ _ _ (hisK_i (hgI_e f73 (hbnd_i (hjo_i (hcnd_i (fun q1 => hrt_i bad) fun q1 => hbn0_i (c_isVouchedBy h.1 hs hps n0 n3 bb2 bb3 m1 m2 m3 ?_))))))))
      rw [if_neg (fun t => C ⟨q1, t.1, t.2.1, t.2.2.1, t.2.2.2.1, t.2.2.2.2⟩)]
      exact hcnd_t rfl (hrt_i bad)
