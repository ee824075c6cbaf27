/-! ===== operations (15): withdraw ===== -/
theorem qbd_t {α ρ : Type} {p : PM α} {k : α → PM ρ} {m m' : Mst} {r : α} {out : Option (ρ × Mst)} (h : p m = some (r, m')) (h2 : k r m' = out) : qbd p k m = out := (qbd_e h).trans h2
def wdF (a1 a2 : Int32) : (Int32 × Int32 → PM Int32) → Int32 × Int32 → PM Int32 := (fun r10 => un2 fun u8 u9 => qI 46 fun v11 => qc (v11 ≤ u9) (qrt u8) (qa 51 60 u9 fun v16 => qbd (α := Int32) (qjo (σ := Unit) (fun _ => qrt (0 : Int32)) fun j25 => qc (v16 = 0) (j25 ()) (qa 47 60 u9 fun v32 => qa 40 60 v32 fun v35 => qa 31 60 v35 fun v38 => qc (v38 = a1) (qa 47 60 u9 fun v44 => qa 41 60 v44 fun v47 => qc (v47 = a2) (qrt (1 : Int32)) (j25 ())) (j25 ()))) (fun u17 => qbd (α := Int32) (qc (u17 = 0) (qrt (0 : Int32)) (qrt (1 : Int32))) (fun u18 => qc (u17 = 0) (r10 ((u8 + u18), (u9 + (1 : Int32)))) (qbd (q_endFamily u9) (fun _ => r10 ((u8 + u18), (u9 + (1 : Int32)))))))))
def cwdF (i3 : Nat) (a2 : Int32) : (Int32 × Int32 → PV Int32) → Int32 × Int32 → PV Int32 := (fun r10 => un2 fun u8 u9 => hgR 0 0 6 fun v11 => hisK 13 v11 fun i12 => hbn0 (h_J2_size i12) (fun v14 => hcnd (v14 ≤ u9) (hrt u8) (hgR 0 0 6 fun v16 => hisK 13 v16 fun i17 => hbn0 (h_J2_get i17 u9) (fun v19 => hisK 10 v19 fun i20 => hgR 10 i20 1 fun v22 => hisK 8 v22 fun i23 => hgR 8 i23 1 fun v25 => hjo (σ := Int32) (fun u26 => r10 ((u8 + (0 : Int32)), (u26 + (1 : Int32)))) fun j28 => hasr ((cmpN v25) ∧ (cmpN (idc 2 i3))) (hcnd (v25 = (idc 2 i3)) (hgI 10 i20 2 fun v30 => hcnd (v30 = a2) (hbn0 (h_X11_end i20) (fun v32 => hcnd (v32 = 0) (j28 u9) (r10 ((u8 + (1 : Int32)), (u9 + (1 : Int32)))))) (j28 u9)) (j28 u9))))))
/-- the good families of a person at a client end: how many, of the first j -/
def mWd (m : Mst) (p c : Nat) : Nat → Mst × Nat
  | 0 => (m, 0)
  | j + 1 => if (mWd m p c j).1 51 j ≠ 0 ∧ m 31 (fS m j).toNatClampNeg = nI p ∧ m 41 (m 47 j).toNatClampNeg = nI c then (mEF (mWd m p c j).1 j, (mWd m p c j).2 + 1) else mWd m p c j
theorem mWd_e {m : Mst} {p c j : Nat} : mWd m p c (j + 1) = if (mWd m p c j).1 51 j ≠ 0 ∧ m 31 (fS m j).toNatClampNeg = nI p ∧ m 41 (m 47 j).toNatClampNeg = nI c then (mEF (mWd m p c j).1 j, (mWd m p c j).2 + 1) else mWd m p c j := rfl
theorem mWd_o {m : Mst} {p c F : Nat} (h : F ≠ 77 ∧ F ≠ 78 ∧ F ≠ 79 ∧ F ≠ 80 ∧ F ≠ 81) (h2 : F ≠ 69 ∧ F ≠ 51) : ∀ j, (mWd m p c j).1 F = m F
  | 0 => rfl
  | j + 1 => by
    have ih := mWd_o (m := m) (p := p) (c := c) h h2 j
    rw [mWd_e]
    split
    · exact (mEF_o h h2).trans ih
    · exact ih
theorem mWd_n {m : Mst} {p c F : Nat} (h : F ≠ 77 ∧ F ≠ 78 ∧ F ≠ 79 ∧ F ≠ 80 ∧ F ≠ 81) (h2 : F ≠ 69 ∧ F ≠ 51) (j : Nat) : nn (mWd m p c j).1 F = nn m F := by
  unfold nn
  rw [mWd_o h h2]
theorem EI.wd {m : Mst} {p c : Nat} (h : EI m) : ∀ j, j ≤ nn m 46 → EI (mWd m p c j).1
  | 0, _ => h
  | j + 1, hj => by
    have ih := EI.wd (p := p) (c := c) h j (by omega)
    rw [mWd_e]
    split
    · rename_i q
      exact ih.ef (by rw [mWd_n (by decide) (by decide)]; omega) q.1
    · exact ih
theorem Inv.wd {m : Mst} {T p c : Nat} (h : Inv m T) (hT : T < 24) : ∀ j, j ≤ nn m 46 → Inv (mWd m p c j).1 T
  | 0, _ => h
  | j + 1, hj => by
    have ih := Inv.wd (p := p) (c := c) h hT j (by omega)
    rw [mWd_e]
    split
    · rename_i q
      exact ih.ef hT (by rw [mWd_n (by decide) (by decide)]; omega) q.1
    · exact ih
theorem fam_f {m : Mst} {f : Nat} (h : EI m) (hf : f < nn m 46) : ∃ c s, m 47 f = nI c ∧ c < 60 ∧ m 40 c = nI s ∧ s < nn m 30 ∧ (m 47 f).toNatClampNeg = c ∧ (fS m f).toNatClampNeg = s := by
  obtain ⟨c, s, e1, e2, e3, e4⟩ := h.2.2.2.2.2.1 f hf
  have hS := h.2.2.1.2
  refine ⟨c, s, e1, e2, e3, e4, by rw [e1, nI_clamp (by omega)], ?_⟩
  unfold fS
  rw [e1, nI_clamp (by omega), e3, nI_clamp (by omega)]
theorem q_wdLoop {m : Mst} {p c : Nat} (h : EI m) : qlp (σ := Int32 × Int32) (wdF (nI p) (nI c)) ((0 : Int32), (0 : Int32)) m = some (nI (mWd m p c (nn m 46)).2, (mWd m p c (nn m 46)).1) := by
  have hF60 := h.2.2.2.1.2
  have hS60 := h.2.2.1.2
  refine q_loop (N := nn m 46) (s := fun j => (nI (mWd m p c j).2, nI j)) (w := fun j => (mWd m p c j).1) (by show ((0 : Int32), (0 : Int32)) = (nI 0, nI 0); rw [nI_0]) (fun j hj L => ?_) (fun L => ?_) (by omega)
  · have hej := h.wd (p := p) (c := c) j (by omega)
    have n46 : nn (mWd m p c j).1 46 = nn m 46 := mWd_n (by decide) (by decide) j
    obtain ⟨cc, ss, e1, e2, e3, e4, e5, e6⟩ := fam_f h hj
    have x47 : (mWd m p c j).1 47 j = nI cc := by rw [mWd_o (by decide) (by decide)]; exact e1
    have x40 : (mWd m p c j).1 40 cc = nI ss := by rw [mWd_o (by decide) (by decide)]; exact e3
    have x31 : (mWd m p c j).1 31 ss = m 31 ss := by rw [mWd_o (by decide) (by decide)]
    have x41 : (mWd m p c j).1 41 cc = m 41 cc := by rw [mWd_o (by decide) (by decide)]
    show qc ((mWd m p c j).1 46 0 ≤ nI j) _ _ _ = L (nI (mWd m p c (j + 1)).2, nI (j + 1)) (mWd m p c (j + 1)).1
    rw [mWd_e, e6, e5]
    generalize mWd m p c j = r at hej n46 x47 x40 x31 x41 ⊢
    rw [qc_f (by rw [hej.2.2.2.1.1]; exact nI_ge (by omega) (by omega)), qa_e rfl (by omega) (by decide)]
    refine qbd_t (r := if r.1 51 j ≠ 0 ∧ m 31 ss = nI p ∧ m 41 cc = nI c then (1 : Int32) else 0) (m' := r.1) ?_ ?_
    · show qc (r.1 51 j = 0) _ _ _ = _
      by_cases q0 : r.1 51 j = 0
      · rw [qc_t q0, if_neg (fun t => t.1 q0)]; rfl
      · rw [qc_f q0, qa_e rfl (by omega) (by decide), qa_e x47 (by omega) (by decide), qa_e x40 (by omega) (by decide), x31]
        by_cases q1 : m 31 ss = nI p
        · rw [qc_t q1, qa_e rfl (by omega) (by decide), qa_e x47 (by omega) (by decide), x41]
          by_cases q2 : m 41 cc = nI c
          · rw [qc_t q2, if_pos ⟨q0, q1, q2⟩]; rfl
          · rw [qc_f q2, if_neg (fun t => q2 t.2.2)]; rfl
        · rw [qc_f q1, if_neg (fun t => q1 t.2.1)]; rfl
    · by_cases q : r.1 51 j ≠ 0 ∧ m 31 ss = nI p ∧ m 41 cc = nI c
      · rw [if_pos q, if_pos q]
        refine qbd_t (r := (1 : Int32)) (m' := r.1) rfl ?_
        show qc ((1 : Int32) = 0) _ _ _ = _
        rw [qc_f one_ne]
        refine qbd_t (q_endFamily_eq (by omega) q.1 hej.1 hej.2.2.2.2.1.1 hej.2.2.2.2.1.2) ?_
        show L (nI r.2 + 1, nI j + 1) _ = _
        rw [nI_1, nI_1]
      · rw [if_neg q, if_neg q]
        refine qbd_t (r := (0 : Int32)) (m' := r.1) rfl ?_
        show qc ((0 : Int32) = 0) _ _ _ = _
        rw [qc_t rfl]
        show L (nI r.2 + 0, nI j + 1) _ = _
        rw [nI_1, Int32.add_zero]
  · have n46 : nn (mWd m p c (nn m 46)).1 46 = nn m 46 := mWd_n (by decide) (by decide) _
    have hej := h.wd (p := p) (c := c) (nn m 46) (Nat.le_refl _)
    show qc ((mWd m p c (nn m 46)).1 46 0 ≤ nI (nn m 46)) _ _ _ = _
    rw [qc_t (by rw [hej.2.2.2.1.1, n46]; exact nI_le (Nat.le_refl _) (by omega))]
    rfl
theorem c_wdLoop {v : Vw} {m m0 : Mst} {o : Nat × Int64} {b T p c : Nat} (h : CC v m m0 o b T) (he : EI m) (h31 : ∀ s, s < nn m 30 → ix (m 31 s) 6) (hp : p < 6) {P : Int32 → Vw → Prop} {X : String → Vw → Prop} (hP : ∀ v', CC v' (mWd m p c (nn m 46)).1 m0 o b T → P (nI (mWd m p c (nn m 46)).2) v') : hlp (σ := Int32 × Int32) (cwdF p (nI c)) ((0 : Int32), (0 : Int32)) P X v := by
  have hF60 := he.2.2.2.1.2
  have hS60 := he.2.2.1.2
  refine h_loop (N := nn m 46) (s := fun j => (nI (mWd m p c j).2, nI j)) (fun j w => CC w (mWd m p c j).1 m0 o b T) (by show ((0 : Int32), (0 : Int32)) = (nI 0, nI 0); rw [nI_0]) (fun j w hj hw L hL => ?_) (fun w hw L => ?_) h
  · have hw : CC w (mWd m p c j).1 m0 o b T := hw
    have hL : ∀ w', CC w' (mWd m p c (j + 1)).1 m0 o b T → L (nI (mWd m p c (j + 1)).2, nI (j + 1)) P X w' := hL
    have hej := he.wd (p := p) (c := c) j (by omega)
    have n46 : nn (mWd m p c j).1 46 = nn m 46 := mWd_n (by decide) (by decide) j
    have n30 : nn (mWd m p c j).1 30 = nn m 30 := mWd_n (by decide) (by decide) j
    obtain ⟨cc, ss, e1, e2, e3, e4, e5, e6⟩ := fam_f he hj
    have x47 : (mWd m p c j).1 47 j = nI cc := by rw [mWd_o (by decide) (by decide)]; exact e1
    have x40 : (mWd m p c j).1 40 cc = nI ss := by rw [mWd_o (by decide) (by decide)]; exact e3
    have x31 : (mWd m p c j).1 31 ss = m 31 ss := by rw [mWd_o (by decide) (by decide)]
    have x41 : (mWd m p c j).1 41 cc = m 41 cc := by rw [mWd_o (by decide) (by decide)]
    rw [mWd_e, e6, e5] at hL
    obtain ⟨ps, hps, eps⟩ := h31 ss e4
    show cwdF p (nI c) L (nI (mWd m p c j).2, nI j) P X w
    generalize mWd m p c j = r at hej n46 n30 x47 x40 x31 x41 hw hL ⊢
    have hj' : j < nn r.1 46 := by omega
    have N1 : vN w 10 j 1 = idc 8 ss := by
      have := (hw.1.hFa j hj').1
      rw [x47, nI_clamp (by omega), x40, rf_ix (by omega)] at this
      exact this
    have N2 : vN w 8 ss 1 = rf 2 (m 31 ss) := by
      have := hw.1.hR81 ss (by omega)
      rw [x31] at this
      exact this
    have M2 : vM w 10 j 2 = m 41 cc := by
      have := (hw.1.hFa j hj').2.1
      rw [x47, nI_clamp (by omega), x41] at this
      exact this
    have k0 : ¬ (r.1 51 j ≠ 0 ∧ m 31 ss = nI p ∧ m 41 cc = nI c) → L (nI r.2 + 0, nI j + 1) P X w := fun q => by
      rw [if_neg q] at hL
      rw [nI_1, Int32.add_zero]
      exact hL w hw
    unfold cwdF
    refine hun2_i (hgR_e hw.1.s6 (hisK_i (hbn0_i (J2sz (hw.1.lt13 (by decide)) hw.1.hL5.1 (hcnd_f (nI_ge hj' (by omega)) (hgR_e hw.1.s6 (hisK_i (hbn0_i (J2get (hw.1.lt13 (by decide)) rfl (by omega) (by rw [hw.1.hL5.1]; omega) (hw.1.hL5.2 j hj') (hisK_i (hgR_e N1 (hisK_i (hgR_e N2 (hjo_i (hasr_i ⟨cmp_rf (by decide), cmp_idc (by decide)⟩ (hcnd_i (fun q1 => hgI_e M2 (hcnd_i (fun q2 => hbn0_i ?_) fun q2 => k0 fun t => q2 t.2.2)) fun q1 => k0 fun t => q1 ((rf_eq (by decide) (Or.inr ⟨ps, eps, by omega⟩) (by omega)).mpr t.2.1)))))))))))))))))
    have q1' := (rf_eq (by decide) (Or.inr ⟨ps, eps, by omega⟩) (by omega)).mp q1
    by_cases q0 : r.1 51 j = 0
    · exact c_endFam0 hw hj' q0 (hcnd_t rfl (k0 fun t => t.1 q0))
    · refine c_endFam hw hj' (by omega) q0 hej.1 (hej.2.2.2.2.2.2.1 j hj' q0) fun w' hw' => hcnd_f one_ne ?_
      rw [if_pos ⟨q0, q1', q2⟩] at hL
      rw [nI_1, nI_1]
      exact hL w' hw'
  · have hw : CC w (mWd m p c (nn m 46)).1 m0 o b T := hw
    have n46 : nn (mWd m p c (nn m 46)).1 46 = nn m 46 := mWd_n (by decide) (by decide) _
    show cwdF p (nI c) L (nI (mWd m p c (nn m 46)).2, nI (nn m 46)) P X w
    unfold cwdF
    exact hun2_i (hgR_e hw.1.s6 (hisK_i (hbn0_i (J2sz (hw.1.lt13 (by decide)) (hw.1.hL5.1.trans n46) (hcnd_t (nI_le (Nat.le_refl _) (by omega)) (hrt_i (hP w hw)))))))
theorem op_withdraw (a c : Int32) : OpV (fun z => h_X0_withdraw (idc 0 0) a c z) (q_withdraw a c) := by
  intro v m T b z x h hI hT
  show OpA (fun z => h_X0_withdraw (idc 0 0) a c z) (q_withdraw a c) v m T b z x
  have hb := h.vb
  rcases q_six_x a m with ⟨p, hp, rfl, e1⟩ | ⟨ha, e1⟩
  rotate_left
  · refine OpA.bad h hI 1 (by decide) ?_ fun P X hP => ?_
    · unfold q_withdraw
      rw [qbd_e e1, qbd_e qJ_0, qbd_e q_may_f]; rfl
    · show h_X0_withdraw (idc 0 0) a c z P X v
      unfold h_X0_withdraw
      refine hisK_i (htry_i ?_)
      unfold h_X1_withdraw
      exact hbnd_i (personAt_f ha (by omega) (hx_1 (hrt_i hP)))
  rcases q_service_x c m with ⟨s, hs, rfl, e2⟩ | ⟨hc, e2⟩
  rotate_left
  · refine OpA.bad h hI 1 (by decide) ?_ fun P X hP => ?_
    · unfold q_withdraw
      rw [qbd_e e1, qbd_e (qJ_2 one_ne e2), qbd_e q_may_f]; rfl
    · show h_X0_withdraw (idc 0 0) (nI p) c z P X v
      unfold h_X0_withdraw
      refine hisK_i (htry_i ?_)
      unfold h_X1_withdraw
      exact hbnd_i (c_personAt h.1 hp (hbnd_i (serviceAt_f hc (by omega) (hx_1 (hrt_i hP)))))
  have h1 := h.m82 0
  have hI1 := hI.m82 0
  have g82 : up2 m 82 0 0 82 0 = 0 := up2_s
  have hmay : q_may 1 m = some (1, up2 m 82 0 0) := q_may_t
  generalize hm1 : up2 m 82 0 0 = m1 at h1 hI1 g82 hmay
  have hI2 : Inv (up2 m1 37 (4 * p + s) 0) T := hI1
  have g82' : up2 m1 37 (4 * p + s) 0 82 0 = 0 := g82
  have h31 : ∀ s', s' < nn (up2 m1 37 (4 * p + s) 0) 30 → ix (up2 m1 37 (4 * p + s) 0 31 s') 6 := fun s' hs' => (hI2.2.2.2.2.2.2.2.2.2.2.2.2.2.2.2.1 s' hs').1
  have hc1 : CC (uM v 32 (6 + 3 * p) s 0) (up2 m1 37 (4 * p + s) 0) m (z + 1, x) (b + 40000) T := ⟨h1.1.1.arConsents p s hp hs 0, h1.1.2.1.oM (by unfold mcl; rw [decide_eq_false (show ¬ 22 ≤ 6 + 3 * p by omega)]; rfl), h1.1.2.2⟩
  have hq : q_withdraw (nI p) (nI s) m = qlp (σ := Int32 × Int32) (wdF (nI p) (nI s)) ((0 : Int32), (0 : Int32)) (up2 m1 37 (4 * p + s) 0) := by
    unfold q_withdraw
    rw [qbd_e e1, qbd_e (qJ_1 one_ne e2), qbd_e hmay, qc_f one_ne, qw_e ix4p (by omega) (by decide)]
    rfl
  generalize up2 m1 37 (4 * p + s) 0 = m2 at hI2 g82' h31 hc1 hq
  have he := hI2.ei hT
  refine OpA.ok (r := nI (mWd m2 p s (nn m2 46)).2) (m1 := (mWd m2 p s (nn m2 46)).1) (hq.trans (q_wdLoop he)) (hI2.wd hT _ (Nat.le_refl _)).up (by rw [mWd_o (by decide) (by decide)]; exact g82') fun P X hP => ?_
  show h_X0_withdraw (idc 0 0) (nI p) (nI s) z P X v
  unfold h_X0_withdraw
  refine hisK_i (htry_i ?_)
  unfold h_X1_withdraw
  obtain ⟨p1, p2, p3, p4, p5, p6, p7, p8, p9⟩ := h.1.1.hPe p hp
  obtain ⟨l1, l2, l3⟩ := h.1.1.hLn.2.2.2.2.2.2.2 p hp
  refine hbnd_i (c_personAt h.1 hp (hbnd_i (c_serviceAt h.1 hs (hisK_i (hgR_e p6 (hisK_i (hbI_e rfl (by rw [l3]; exact hs) (by omega) ?_)))))))
  exact c_wdLoop hc1 he h31 hp fun v' hv => hP v' 40000 T (by omega) hv
