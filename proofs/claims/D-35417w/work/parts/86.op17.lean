/-! ===== operations (17): recover ===== -/
def recF (a1 : Int32) : (Int32 × Int32 → PM Int32) → Int32 × Int32 → PM Int32 := (fun r5 => un2 fun u3 u4 => qI 70 fun v8 => qc (v8 ≤ u4) (qrt u3) (qc (u3 = 0) (r5 ((0 : Int32), (u4 + (1 : Int32)))) (qa 73 20 u4 fun v14 => qjo (σ := Int32) (fun u15 => r5 ((1 : Int32), (u15 + (1 : Int32)))) fun j17 => qc (v14 = 0) (j17 u4) (qa 71 20 u4 fun v22 => qc (v22 = a1) (r5 ((0 : Int32), (u4 + (1 : Int32)))) (j17 u4)))))
def hop (m : Mst) (p : Nat) : Nat → Bool
  | 0 => false
  | k + 1 => hop m p k || (decide (m 73 k ≠ 0) && decide (m 71 k = nI p))
theorem hop_s {m : Mst} {p k : Nat} : hop m p (k + 1) = (hop m p k || (decide (m 73 k ≠ 0) && decide (m 71 k = nI p))) := rfl
theorem b2i_or : ∀ b : Bool, b2i b ||| 0 = b2i b ∧ b2i b ||| 1 = 1 := by decide +kernel
theorem q_recLoop0 {m : Mst} {a : Int32} {n : Nat} (h : m 70 0 = nI n) (hn : n ≤ 20) : qlp (σ := Int32 × Int32) (recF a) ((0 : Int32), (0 : Int32)) m = some (0, m) := by
  refine q_loop (N := n) (s := fun j => ((0 : Int32), nI j)) (w := fun _ => m) (congrArg (Prod.mk _) nI_0.symm) (fun j hj L => ?_) (fun L => ?_) (by omega)
  · show qc (m 70 0 ≤ nI j) _ _ _ = _
    rw [qc_f (by rw [h]; exact nI_ge hj (by omega))]
    show qc ((0 : Int32) = 0) _ _ _ = _
    rw [qc_t rfl, nI_1]
  · show qc (m 70 0 ≤ nI n) _ _ _ = _
    rw [qc_t (by rw [h]; exact nI_le (Nat.le_refl _) (by omega))]
    rfl
theorem q_recLoop1 {m : Mst} {p n : Nat} (h : m 70 0 = nI n) (hn : n ≤ 20) : qlp (σ := Int32 × Int32) (recF (nI p)) ((1 : Int32), (0 : Int32)) m = some (b2i (!hop m p n), m) := by
  refine q_loop (N := n) (s := fun j => (b2i (!hop m p j), nI j)) (w := fun _ => m) (congrArg (Prod.mk _) nI_0.symm) (fun j hj L => ?_) (fun L => ?_) (by omega)
  · show qc (m 70 0 ≤ nI j) _ _ _ = L (b2i (!hop m p (j + 1)), nI (j + 1)) m
    rw [qc_f (by rw [h]; exact nI_ge hj (by omega)), hop_s]
    cases hk : hop m p j
    · show qc ((1 : Int32) = 0) _ _ _ = _
      rw [qc_f one_ne, qa_e rfl (by omega) (by decide)]
      show qc (m 73 j = 0) _ _ _ = _
      by_cases q1 : m 73 j = 0
      · rw [qc_t q1, decide_eq_false (fun t => t q1), ← nI_1]; rfl
      · rw [qc_f q1, qa_e rfl (by omega) (by decide), decide_eq_true q1]
        by_cases q2 : m 71 j = nI p
        · rw [qc_t q2, decide_eq_true q2, ← nI_1]; rfl
        · rw [qc_f q2, decide_eq_false q2, ← nI_1]; rfl
    · show qc ((0 : Int32) = 0) _ _ _ = _
      rw [qc_t rfl, ← nI_1]
      rfl
  · show qc (m 70 0 ≤ nI n) _ _ _ = _
    rw [qc_t (by rw [h]; exact nI_le (Nat.le_refl _) (by omega))]
    rfl
theorem c_hasOpen {v : Vw} {m m0 : Mst} {o : Nat × Int64} {b T p : Nat} (h : CC v m m0 o b T) (hR : nn m 70 ≤ 24) (h71 : ∀ r, r < nn m 70 → ix (m 71 r) 6) (hp : p < 6) {P : Int32 → Vw → Prop} {X : String → Vw → Prop} (hP : P (b2i (hop m p (nn m 70))) v) : h_X1_hasOpen 0 (idc 2 p) P X v := by
  unfold h_X1_hasOpen
  refine h_loop (N := nn m 70) (s := fun j => (b2i (hop m p j), nI j)) (fun _ w => w = v) (congrArg (Prod.mk _) nI_0.symm) (fun j w hj hw L hL => ?_) (fun w hw L => ?_) rfl
  · subst hw
    have hL' : L (b2i (hop m p (j + 1)), nI (j + 1)) P X w := hL w rfl
    rw [hop_s] at hL'
    obtain ⟨ps, hps, eps⟩ := h71 j hj
    have N0 : vN w 12 j 0 = rf 2 (m 71 j) := h.1.hRr j hj
    have er := rf_eq (K := 2) (x := m 71 j) (s := p) (by decide) (Or.inr ⟨ps, eps, by omega⟩) (by omega)
    have f0 : ¬ (m 73 j ≠ 0 ∧ m 71 j = nI p) → L (b2i (hop m p j) ||| 0, nI j + 1) P X w := fun q => by
      have e : (decide (m 73 j ≠ 0) && decide (m 71 j = nI p)) = false := by
        by_cases q1 : m 73 j ≠ 0
        · rw [decide_eq_false (fun t => q ⟨q1, t⟩)]; simp
        · rw [decide_eq_false q1]; rfl
      rw [e, Bool.or_false] at hL'
      rw [(b2i_or _).1, nI_1]; exact hL'
    refine hun2_i (hgR_e h.1.s8 (hisK_i (hbn0_i (J2sz (h.1.lt13 (by decide)) h.1.hL7.1 (hcnd_f (nI_ge hj (by omega)) (hgR_e h.1.s8 (hisK_i (hbn0_i (J2get (h.1.lt13 (by decide)) rfl (by omega) (by rw [h.1.hL7.1]; omega) (h.1.hL7.2 j hj) (hisK_i (hgI_e (h.1.f 12 2 73 (by decide) hj) (hjo_i (hcnd_i (fun q1 => f0 fun t => t.1 q1) fun q1 => hgR_e h.1.s8 (hisK_i (hbn0_i (J2get (h.1.lt13 (by decide)) rfl (by omega) (by rw [h.1.hL7.1]; omega) (h.1.hL7.2 j hj) (hisK_i (hgR_e N0 (hasr_i ⟨cmp_rf (by decide), cmp_idc (by decide)⟩ (hcnd_i (fun q2 => ?_) fun q2 => f0 fun t => q2 (er.mpr t.2)))))))))))))))))))))
    rw [decide_eq_true q1, decide_eq_true (er.mp q2), Bool.and_self, Bool.or_true] at hL'
    rw [(b2i_or _).2, nI_1]
    exact hL'
  · subst hw
    exact hun2_i (hgR_e h.1.s8 (hisK_i (hbn0_i (J2sz (h.1.lt13 (by decide)) h.1.hL7.1 (hcnd_t (nI_le (Nat.le_refl _) (by omega)) (hasr_i (b2i_01 _) (hrt_i hP)))))))
/-- a recovery more -/
def mRc (m : Mst) (p : Nat) : Mst := up2 (up2 (up2 (up2 m 71 (nn m 70) (nI p)) 72 (nn m 70) (m 0 0)) 73 (nn m 70) 1) 70 0 (nI (nn m 70 + 1))
theorem Inv.rc {m : Mst} {T p : Nat} (h : Inv m T) (hT : T < 24) (hp : p < 6) (hn : nn m 70 < 20) : Inv (mRc m p) (T + 1) := by
  have h70 : nn m 70 ≤ T := by
    have := ix_nn h.2.1.2.2.2.2.2.1 (by omega)
    exact this.2
  have n70 : nn (mRc m p) 70 = nn m 70 + 1 := by
    show (nI (nn m 70 + 1)).toNatClampNeg = _
    exact nI_clamp (by omega)
  have e71 : mRc m p 71 = up1 (m 71) (nn m 70) (nI p) := by
    unfold mRc
    rw [up2_o (by decide), up2_o (by decide), up2_o (by decide), up2_r]
  have e73 : mRc m p 73 = up1 (m 73) (nn m 70) 1 := by
    unfold mRc
    rw [up2_o (by decide), up2_r, up2_o (by decide), up2_o (by decide)]
  obtain ⟨i1, i2, i3, b5, b6, b7, b8, b35, b51, b64, b66, b69, b73, iK, iA, iS, iC, iFm, iz, iT, iR, iRz, iL, iE, iV, iAz⟩ := h.up
  obtain ⟨a1, a2, a3, a4, a5, a6, a7⟩ := i2
  refine ⟨i1, ⟨a1, a2, a3, a4, a5, ⟨nn m 70 + 1, by omega, rfl⟩, a7⟩, i3, b5, b6, b7, b8, b35, b51, b64, b66, b69, ?_, iK, iA, iS, iC, iFm, iz, iT, ?_, ?_, iL, iE, iV, iAz⟩
  · rw [e73]; exact b73.up _ (Or.inr rfl)
  · rw [n70, e71]
    show iRe (nn m 70 + 1) (up1 (m 71) (nn m 70) (nI p)) (m 74)
    intro r hr
    by_cases q : r = nn m 70
    · subst q
      rw [up1_s, (iRz _ (Nat.le_refl _)).1]
      exact ⟨⟨p, hp, rfl⟩, ⟨0, by decide, nI_0.symm⟩, hn⟩
    · rw [up1_n q]; exact iR r (by omega)
  · rw [n70]
    intro r hr
    exact iRz r (by omega)
theorem MR.oA {v : Vw} {m : Mst} (h : MR v m) {y x : Nat} : MR (uA v y x) m := h.eqv rfl rfl rfl
theorem MR.oB {v : Vw} {m : Mst} (h : MR v m) : MR (uB v) m := h.eqv rfl rfl rfl
theorem op_recover (a : Int32) : OpV (fun z => h_X0_recover (idc 0 0) a z) (q_recover a) := by
  intro v m T b z x h hI hT
  show OpA (fun z => h_X0_recover (idc 0 0) a z) (q_recover a) v m T b z x
  have hb := h.vb
  obtain ⟨r1, r2⟩ := hI.c70 hT
  have n20 : nn m 70 ≤ 20 := by
    rcases Nat.lt_or_ge 20 (nn m 70) with q | q
    · exact absurd (hI.pRe 20 q).2.2 (by omega)
    · exact q
  have l20 : (20 : Int32) = nI 20 := by decide +kernel
  rcases q_six_x a m with ⟨p, hp, rfl, e1⟩ | ⟨ha, e1⟩
  rotate_left
  · refine OpA.bad h hI 1 (by decide) ?_ fun P X hP => ?_
    · unfold q_recover
      rw [qbd_e e1]
      refine qbd_t (r := (0 : Int32)) (m' := m) rfl ?_
      refine qbd_t (q_recLoop0 r1 n20) ?_
      rfl
    · show h_X0_recover (idc 0 0) a z P X v
      unfold h_X0_recover
      refine hisK_i (htry_i ?_)
      unfold h_X1_recover
      exact hbnd_i (personAt_f ha (by omega) (hx_1 (hrt_i hP)))
  have h71 : ∀ r, r < nn m 70 → ix (m 71 r) 6 := fun r hr => (hI.pRe r hr).1
  have f7 : vM v 2 p 4 = m 7 p := h.1.1.f 2 4 7 (by decide) hp
  by_cases C : m 7 p = 0 ∧ nn m 70 < 20 ∧ hop m p (nn m 70) = false
  · obtain ⟨q1, q2, q3⟩ := C
    have h1 := h.m82 0
    have hI1 := hI.m82 0
    have g82 : up2 m 82 0 0 82 0 = 0 := up2_s
    have g70 : up2 m 82 0 0 70 0 = nI (nn m 70) := r1
    have g74 : up2 m 82 0 0 74 = m 74 := rfl
    have g75 : up2 m 82 0 0 75 = m 75 := rfl
    have gn : nn (up2 m 82 0 0) 70 = nn m 70 := rfl
    have hmay : q_mayBoth 1 1 m = some (1, up2 m 82 0 0) := q_both_0 one_ne one_ne
    refine OpA.ok (r := nI (nn m 70)) (m1 := mRc (up2 m 82 0 0) p) ?_ (hI1.rc hT hp q2) rfl fun P X hP => ?_
    · unfold q_recover
      rw [qbd_e e1]
      refine qbd_t (r := (1 : Int32)) (m' := m) ?_ ?_
      · show qc ((1 : Int32) = 0) _ _ _ = _
        rw [qc_f one_ne, qa_e rfl hp (by decide), qc_t q1, qI_d, qc_f (by rw [r1, l20]; exact nI_ge q2 (by decide))]
        rfl
      · refine qbd_t (q_recLoop1 r1 n20) ?_
        rw [q3]
        refine qbd_t hmay ?_
        rw [qc_f one_ne]
        generalize up2 m 82 0 0 = m1 at g70 gn
        unfold mRc
        rw [gn]
        show qw 71 20 (m1 70 0) (nI p) _ _ = _
        rw [qw_e g70 q2 (by decide)]
        show qw 72 20 (m1 70 0) (m1 0 0) _ _ = _
        rw [qw_e g70 q2 (by decide)]
        show qz 73 20 (m1 70 0) 1 _ _ = _
        rw [qz_e g70 q2 (by decide) (Or.inr rfl)]
        show some ((up2 (up2 (up2 (up2 m1 71 (nn m 70) (nI p)) 72 (nn m 70) (m1 0 0)) 73 (nn m 70) 1) 70 0 (m1 70 0 + 1) 70 0) - 1, up2 (up2 (up2 (up2 m1 71 (nn m 70) (nI p)) 72 (nn m 70) (m1 0 0)) 73 (nn m 70) 1) 70 0 (m1 70 0 + 1)) = _
        rw [up2_s, g70, nI_1, nI_pred]
    · show h_X0_recover (idc 0 0) (nI p) z P X v
      unfold h_X0_recover
      refine hisK_i (htry_i ?_)
      unfold h_X1_recover
      refine hbnd_i (c_personAt h.1 hp (hisK_i (hgI_e f7 (hbnd_i (hjo_i (hcnd_t q1 (hbn0_i (c_hasOpen h.1 (by omega) h71 hp ?_))))))))
      rw [q3]
      refine hcnd_t rfl (hgR_e h.1.1.s8 (hisK_i (hbn0_i (J2sz (h.1.1.lt13 (by decide)) h.1.1.hL7.1 (hcnd_f (by rw [l20]; exact nI_ge q2 (by decide)) (hrt_i (hbnd_i (c_can_t one_ne ?_))))))))
      have e12 : vK v 12 = nn m 70 := h.1.1.hCt.2.2.2.2.2.2.1
      have e74 : m 74 (nn m 70) = 0 := (hI.pR0 _ (Nat.le_refl _)).1
      have e75 : m 75 (nn m 70) = 0 := (hI.pR0 _ (Nat.le_refl _)).2
      have rel := (h1.1.1.less (b' := b + 39000 + 100) (by omega) (Nat.le_refl _)).recovery hp (by rw [gn]; omega) (by rw [gn, g74]; exact e74) (by rw [gn, g75]; exact e75)
      have hZ := h.1.1.hL7.1
      have hmr := h.1.2.1
      have ho := h.1.2.2
      have c13 := h.1.1.lt13 (y := 7) (by decide)
      refine hgR_e h.1.1.s8 (hnw_i (by omega) (hbn0_i ?_))
      rw [e12]
      unfold h_X13_init
      refine hpR_i (hgR_e (x := idc 0 0) up3_s (hisK_i (hgI_e (x := m 0 0) (show vM v 0 0 16 = m 0 0 from h.1.1.g16) (hpI_i (hpZ_i (Or.inr rfl) ⟨(show 6 ≤ vb v - (6 + 1) by omega), hpR_i (hpR_i (hrt_i ?_))⟩)))))
      refine hisK_i (hbn0_i (J2add (show 7 < vK v 13 from c13) (by rw [idc_mod (by decide)]; decide) (show vZ v 7 < 4096 by omega) (show 2 * vZ v 7 + 12 ≤ vb v - (6 + 1) - 6 by omega) ?_))
      have rel2 : CC _ (mRc (up2 m 82 0 0) p) m (z + 1, x) (b + 39000) T := ⟨rel, by exact MR.oA (MR.oN (MR.oN (MR.oB (MR.oM (MR.oM (MR.oN (MR.oK hmr (Or.inl ⟨by decide, by decide, by decide⟩)) (by decide)) rfl) rfl)) (by decide)) (by decide)), ho⟩
      have n70 : nn (mRc (up2 m 82 0 0) p) 70 = nn m 70 + 1 := by
        show (nI (nn m 70 + 1)).toNatClampNeg = _
        exact nI_clamp (by omega)
      refine hgR_e (x := idc 13 7) rel2.1.s8 (hisK_i (hbn0_i (J2sz (rel2.1.lt13 (by decide)) rel2.1.hL7.1 (hrt_i ?_))))
      rw [n70, nI_pred]
      exact hP _ 39000 T (by omega) rel2
  · refine OpA.bad h hI 2 (by decide) ?_ fun P X hP => ?_
    · unfold q_recover
      rw [qbd_e e1]
      refine qbd_t (r := if m 7 p = 0 ∧ nn m 70 < 20 then (1 : Int32) else 0) (m' := m) ?_ ?_
      · show qc ((1 : Int32) = 0) _ _ _ = _
        rw [qc_f one_ne, qa_e rfl hp (by decide)]
        by_cases q1 : m 7 p = 0
        · rw [qc_t q1, qI_d]
          by_cases q2 : nn m 70 < 20
          · rw [qc_f (by rw [r1, l20]; exact nI_ge q2 (by decide)), if_pos ⟨q1, q2⟩]; rfl
          · rw [qc_t (by rw [r1, l20]; exact nI_le (by omega) (by omega)), if_neg (fun t => q2 t.2)]; rfl
        · rw [qc_f q1, if_neg (fun t => q1 t.1)]; rfl
      · by_cases q : m 7 p = 0 ∧ nn m 70 < 20
        · rw [if_pos q]
          refine qbd_t (q_recLoop1 r1 n20) ?_
          have q3 : hop m p (nn m 70) = true := by
            cases hq : hop m p (nn m 70)
            · exact absurd ⟨q.1, q.2, hq⟩ C
            · rfl
          rw [q3]
          refine qbd_t (q_both_2 one_ne) ?_
          rfl
        · rw [if_neg q]
          refine qbd_t (q_recLoop0 r1 n20) ?_
          refine qbd_t (q_both_2 one_ne) ?_
          rfl
    · show h_X0_recover (idc 0 0) (nI p) z P X v
      unfold h_X0_recover
      refine hisK_i (htry_i ?_)
      unfold h_X1_recover
      refine hbnd_i (c_personAt h.1 hp (hisK_i (hgI_e f7 (hbnd_i (hjo_i (hcnd_i (fun q1 => hbn0_i (c_hasOpen h.1 (by omega) h71 hp ?_)) fun q1 => hrt_i ?_))))))
      · cases hq : hop m p (nn m 70)
        · refine hcnd_t rfl (hgR_e h.1.1.s8 (hisK_i (hbn0_i (J2sz (h.1.1.lt13 (by decide)) h.1.1.hL7.1 (hcnd_t ?_ (hrt_i ?_))))))
          · have : ¬ nn m 70 < 20 := fun t => C ⟨q1, t, hq⟩
            rw [l20]; exact nI_le (by omega) (by omega)
          · exact hbnd_i (c_can_f (by omega) (hx_s (by decide) (hx_1 (hrt_i hP))))
        · exact hcnd_f one_ne (hrt_i (hbnd_i (c_can_f (by omega) (hx_s (by decide) (hx_1 (hrt_i hP))))))
      · exact hbnd_i (c_can_f (by omega) (hx_s (by decide) (hx_1 (hrt_i hP))))
