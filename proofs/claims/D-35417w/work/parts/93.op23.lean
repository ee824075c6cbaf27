/-! ===== operations (23): redeem ===== -/
theorem mTk_50 {m : Mst} {f a : Nat} {c x y e w : Int32} : mTk (up2 m 50 f w) f c a x y e = mTk m f c a x y e := by
  unfold mTk
  rw [nn_o (F := 50) (F' := 52) (by decide), show up2 m 50 f w 61 0 = m 61 0 from rfl, up2_cm (F := 50) (F' := 57) (by decide), up2_cm (F := 50) (F' := 53) (by decide), up2_cm (F := 50) (F' := 54) (by decide), up2_cm (F := 50) (F' := 55) (by decide), up2_cm (F := 50) (F' := 56) (by decide), up2_cm (F := 50) (F' := 59) (by decide), up2_cm (F := 50) (F' := 58) (by decide), up2_w]
/-- a family more -/
def mFm (m : Mst) (c : Nat) : Mst := up2 (up2 (up2 (up2 (up2 (up2 m 47 (nn m 46) (nI c)) 48 (nn m 46) 0) 49 (nn m 46) (m 0 0)) 51 (nn m 46) 1) 45 c (nI (nn m 46))) 46 0 (nI (nn m 46 + 1))
theorem Inv.fm {m : Mst} {T c : Nat} (h : Inv m T) (hT : T < 24) (hc : c < nn m 39) : Inv (mFm m c) (T + 1) ∧ nn (mFm m c) 77 + 1 + pt (mFm m c) ≤ 4 * (T + 1) := by
  have h46 : nn m 46 ≤ T := by
    have := ix_nn h.2.1.2.2.2.1 (by omega)
    exact this.2
  have n46 : nn (mFm m c) 46 = nn m 46 + 1 := by
    show (nI (nn m 46 + 1)).toNatClampNeg = _
    exact nI_clamp (by omega)
  have e47 : mFm m c 47 = up1 (m 47) (nn m 46) (nI c) := by
    unfold mFm
    rw [up2_o (by decide), up2_o (by decide), up2_o (by decide), up2_o (by decide), up2_o (by decide), up2_r]
  have e51 : mFm m c 51 = up1 (m 51) (nn m 46) 1 := by
    unfold mFm
    rw [up2_o (by decide), up2_o (by decide), up2_r, up2_o (by decide), up2_o (by decide), up2_o (by decide)]
  have e45 : mFm m c 45 = up1 (m 45) c (nI (nn m 46)) := by
    unfold mFm
    rw [up2_o (by decide), up2_r, up2_o (by decide), up2_o (by decide), up2_o (by decide), up2_o (by decide)]
  have h0 := h.pPt
  have hpt : pt (mFm m c) = pt m + 1 := by
    unfold pt
    rw [n46, e51, cnt_new (by decide)]
    show cnt (m 35) (nn m 30) + (cnt (m 51) (nn m 46) + 1) + (if m 62 0 = -1 then 0 else 1) = _
    omega
  refine ⟨?_, by rw [hpt]; show nn m 77 + 1 + (pt m + 1) ≤ _; omega⟩
  obtain ⟨i1, i2, i3, b5, b6, b7, b8, b35, b51, b64, b66, b69, b73, iK, iA, iS, iC, iFm, iz, iT, rest⟩ := h.up
  obtain ⟨a1, a2, a3, a4, a5, a6, a7⟩ := i2
  refine ⟨i1, ⟨a1, a2, a3, ⟨nn m 46 + 1, by omega, rfl⟩, a5, a6, a7⟩, by rw [hpt]; show nn m 77 + (pt m + 1) ≤ _; omega, b5, b6, b7, b8, b35, by rw [e51]; exact b51.up _ (Or.inr rfl), b64, b66, b69, b73, iK, iA, iS, ?_, ?_, ?_, ?_, rest⟩
  · rw [n46, e45]
    show iCo (nn m 39) (nn m 30) (nn m 46 + 1) (m 40) (m 41) (m 42) _
    intro k hk
    obtain ⟨j1, j2, j3, j4⟩ := iC k hk
    refine ⟨j1, j2, j3, ?_⟩
    by_cases q : k = c
    · subst q; rw [up1_s]; exact Or.inr ⟨nn m 46, by omega, rfl⟩
    · rw [up1_n q]; exact j4.imp id fun ⟨w, w1, w2⟩ => ⟨w, by omega, w2⟩
  · rw [n46, e47, e51]
    show iFa (nn m 46 + 1) (nn m 39) _ _ (m 69)
    intro f hf
    by_cases q : f = nn m 46
    · subst q
      rw [up1_s]
      exact ⟨⟨c, hc, rfl⟩, fun _ s hs => iz _ (Nat.le_refl _) (by omega) s hs⟩
    · rw [up1_n q, up1_n q]; exact iFm f (by omega)
  · rw [n46]
    intro f hf hf2 s hs
    exact iz f (by omega) hf2 s hs
  · rw [n46]
    show iTo (nn m 52) (nn m 46 + 1) (m 60 0) _ _ _ _ _
    intro t ht
    obtain ⟨j1, j2, j3, j4, j5⟩ := iT t ht
    exact ⟨j1, j2, j3.mono (by omega), j4, j5⟩
theorem c_writeC {v : Vw} {m m0 : Mst} {o : Nat × Int64} {b T : Nat} (h : CC v m m0 o (b + 260) T) (w : wOK m) {k n : Int32} (hk : sml k 6) (hn : sml n 65535) {P : Unit → Vw → Prop} {X : String → Vw → Prop} (hP : ∀ v', CC v' (mW m k n) m0 o b T → P () v') : h_X1_write 0 k n P X v := c_write h w hk hn fun v' h' => hP v' h'
theorem op_redeem (a : Int32) : OpV (fun z => h_X0_redeem (idc 0 0) a z) (q_redeem a) := by
  intro v m T b z x h hI hT
  show OpA (fun z => h_X0_redeem (idc 0 0) a z) (q_redeem a) v m T b z x
  have hb := h.vb
  obtain ⟨d1, d2⟩ := hI.c52 hT
  obtain ⟨f1, f2⟩ := hI.c46 hT
  obtain ⟨t1, t2⟩ := hI.c30 hT
  obtain ⟨k1, k2⟩ := hI.c39 hT
  have l200 : (200 : Int32) = nI 200 := by decide +kernel
  have c1 : ∀ (P : Int32 → Vw → Prop) (X : String → Vw → Prop), h_X1_redeem 0 a (fun r v' => (hbJ z r.toInt64 <| hrt (0 : Int32)) P X v') (fun E v' => (hhsel [("java/lang/IndexOutOfBoundsException", hrt (1 : Int32)), ("java/lang/IllegalStateException", hrt (2 : Int32))] E : PV Int32) P X v') v → h_X0_redeem (idc 0 0) a z P X v := fun P X q => by
    unfold h_X0_redeem
    exact hisK_i (htry_i q)
  rcases ix3 a (n := nn m 39) (by omega) with ha | ⟨c, hc, rfl⟩
  · refine OpA.bad h hI 1 (by decide) ?_ fun P X hP => c1 P X ?_
    · unfold q_redeem
      show qbd (q_isIn a 0 (m 39 0 - 1)) _ m = _
      rw [qbd_e (q_up_f k1 (by omega) ha)]
      refine qbd_t (r := (0 : Int32)) (m' := m) rfl ?_
      refine qbd_t (r := (1 : Int32)) (m' := m) rfl ?_
      refine qbd_t q_both_1 ?_
      rfl
    · unfold h_X1_redeem
      exact hgR_e h.1.1.s5 (hbnd_i (c_at_f (h.1.1.lt13 (by decide)) h.1.1.hL4.1 ha (by omega) (hx_1 (hrt_i hP))))
  have e1 : q_isIn (nI c) 0 (m 39 0 - 1) m = some (1, m) := q_up_t k1 (by omega) hc
  have cc : ∀ (kk : Nat → PV Int32) (P : Int32 → Vw → Prop) (X : String → Vw → Prop), kk (idc 9 c) P X v → (hgR 0 0 5 fun v1 => hbnd (ρ := Int32) (h_X1_at v1 (nI c)) kk) P X v := fun kk P X hk => hgR_e h.1.1.s5 (hbnd_i (c_at (h.1.1.lt13 (by decide)) h.1.1.hL4.1 (by omega) hc (h.1.1.hL4.2 c hc) hk))
  obtain ⟨⟨s, hs, e40⟩, ⟨cl, hcl, e41⟩, ⟨au, hau, e42⟩, e45⟩ := hI.pCo c hc
  have n5 : vN v 9 c 5 = rf 10 (m 45 c) := h.1.1.hR95 c hc
  have n0 : vN v 9 c 0 = idc 8 s := by
    have := h.1.1.hR90 c hc
    rw [e40, rf_ix (by omega)] at this
    exact this
  have x44 : vM v 9 c 4 = m 44 c := h.1.1.f 9 4 44 (by decide) hc
  have x35 : vM v 8 s 5 = m 35 s := h.1.1.f 8 5 35 (by decide) hs
  have hmay : q_mayBoth 1 1 m = some (1, up2 m 82 0 0) := q_both_0 one_ne one_ne
  have h1 := h.m82 0
  have hI1 := hI.m82 0
  have g82 : up2 m 82 0 0 82 0 = 0 := up2_s
  -- where nothing is made
  have hno : ∀ (out : Option (Int32 × Mst)), ¬ (m 45 c = -1 ∧ ¬ 5 < m 0 0 - m 44 c ∧ m 35 s ≠ 0) → (qa 45 60 (nI c) fun v11 => qc (v11 = (-1 : Int32)) (qrt (-1 : Int32)) (qa 45 60 (nI c) fun v16 => qbd (q_endFamily v16) (fun _ => qrt (-1 : Int32)))) (up2 m 82 0 0) = out → q_redeem (nI c) m = out := fun out hD ho => by
    unfold q_redeem
    show qbd (q_isIn (nI c) 0 (m 39 0 - 1)) _ m = _
    rw [qbd_e e1]
    refine qbd_t (r := (0 : Int32)) (m' := m) ?_ ?_
    · show qc ((1 : Int32) = 0) _ _ _ = _
      rw [qc_f one_ne, qa_e rfl (by omega) (by decide)]
      by_cases q1 : m 45 c = -1
      · rw [qc_t q1, qI_d, qa_e rfl (by omega) (by decide)]
        by_cases q2 : 5 < m 0 0 - m 44 c
        · rw [qc_t q2]; rfl
        · rw [qc_f q2, qa_e rfl (by omega) (by decide), qa_e e40 (by omega) (by decide), qc_t (Classical.byContradiction fun q3 => hD ⟨q1, q2, q3⟩)]; rfl
      · rw [qc_f q1]; rfl
    refine qbd_t (r := (1 : Int32)) (m' := m) rfl ?_
    refine qbd_t hmay ?_
    rw [qc_f one_ne, qc_t rfl]
    exact ho
  rcases e45 with q45 | ⟨f, hf, q45⟩
  rotate_left
  · have hne : m 45 c ≠ -1 := by rw [q45]; exact nI_nm (by omega)
    have nul0 : ¬ vN v 9 c 5 = nul := by
      rw [n5, q45, rf_ix (by omega)]
      unfold idc nul
      omega
    have n5' : vN v 9 c 5 = idc 10 f := by rw [n5, q45, rf_ix (by omega)]
    have g45 : up2 m 82 0 0 45 c = nI f := q45
    have hq := fun out ho => hno out (fun t => hne t.1) ho
    by_cases q : m 51 f = 0
    · refine OpA.ok (r := -1) (m1 := up2 m 82 0 0) (hq _ ?_) hI1.up rfl fun P X hP => c1 P X ?_
      · rw [qa_e rfl (by omega) (by decide), g45, qc_f (nI_nm (by omega)), qa_e rfl (by omega) (by decide), g45, qbd_e (q_endFamily_0 (m := up2 m 82 0 0) (by omega) q)]
        rfl
      · unfold h_X1_redeem
        refine cc _ _ _ (hisK_i (hgR_e rfl (hcnd_f nul0 (hgR_e n5' (hisK_i (hbn0_i (c_endFam0 h1.1 hf q (hrt_i (hP v 40000 T (by omega) h1.1)))))))))
    · have he := hI1.ei hT
      have n46 : nn (up2 m 82 0 0) 46 = nn m 46 := rfl
      refine OpA.ok (r := -1) (m1 := mEF (up2 m 82 0 0) f) (hq _ ?_) (hI1.ef hT (show f < nn (up2 m 82 0 0) 46 from hf) q).up (by rw [mEF_o (by decide) (by decide)]; exact g82) fun P X hP => c1 P X ?_
      · rw [qa_e rfl (by omega) (by decide), g45, qc_f (nI_nm (by omega)), qa_e rfl (by omega) (by decide), g45, qbd_e (q_endFamily_eq (m := up2 m 82 0 0) (f := f) (by omega) q he.1 he.2.2.2.2.1.1 he.2.2.2.2.1.2)]
        rfl
      · unfold h_X1_redeem
        refine cc _ _ _ (hisK_i (hgR_e rfl (hcnd_f nul0 (hgR_e n5' (hisK_i (hbn0_i (c_endFam h1.1 (show f < nn (up2 m 82 0 0) 46 from hf) (by omega) q he.1 (he.2.2.2.2.2.2.1 f hf q) fun v' hv => hrt_i (hP v' 40000 T (by omega) hv))))))))
  have nul1 : vN v 9 c 5 = nul := by rw [n5, q45]; exact rf_m1
  by_cases D : ¬ 5 < m 0 0 - m 44 c ∧ m 35 s ≠ 0
  rotate_left
  · refine OpA.ok (r := -1) (m1 := up2 m 82 0 0) (hno _ (fun t => D t.2) ?_) hI1.up rfl fun P X hP => c1 P X ?_
    · rw [qa_e rfl (by omega) (by decide), qc_t (show up2 m 82 0 0 45 c = -1 from q45)]
      rfl
    · unfold h_X1_redeem
      refine cc _ _ _ (hisK_i (hgR_e rfl (hcnd_t nul1 (hgI_e h.1.1.g16 (hgI_e x44 (hcnd_i (fun q => hrt_i (hP v 40000 T (by omega) h1.1)) fun q2 => hgR_e n0 (hisK_i (hgI_e x35 (hcnd_t (Classical.byContradiction fun q3 => D ⟨q2, q3⟩) (hrt_i (hP v 40000 T (by omega) h1.1)))))))))))
  have hnT : nn m 52 ≤ T := by
    have := ix_nn hI.2.1.2.2.2.2.1 (by omega)
    exact this.2
  have hTf : ∀ t, t < nn m 52 → m 57 t ≠ nI (nn m 46) := fun t ht => by
    obtain ⟨g, g1, g2⟩ := (hI.pTo t ht).2.2.1
    rw [g2]
    exact fun r => absurd ((nI_eq (by omega) (by omega)).mp r) (by omega)
  have hte : ix (m 0 0 + 10) 30011 := by
    obtain ⟨k, q1, q2⟩ := hI.pTm.1
    exact ⟨k + 10, by omega, by rw [q2, show (10 : Int32) = nI 10 from by decide +kernel, nI_add]⟩
  -- the model
  have hq : ∀ (out : Option (Int32 × Mst)), (qI 46 fun v18 => qw 47 60 v18 (nI c) <| qw 48 60 v18 (0 : Int32) <| qI 0 fun v26 => qw 49 60 v18 v26 <| qz 51 60 v18 (1 : Int32) <| qw 45 60 (nI c) v18 <| qI 46 fun v35 => qW 46 (v35 + (1 : Int32)) <| qbd (q_write (2 : Int32) v18) (fun _ => qbd (q_firstToken v18) (fun _ => qrt v18))) (up2 m 82 0 0) = out → q_redeem (nI c) m = out := fun out ho => by
    unfold q_redeem
    show qbd (q_isIn (nI c) 0 (m 39 0 - 1)) _ m = _
    rw [qbd_e e1]
    refine qbd_t (r := (1 : Int32)) (m' := m) ?_ ?_
    · show qc ((1 : Int32) = 0) _ _ _ = _
      rw [qc_f one_ne, qa_e rfl (by omega) (by decide), qc_t q45, qI_d, qa_e rfl (by omega) (by decide), qc_f D.1, qa_e rfl (by omega) (by decide), qa_e e40 (by omega) (by decide), qc_f D.2]
      rfl
    refine qbd_t (r := (1 : Int32)) (m' := m) ?_ ?_
    · show qc ((1 : Int32) = 0) _ _ _ = _
      rw [qc_f one_ne, qI_d, qc_f (by rw [d1, l200]; exact nI_ge (by omega) (by decide))]; rfl
    refine qbd_t hmay ?_
    rw [qc_f one_ne, qc_f one_ne]
    exact ho
  have g40 : up2 m 82 0 0 40 c = nI s := e40
  have g42 : up2 m 82 0 0 42 c = nI au := e42
  have g41 : ix (up2 m 82 0 0 41 c) 4 := ⟨cl, hcl, e41⟩
  have g46 : up2 m 82 0 0 46 0 = nI (nn (up2 m 82 0 0) 46) := f1
  have g52 : up2 m 82 0 0 52 0 = nI (nn (up2 m 82 0 0) 52) := d1
  have g0 : up2 m 82 0 0 0 0 = m 0 0 := rfl
  have n52 : nn (up2 m 82 0 0) 52 = nn m 52 := rfl
  have n46 : nn (up2 m 82 0 0) 46 = nn m 46 := rfl
  have n39 : nn (up2 m 82 0 0) 39 = nn m 39 := rfl
  have n30 : nn (up2 m 82 0 0) 30 = nn m 30 := rfl
  have hTf' : ∀ t, t < nn (up2 m 82 0 0) 52 → up2 m 82 0 0 57 t ≠ nI (nn (up2 m 82 0 0) 46) := hTf
  generalize up2 m 82 0 0 = m1 at h1 hI1 hmay g82 hq g40 g42 g41 g46 g52 g0 n52 n46 n39 n30 hTf'
  obtain ⟨hI2, hle⟩ := hI1.fm (c := c) hT (by omega)
  have hw2 := hI2.w24 (by omega)
  have hI3 := hI2.wr (k := (2 : Int32)) (n := nI (nn m1 46)) (by omega) ⟨2, by decide, by decide +kernel⟩ ⟨nn m1 46, by omega, rfl⟩ hle
  have o3 : ∀ F, (F ≠ 77 ∧ F ≠ 78 ∧ F ≠ 79 ∧ F ≠ 80 ∧ F ≠ 81) → (F ≠ 45 ∧ F ≠ 46 ∧ F ≠ 47 ∧ F ≠ 48) → (F ≠ 49 ∧ F ≠ 51) → mW (mFm m1 c) 2 (nI (nn m1 46)) F = m1 F := fun F q1 q2 q3 => by
    rw [mW_o q1]
    unfold mFm
    rw [up2_o q2.2.1, up2_o q2.1, up2_o q3.2, up2_o q3.1, up2_o q2.2.2.2, up2_o q2.2.2.1]
  have b47 : mW (mFm m1 c) 2 (nI (nn m1 46)) 47 (nn m1 46) = nI c := by
    rw [mW_o (by decide)]
    unfold mFm
    rw [up2_o (by decide), up2_o (by decide), up2_o (by decide), up2_o (by decide), up2_o (by decide), up2_s]
  have b51 : mW (mFm m1 c) 2 (nI (nn m1 46)) 51 (nn m1 46) ≠ 0 := by
    rw [mW_o (by decide)]
    unfold mFm
    rw [up2_o (by decide), up2_o (by decide), up2_s]
    decide
  have b45 : mW (mFm m1 c) 2 (nI (nn m1 46)) 45 c = nI (nn m1 46) := by
    rw [mW_o (by decide)]
    unfold mFm
    rw [up2_o (by decide), up2_s]
  have b42 : mW (mFm m1 c) 2 (nI (nn m1 46)) 42 c = nI au := by rw [o3 42 (by decide) (by decide) (by decide)]; exact g42
  have b41 : mW (mFm m1 c) 2 (nI (nn m1 46)) 41 c = m1 41 c := by rw [o3 41 (by decide) (by decide) (by decide)]
  have b43 : mW (mFm m1 c) 2 (nI (nn m1 46)) 43 c = m1 43 c := by rw [o3 43 (by decide) (by decide) (by decide)]
  have b0 : mW (mFm m1 c) 2 (nI (nn m1 46)) 0 0 = m 0 0 := by rw [o3 0 (by decide) (by decide) (by decide)]; exact g0
  have b82 : mW (mFm m1 c) 2 (nI (nn m1 46)) 82 0 = 0 := by rw [o3 82 (by decide) (by decide) (by decide)]; exact g82
  have c52 : nn (mW (mFm m1 c) 2 (nI (nn m1 46))) 52 = nn m 52 := (congrArg (fun r => (r 0).toNatClampNeg) (o3 52 (by decide) (by decide) (by decide))).trans n52
  have c39 : nn (mW (mFm m1 c) 2 (nI (nn m1 46))) 39 = nn m 39 := (congrArg (fun r => (r 0).toNatClampNeg) (o3 39 (by decide) (by decide) (by decide))).trans n39
  have b52 : mW (mFm m1 c) 2 (nI (nn m1 46)) 52 0 = nI (nn (mW (mFm m1 c) 2 (nI (nn m1 46))) 52) := by
    rw [c52, o3 52 (by decide) (by decide) (by decide), g52, n52]
  have c46 : nn (mW (mFm m1 c) 2 (nI (nn m1 46))) 46 = nn m1 46 + 1 := by
    unfold nn
    rw [mW_o (by decide)]
    exact nI_clamp (by omega)
  -- the court's own path to the same cells
  have eM : ∀ N : Nat, N = nn m1 46 → (up2 (up2 (up2 (up2 (up2 (up2 (up2 m1 50 N 0) 47 N (nI c)) 48 N 0) 49 N (m1 0 0)) 51 N 1) 45 c (nI N)) 46 0 (nI (N + 1))) = up2 (mFm m1 c) 50 N 0 := fun N hN => by
    subst hN
    unfold mFm
    rw [up2_cm (F := 50) (F' := 47) (by decide), up2_cm (F := 50) (F' := 48) (by decide), up2_cm (F := 50) (F' := 49) (by decide), up2_cm (F := 50) (F' := 51) (by decide), up2_cm (F := 50) (F' := 45) (by decide), up2_cm (F := 50) (F' := 46) (by decide)]
  have rel := (h1.1.1.less (b' := b + 38000 + 300 + 100) (by omega) (Nat.le_refl _)).family (s := s) (c := c) (m1 41 c) (nI au) (m1 43 c) (by omega) (by omega) g40 (by omega) rfl g42.symm rfl hTf'
  rw [eM _ rfl] at rel
  refine OpA.ok (r := nI (nn m1 46)) (m1 := mTk (mW (mFm m1 c) 2 (nI (nn m1 46))) (nn m1 46) (m1 41 c) au (m1 43 c) 0 (m 0 0 + 10)) (hq _ ?_) (hI3.tk hT (by omega) g41 hau hte (by omega)) (by rw [mTk_o (by decide) (by decide)]; exact b82) fun P X hP => c1 P X ?_
  · have hqt := q_first b52 (by omega) (show nn m1 46 < 60 by omega) b47 (by omega) b42
    rw [b41, b43, b0] at hqt
    show qw 47 60 (m1 46 0) (nI c) _ m1 = _
    rw [qw_e g46 (by omega) (by decide)]
    show qw 48 60 (m1 46 0) 0 _ _ = _
    rw [qw_e g46 (by omega) (by decide)]
    show qw 49 60 (m1 46 0) (m1 0 0) _ _ = _
    rw [qw_e g46 (by omega) (by decide)]
    show qz 51 60 (m1 46 0) 1 _ _ = _
    rw [qz_e g46 (by omega) (by decide) (Or.inr rfl)]
    show qw 45 60 (nI c) (m1 46 0) _ _ = _
    rw [qw_e rfl (by omega) (by decide), g46]
    show qbd (q_write 2 (nI (nn m1 46))) _ (up2 (up2 (up2 (up2 (up2 (up2 m1 47 (nn m1 46) (nI c)) 48 (nn m1 46) 0) 49 (nn m1 46) (m1 0 0)) 51 (nn m1 46) 1) 45 c (nI (nn m1 46))) 46 0 (m1 46 0 + 1)) = _
    rw [g46, nI_1]
    show qbd (q_write 2 (nI (nn m1 46))) _ (mFm m1 c) = _
    rw [qbd_e (q_write_eq hw2)]
    refine qbd_t hqt ?_
    rfl
  · have hZ := h.1.1.hL5.1
    have e10 : vK v 10 = nn m1 46 := h.1.1.hCt.2.2.2.2.1.trans n46.symm
    have c13 := h.1.1.lt13 (y := 5) (by decide)
    have hmr := h.1.2.1
    unfold h_X1_redeem
    refine cc _ _ _ (hisK_i (hgR_e rfl (hcnd_t nul1 (hgI_e h.1.1.g16 (hgI_e x44 (hcnd_f D.1 (hgR_e n0 (hisK_i (hgI_e x35 (hcnd_f D.2 (hgR_e h.1.1.s7 (hisK_i (hbn0_i (J2sz (h.1.1.lt13 (by decide)) h.1.1.hL6.1 (hbnd_i (hcnd_f (by rw [l200]; exact nI_ge (by omega) (by decide)) (hrt_i (hbnd_i (c_can_t one_ne (hnw_i (by omega) ?_))))))))))))))))))))
    rw [e10]
    refine hgR_e (x := idc 13 5) h.1.1.s6 (hisK_i (hbn0_i (J2sz (n := nn m1 46) (show 5 < vK v 13 from c13) (show vZ v 5 = nn m1 46 by rw [hZ]; exact n46.symm) (hbn0_i ?_))))
    unfold h_X11_init
    refine hpR_i (hpZ_i (Or.inr rfl) (hpI_i ⟨(show 6 ≤ vb v - (11 + 1) by omega), hpR_i (hpI_i (hisK_i (hgR_e (x := idc 8 s) n0 (hpR_i (hgI_e (x := m1 41 c) (show vM v 9 c 1 = m1 41 c from h1.1.1.f 9 1 41 (by decide) (show c < nn m1 39 by omega)) (hpI_i (hgI_e (x := nI au) (show vM v 9 c 2 = nI au from (h1.1.1.f 9 2 42 (by decide) (show c < nn m1 39 by omega)).trans g42) (hpI_i (hgI_e (x := m1 43 c) (show vM v 9 c 3 = m1 43 c from h1.1.1.f 9 3 43 (by decide) (show c < nn m1 39 by omega)) (hpI_i (hrt_i ?_)))))))))))⟩))
    refine hpR_i (hgR_e (x := idc 13 5) h.1.1.s6 (hgR_e (x := idc 10 (nn m1 46)) up3_s (hisK_i (hbn0_i (J2add (show 5 < vK v 13 from c13) (by rw [idc_mod (by decide)]; decide) (show vZ v 5 < 4096 by omega) (show 2 * vZ v 5 + 12 ≤ vb v - (11 + 1) - 6 by omega) ?_)))))
    have rel2 : CC _ (up2 (mFm m1 c) 50 (nn m1 46) 0) m (z + 1, x) (b + 38000) T := ⟨rel.mapU (fun hU => ?_), (by repeat' first | with_reducible exact hmr | with_reducible refine MR.oM ?_ ?_ | with_reducible refine MR.oN ?_ ?_ | with_reducible refine MR.oA ?_ | with_reducible refine MR.oBs ?_ | with_reducible refine MR.oB ?_ | with_reducible refine MR.oK ?_ ?_ | rfl | decide | exact Or.inl ⟨by decide, by decide, by decide⟩), h.1.2.2⟩
    · refine hgR_e (x := idc 10 (nn m1 46)) ?_ (hisK_i (hgI_e (x := nI (nn m1 46)) ?_ (hbn0_i ?_)))
      · have := rel2.1.hR95 c (show c < nn m1 39 by omega)
        rw [show up2 (mFm m1 c) 50 (nn m1 46) 0 45 c = nI (nn m1 46) from by rw [up2_o (by decide)]; unfold mFm; rw [up2_o (by decide), up2_s], rf_ix (by omega)] at this
        exact this
      · exact rel2.1.hN10 (nn m1 46) (show nn m1 46 < nn (up2 (mFm m1 c) 50 (nn m1 46) 0) 46 by rw [nn_o (by decide)]; show nn m1 46 < (nI (nn m1 46 + 1)).toNatClampNeg; rw [nI_clamp (by omega)]; omega)
      · have rel3 := (rel2.less (b' := b + 37000 + 260) (by omega) (Nat.le_refl _) : CC _ (up2 (mFm m1 c) 50 (nn m1 46) 0) m (z + 1, x) (b + 37000 + 260) T)
        refine c_writeC (k := (2 : Int32)) (n := nI (nn m1 46)) rel3 (hw2.o (by decide)) ⟨2, by decide, by decide +kernel⟩ ⟨nn m1 46, by omega, rfl⟩ fun v3 h3 => ?_
        have h4 := h3
        rw [mW_cm (by decide) (by decide)] at h4
        have a45 : ∀ M : Mst, M = up2 (mW (mFm m1 c) 2 (nI (nn m1 46))) 50 (nn m1 46) 0 → M 45 c = nI (nn m1 46) ∧ M 47 (nn m1 46) = nI c ∧ M 42 c = nI au ∧ M 51 (nn m1 46) ≠ 0 ∧ nn M 46 = nn m1 46 + 1 ∧ nn M 52 = nn m 52 ∧ nn M 39 = nn m 39 ∧ M 41 c = m1 41 c ∧ M 43 c = m1 43 c ∧ M 0 0 = m 0 0 := fun M hM => by
          subst hM
          exact ⟨b45, b47, b42, b51, c46, c52, c39, b41, b43, b0⟩
        obtain ⟨y45, y47, y42, y51, y46, y52, y39, y41, y43, y0⟩ := a45 _ rfl
        have eT : mTk (up2 (mW (mFm m1 c) 2 (nI (nn m1 46))) 50 (nn m1 46) 0) (nn m1 46) (m1 41 c) au (m1 43 c) 0 (m 0 0 + 10) = mTk (mW (mFm m1 c) 2 (nI (nn m1 46))) (nn m1 46) (m1 41 c) au (m1 43 c) 0 (m 0 0 + 10) := mTk_50
        generalize up2 (mW (mFm m1 c) 2 (nI (nn m1 46))) 50 (nn m1 46) 0 = M at h4 y45 y47 y42 y51 y46 y52 y39 y41 y43 y0 eT
        have n5'' : vN v3 9 c 5 = idc 10 (nn m1 46) := by
          have := h4.1.hR95 c (show c < nn M 39 by omega)
          rw [y45, rf_ix (by omega)] at this
          exact this
        refine hgR_e n5'' (hisK_i (hbn0_i ?_))
        refine c_make (h4.less (b' := b + 36000 + 100) (by omega) (Nat.le_refl _)) (by omega) (by omega) hau (by omega) y51 y47 (by omega) y42 fun v5 h5 => ?_
        rw [y41, y43, y0, eT] at h5
        have z39 : c < nn (mTk (mW (mFm m1 c) 2 (nI (nn m1 46))) (nn m1 46) (m1 41 c) au (m1 43 c) 0 (m 0 0 + 10)) 39 := by
          unfold nn
          rw [mTk_o (by decide) (by decide)]
          show c < nn (mW (mFm m1 c) 2 (nI (nn m1 46))) 39
          omega
        have z46 : nn m1 46 < nn (mTk (mW (mFm m1 c) 2 (nI (nn m1 46))) (nn m1 46) (m1 41 c) au (m1 43 c) 0 (m 0 0 + 10)) 46 := by
          have : nn (mTk (mW (mFm m1 c) 2 (nI (nn m1 46))) (nn m1 46) (m1 41 c) au (m1 43 c) 0 (m 0 0 + 10)) 46 = nn m1 46 + 1 := by
            unfold nn
            rw [mTk_o (by decide) (by decide)]
            exact c46
          omega
        refine hgR_e (x := idc 10 (nn m1 46)) ?_ (hisK_i (hgI_e (x := nI (nn m1 46)) (h5.1.hN10 _ z46) (hrt_i (hP v5 36000 T (by omega) h5))))
        have := h5.1.hR95 c z39
        rw [mTk_o (by decide) (by decide), b45, rf_ix (by omega)] at this
        exact this
    · show gUn _ (mFm m1 c 51) (m1 69) (nI (nn m1 46 + 1)).toNatClampNeg (m1 57) (m1 54) (nn m1 52)
      rw [nI_clamp (by omega)]
      have e51 : mFm m1 c 51 = up1 (m1 51) (nn m1 46) 1 := by
        unfold mFm
        rw [up2_o (by decide), up2_o (by decide), up2_r, up2_o (by decide), up2_o (by decide), up2_o (by decide)]
      rw [e51]
      intro s' hs'
      obtain ⟨u1, u2⟩ := hU s' hs'
      refine ⟨u1, fun y => (u2 y).trans ⟨?_, ?_⟩⟩
      · rintro ⟨g, g1, g2, g3, g4⟩
        exact ⟨g, by omega, g2, by rw [up1_n (by omega)]; exact g3, g4⟩
      · rintro ⟨g, g1, g2, g3, g4⟩
        have hgn : g ≠ nn m1 46 := fun t => by
          rw [t, up1_s] at g3
          exact absurd g3 (by decide)
        rw [up1_n hgn] at g3
        exact ⟨g, by omega, g2, g3, g4⟩
