/-! ===== Session.end ===== -/
theorem hun2_i {α β ρ : Type} {k : α → β → PV ρ} {a : α} {b : β} {P : ρ → Vw → Prop} {X : String → Vw → Prop} {v : Vw} (h : k a b P X v) : un2 k (a, b) P X v := h
theorem c_end_top {v : Vw} {m m0 : Mst} {o : Nat × Int64} {b T s n : Nat} (h : CC v m m0 o b T) (he : EI m) (hs : s < nn m 30) (hl : m 35 s ≠ 0) {P : Int32 → Vw → Prop} {X : String → Vw → Prop}
    (k : ∀ v', CC v' (mLv m s) m0 o b T → (hbnd (hlp (σ := Int32 × Int32) (cchF s n) ((1 : Int32), (nI s + (1 : Int32)))) (fun u12 => hlp (σ := Int32) (cefF s u12) (0 : Int32))) P X v') : h_X9_end (n + 1) s P X v := by
  have hS60 := he.2.2.1.2
  unfold h_X9_end
  refine hgI_e (h.1.f 8 5 35 (by decide) hs) (hcnd_f hl (hpZ_i (Or.inl rfl) ?_))
  have h1 : CCh (fun W => gUn W (m 51) (m 69) (nn m 46) (m 57) (m 54) (nn m 52)) (nn m 19) (uM v 8 s 5 0) (up2 m 35 s 0) m0 o (b + 40 + 260) T := ⟨h.1.unlive hs hl, h.2.1.oM rfl, h.2.2⟩
  generalize uM v 8 s 5 0 = v1 at h1 ⊢
  refine hgR_e (h1.1.hT8 s hs) (hgI_e (h1.1.hN8 s hs) (hisK_i (hbn0_i ?_)))
  refine c_write (k := (1 : Int32)) (n := nI s) h1 (he.1.o (by decide)) ⟨1, by decide, by decide +kernel⟩ ⟨s, by omega, rfl⟩ fun v2 h2 => ?_
  have h3 : CC v2 (mLv m s) m0 o b T := (show CCh _ _ v2 (mLv m s) m0 o (b + 40) T from h2).less (by omega) (Nat.le_refl _)
  have n30 : nn (mLv m s) 30 = nn m 30 := by unfold nn; rw [mLv_o (by decide) (by decide)]
  exact hgI_e (h3.1.hN8 s (by omega)) (k v2 h3)
/-- the loop over what belongs to it, where nothing does -/
theorem c_ch0 {v : Vw} {m m0 : Mst} {o : Nat × Int64} {b T s nf : Nat} (h : CC v m m0 o b T) (he : EI m) (hs : s < nn m 30) (hno : ∀ c, c < nn m 30 → m 34 c ≠ nI s) {P : Int32 → Vw → Prop} {X : String → Vw → Prop} (u : Int32) (hP : P u v) : ∀ d j n, j + d = nn m 30 → d < n → hlpN (cchF s nf) n (u, nI j) P X v := by
  have hS60 := he.2.2.1.2
  intro d
  induction d with
  | zero =>
    intro j n hj hn
    obtain ⟨n, rfl⟩ : ∃ k, n = k + 1 := ⟨n - 1, by omega⟩
    show cchF s nf (hlpN (cchF s nf) n) (u, nI j) P X v
    unfold cchF
    refine hun2_i (hgR_e (h.1.hT8 s hs) (hisK_i (hgR_e h.1.s4 (hisK_i (hbn0_i (J2sz (h.1.lt13 (by decide)) h.1.hL3.1 ?_))))))
    exact hcnd_t (nI_le (by omega) (by omega)) (hrt_i hP)
  | succ d ih =>
    intro j n hj hn
    obtain ⟨n, rfl⟩ : ∃ k, n = k + 1 := ⟨n - 1, by omega⟩
    have hi := ih (j + 1) n (by omega) (by omega)
    show cchF s nf (hlpN (cchF s nf) n) (u, nI j) P X v
    generalize hlpN (cchF s nf) n = L at hi ⊢
    unfold cchF
    refine hun2_i (hgR_e (h.1.hT8 s hs) (hisK_i (hgR_e h.1.s4 (hisK_i (hbn0_i (J2sz (h.1.lt13 (by decide)) h.1.hL3.1 ?_))))))
    refine hcnd_f (nI_ge (by omega) (by omega)) (hgR_e (h.1.hT8 s hs) (hisK_i (hgR_e h.1.s4 (hisK_i (hbn0_i (J2get (h.1.lt13 (by decide)) rfl (by omega) (by rw [h.1.hL3.1]; omega) (h.1.hL3.2 j (by omega)) (hisK_i (hgR_e (h.1.hR82 j (by omega)) (hasr_i ⟨cmp_rf (by decide), cmp_idc (by decide)⟩ ?_)))))))))
    have ho : m 34 j = -1 ∨ ∃ o, m 34 j = nI o ∧ o < 2 ^ 31 := by
      rcases he.2.2.2.2.2.2.2 j (by omega) with q | ⟨o, q1, q2, -⟩
      · exact Or.inl q
      · exact Or.inr ⟨o, q2, by omega⟩
    refine hcnd_f (fun q => hno j (by omega) ((rf_eq (by decide) ho (by omega)).mp q)) ?_
    rw [nI_1, Int32.add_zero]
    exact hi
/-- the end of a session to which nothing belongs -/
theorem c_end_leaf {v : Vw} {m m0 : Mst} {o : Nat × Int64} {b T s n : Nat} (h : CC v m m0 o b T) (he : EI m) (hs : s < nn m 30) (hl : m 35 s ≠ 0) (hno : ∀ c, c < nn m 30 → m 34 c ≠ nI s) {P : Int32 → Vw → Prop} {X : String → Vw → Prop} (hP : ∀ v', CC v' (mEFs (mLv m s) s (nn m 46)) m0 o b T → P 1 v') : h_X9_end (n + 1) s P X v := by
  refine c_end_top h he hs hl fun v1 h1 => ?_
  have e1 := he.lv hs hl
  have n30 : nn (mLv m s) 30 = nn m 30 := by unfold nn; rw [mLv_o (by decide) (by decide)]
  have n46 : nn (mLv m s) 46 = nn m 46 := by unfold nn; rw [mLv_o (by decide) (by decide)]
  have hno' : ∀ c, c < nn (mLv m s) 30 → mLv m s 34 c ≠ nI s := fun c hc => by rw [mLv_o (by decide) (by decide)]; exact hno c (by omega)
  generalize mLv m s = m1 at h1 e1 n30 n46 hno' hP
  rw [← n46] at hP
  refine hbnd_i ?_
  rw [nI_1]
  refine ⟨nn m1 30 + 1, c_ch0 h1 e1 (by omega) hno' 1 ?_ (nn m1 30 - (s + 1)) (s + 1) _ (by omega) (by omega)⟩
  have := c_efs (m := m1) (m0 := m0) (o := o) (b := b) (T := T) (s := s) e1 (by omega) 1 (P := P) (X := X) hP (nn m1 46) 0 (nn m1 46 + 1) v1 (by omega) (by omega) h1
  rw [nI_0] at this
  exact ⟨_, this⟩
theorem c_ch {m m0 : Mst} {o : Nat × Int64} {b T s nf : Nat} (he : EI m) (hs : s < nn m 30) (hs0 : m 35 s = 0) (hso : m 34 s = -1) {P : Int32 → Vw → Prop} {X : String → Vw → Prop} (hP : ∀ v', CC v' (mCh m s (nn m 30)).1 m0 o b T → P (nI (mCh m s (nn m 30)).2) v') : ∀ d j n v, j + d = nn m 30 → s < j → d < n → CC v (mCh m s j).1 m0 o b T → hlpN (cchF s (nf + 1)) n (nI (mCh m s j).2, nI j) P X v := by
  have hS60 := he.2.2.1.2
  intro d
  induction d with
  | zero =>
    intro j n v hj hsj hn h
    obtain ⟨n, rfl⟩ : ∃ k, n = k + 1 := ⟨n - 1, by omega⟩
    have hj' : j = nn m 30 := by omega
    have n30 : nn (mCh m s j).1 30 = nn m 30 := mCh_n (by decide) (by decide) (by decide) j
    show cchF s (nf + 1) (hlpN (cchF s (nf + 1)) n) (_, nI j) P X v
    unfold cchF
    refine hun2_i (hgR_e (h.1.hT8 s (by omega)) (hisK_i (hgR_e h.1.s4 (hisK_i (hbn0_i (J2sz (h.1.lt13 (by decide)) h.1.hL3.1 ?_))))))
    rw [n30]
    refine hcnd_t (nI_le (by omega) (by omega)) (hrt_i ?_)
    have := hP v
    rw [← hj'] at this
    exact this h
  | succ d ih =>
    intro j n v hj hsj hn h
    obtain ⟨n, rfl⟩ : ∃ k, n = k + 1 := ⟨n - 1, by omega⟩
    have hi := fun v' (hv : CC v' (mCh m s (j + 1)).1 m0 o b T) => ih (j + 1) n v' (by omega) (by omega) (by omega) hv
    have n30 : nn (mCh m s j).1 30 = nn m 30 := mCh_n (by decide) (by decide) (by decide) j
    have n46 : nn (mCh m s j).1 46 = nn m 46 := mCh_n (by decide) (by decide) (by decide) j
    obtain ⟨ec, ec2⟩ := he.ch (s := s) j (by omega)
    show cchF s (nf + 1) (hlpN (cchF s (nf + 1)) n) (_, nI j) P X v
    generalize hlpN (cchF s (nf + 1)) n = L at hi ⊢
    unfold cchF
    refine hun2_i (hgR_e (h.1.hT8 s (by omega)) (hisK_i (hgR_e h.1.s4 (hisK_i (hbn0_i (J2sz (h.1.lt13 (by decide)) h.1.hL3.1 ?_))))))
    rw [n30]
    refine hcnd_f (nI_ge (by omega) (by omega)) (hgR_e (h.1.hT8 s (by omega)) (hisK_i (hgR_e h.1.s4 (hisK_i (hbn0_i (J2get (h.1.lt13 (by decide)) rfl (by omega) (by rw [h.1.hL3.1]; omega) (h.1.hL3.2 j (by omega)) (hisK_i (hgR_e (h.1.hR82 j (by omega)) (hasr_i ⟨cmp_rf (by decide), cmp_idc (by decide)⟩ ?_)))))))))
    have ho : (mCh m s j).1 34 j = -1 ∨ ∃ o, (mCh m s j).1 34 j = nI o ∧ o < 2 ^ 31 := by
      rcases ec.2.2.2.2.2.2.2 j (by omega) with q | ⟨o, q1, q2, -⟩
      · exact Or.inl q
      · exact Or.inr ⟨o, q2, by omega⟩
    rw [mCh] at hi
    rw [nI_1]
    refine hcnd_i (fun q => ?_) fun q => ?_
    · have q1 := (rf_eq (by decide) ho (by omega)).mp q
      refine hgR_e (h.1.hT8 s (by omega)) (hisK_i (hgR_e h.1.s4 (hisK_i (hbn0_i (J2get (h.1.lt13 (by decide)) rfl (by omega) (by rw [h.1.hL3.1]; omega) (h.1.hL3.2 j (by omega)) (hisK_i (hbn0_i ?_)))))))
      by_cases h2 : (mCh m s j).1 35 j = 0
      · rw [if_neg (fun r => r.1 h2)] at hi
        refine c_end_dead h (by omega) h2 ?_
        rw [Int32.add_zero]
        exact hi v h
      · rw [if_pos ⟨h2, q1⟩] at hi
        refine c_end_leaf h ec (by omega) h2 (fun c hc q2 => ?_) fun v' hv => ?_
        · rcases ec.2.2.2.2.2.2.2 c hc with r | ⟨o, r1, r2, r3⟩
          · rw [r] at q2
            have := congrArg Int32.toInt q2
            rw [nI_toInt (by omega)] at this
            have e : (-1 : Int32).toInt = -1 := by decide
            omega
          · have hoj : o = j := (nI_eq (by omega) (by omega)).mp (r2.symm.trans q2)
            rw [hoj, q1] at r3
            have := congrArg Int32.toInt r3
            rw [nI_toInt (by omega)] at this
            have e : (-1 : Int32).toInt = -1 := by decide
            omega
        · rw [n46] at hv
          rw [show nI (mCh m s j).2 + 1 = nI ((mCh m s j).2 + 1) from nI_1 _]
          exact hi v' hv
    · have q1 : ¬ (mCh m s j).1 34 j = nI s := fun r => q ((rf_eq (by decide) ho (by omega)).mpr r)
      rw [if_neg (fun r => q1 r.2)] at hi
      rw [Int32.add_zero]
      exact hi v h
theorem mCh_skip {m : Mst} {s : Nat} : ∀ j, (∀ c, c < j → m 34 c ≠ nI s) → mCh m s j = (m, 1)
  | 0, _ => rfl
  | j + 1, h => by
    have ih := mCh_skip (m := m) (s := s) j fun c hc => h c (by omega)
    unfold mCh
    rw [ih, if_neg (fun r => h j (by omega) r.2)]
theorem c_end {v : Vw} {m m0 : Mst} {o : Nat × Int64} {b T s n : Nat} (h : CC v m m0 o b T) (he : EI m) (hs : s < nn m 30) (hl : m 35 s ≠ 0) {P : Int32 → Vw → Prop} {X : String → Vw → Prop} (hP : ∀ v', CC v' (mES m s).1 m0 o b T → P (nI (mES m s).2) v') : h_X9_end (n + 2) s P X v := by
  have hS60 := he.2.2.1.2
  by_cases hno : ∀ c, c < nn m 30 → m 34 c ≠ nI s
  · refine c_end_leaf h he hs hl hno fun v' hv => ?_
    have hno' : ∀ c, c < nn m 30 → mLv m s 34 c ≠ nI s := fun c hc => by rw [mLv_o (by decide) (by decide)]; exact hno c hc
    have := hP v'
    unfold mES at this
    rw [mCh_skip _ hno'] at this
    exact this hv
  · have hso : m 34 s = -1 := by
      have : ∃ c, c < nn m 30 ∧ m 34 c = nI s := Classical.byContradiction fun q => hno fun c hc r => q ⟨c, hc, r⟩
      obtain ⟨c, hc, hc2⟩ := this
      rcases he.2.2.2.2.2.2.2 c hc with r | ⟨o, r1, r2, r3⟩
      · rw [r] at hc2
        have := congrArg Int32.toInt hc2
        rw [nI_toInt (by omega)] at this
        have e : (-1 : Int32).toInt = -1 := by decide
        omega
      · have hoj : o = s := (nI_eq (by omega) (by omega)).mp (r2.symm.trans hc2)
        rw [hoj] at r3; exact r3
    refine c_end_top h he hs hl fun v1 h1 => ?_
    have e1 := he.lv hs hl
    have n30 : nn (mLv m s) 30 = nn m 30 := by unfold nn; rw [mLv_o (by decide) (by decide)]
    have n46 : nn (mLv m s) 46 = nn m 46 := by unfold nn; rw [mLv_o (by decide) (by decide)]
    have hso1 : mLv m s 34 s = -1 := by rw [mLv_o (by decide) (by decide)]; exact hso
    have hs1 : mLv m s 35 s = 0 := by
      unfold mLv
      rw [mW_o (by decide), up2_s]
    have hskip : mCh (mLv m s) s (s + 1) = (mLv m s, 1) := mCh_skip _ fun c hc q => by
      rcases e1.2.2.2.2.2.2.2 c (by omega) with r | ⟨o, r1, r2, r3⟩
      · rw [r] at q
        have := congrArg Int32.toInt q
        rw [nI_toInt (by omega)] at this
        have e : (-1 : Int32).toInt = -1 := by decide
        omega
      · have := (nI_eq (by omega) (by omega)).mp (r2.symm.trans q)
        omega
    have hP' : ∀ v', CC v' (mEFs (mCh (mLv m s) s (nn m 30)).1 s (nn m 46)) m0 o b T → P (nI (mCh (mLv m s) s (nn m 30)).2) v' := hP
    generalize mLv m s = m1 at h1 e1 n30 n46 hso1 hs1 hskip hP'
    rw [← n30] at hP'
    refine hbnd_i ?_
    rw [nI_1]
    have hk := c_ch (m0 := m0) (o := o) (b := b) (T := T) (nf := n) e1 (s := s) (by omega) hs1 hso1 (P := fun u12 v' => (fun u12 => hlp (σ := Int32) (cefF s u12) (0 : Int32)) u12 P X v') (X := X) (fun v' hv => ?_) (nn m1 30 - (s + 1)) (s + 1) (nn m1 30 + 1) v1 (by omega) (by omega) (by omega) (by rw [hskip]; exact h1)
    · rw [hskip] at hk
      exact ⟨_, hk⟩
    · obtain ⟨ec, ec2⟩ := e1.ch (s := s) (nn m1 30) (Nat.le_refl _)
      have c46 : nn (mCh m1 s (nn m1 30)).1 46 = nn m 46 := by rw [mCh_n (by decide) (by decide) (by decide)]; exact n46
      have c30 : nn (mCh m1 s (nn m1 30)).1 30 = nn m1 30 := mCh_n (by decide) (by decide) (by decide) _
      have := c_efs (m0 := m0) (o := o) (b := b) (T := T) (s := s) ec (by omega) (nI (mCh m1 s (nn m1 30)).2) (P := P) (X := X) (fun v'' hv'' => hP' v'' (by rw [← c46]; exact hv'')) (nn (mCh m1 s (nn m1 30)).1 46) 0 (nn (mCh m1 s (nn m1 30)).1 46 + 1) v' (by omega) (by omega) hv
      rw [nI_0] at this
      exact ⟨_, this⟩
