/-! ===== the model's ends of sessions, in plain words ===== -/
def pt (m : Mst) : Nat := cnt (m 35) (nn m 30) + cnt (m 51) (nn m 46) + (if m 62 0 = -1 then 0 else 1)
/-- what the ends need -/
def EI (m : Mst) : Prop := wOK m ∧ nn m 77 + pt m ≤ 100 ∧ (m 30 0 = nI (nn m 30) ∧ nn m 30 ≤ 60) ∧ (m 46 0 = nI (nn m 46) ∧ nn m 46 ≤ 60) ∧ (m 52 0 = nI (nn m 52) ∧ nn m 52 ≤ 200) ∧ (∀ f, f < nn m 46 → ∃ c s, m 47 f = nI c ∧ c < 60 ∧ m 40 c = nI s ∧ s < nn m 30) ∧ (∀ f, f < nn m 46 → m 51 f ≠ 0 → ∀ s, s < 4 → m 69 (60 * s + f) = 0) ∧ ∀ s, s < nn m 30 → m 34 s = -1 ∨ ∃ o, o < s ∧ m 34 s = nI o ∧ m 34 o = -1
theorem nn_w {m : Mst} {k n : Int32} (h : wOK m) : nn (mW m k n) 77 = nn m 77 + 1 := by
  unfold nn mW
  rw [up2_o (by decide), up2_s]
  exact nI_clamp (by have := h.2.1; omega)
theorem wOK.w {m : Mst} {k n : Int32} (h : wOK m) (h109 : nn m 77 ≤ 109) (hk : sml k 6) (hn : sml n 65535) : wOK (mW m k n) := by
  have e := nn_w (k := k) (n := n) h
  obtain ⟨h1, h2, ⟨a, h3, h4⟩, ⟨c, h5, h6⟩⟩ := h
  obtain ⟨kk, k1, k2⟩ := hk
  obtain ⟨kn, n1, n2⟩ := hn
  refine ⟨?_, by omega, ⟨(31 * a + 100 * kk + kn + c) % 65521, Nat.mod_lt _ (by decide), ?_⟩, ⟨c, h5, ?_⟩⟩
  · rw [e]
    unfold mW
    rw [up2_o (by decide), up2_s]
  · have : mW m k n 81 0 = sumq (m 81 0) k n (m 0 0) := by
      unfold mW
      rw [up2_s]
    rw [this, h4, k2, n2, h6]
    exact sumq_eq h3 k1 n1 h5
  · rw [mW_o (by decide)]; exact h6
theorem EI.ef {m : Mst} {f : Nat} (h : EI m) (hf : f < nn m 46) (hg : m 51 f ≠ 0) : EI (mEF m f) := by
  obtain ⟨h1, h2, h3, h4, h5, h6, h7, h8⟩ := h
  have hw : wOK (up2 m 51 f 0) := h1.o (by decide)
  have e77 : nn (up2 m 51 f 0) 77 = nn m 77 := nn_o (by decide)
  have hcd := cnt_d hg (nn m 46) hf
  have hpt : 1 ≤ pt m := by unfold pt; omega
  have hw2 : wOK (mW (up2 m 51 f 0) 3 (nI f)) := hw.w (by omega) ⟨3, by decide, by decide +kernel⟩ ⟨f, by omega, rfl⟩
  have o : ∀ F, F ≠ 77 ∧ F ≠ 78 ∧ F ≠ 79 ∧ F ≠ 80 ∧ F ≠ 81 → F ≠ 69 ∧ F ≠ 51 → mEF m f F = m F := fun F a c => mEF_o a c
  have on : ∀ F, F ≠ 77 ∧ F ≠ 78 ∧ F ≠ 79 ∧ F ≠ 80 ∧ F ≠ 81 → F ≠ 69 ∧ F ≠ 51 → nn (mEF m f) F = nn m F := fun F a c => by unfold nn; rw [o F a c]
  have t77 : mEF m f 77 = mW (up2 m 51 f 0) 3 (nI f) 77 := mTl_o (by decide)
  have n77 : nn (mEF m f) 77 = nn m 77 + 1 := by
    have : nn (mEF m f) 77 = nn (mW (up2 m 51 f 0) 3 (nI f)) 77 := by unfold nn; rw [t77]
    rw [this, nn_w hw, e77]
  have t51 : mEF m f 51 = up1 (m 51) f 0 := by
    unfold mEF
    rw [mTl_o (by decide), mW_o (by decide), up2_r]
  refine ⟨?_, ?_, ?_, ?_, ?_, ?_, ?_, ?_⟩
  · obtain ⟨w1, w2, w3, w4⟩ := hw2
    refine ⟨?_, ?_, ?_, ?_⟩
    · rw [n77, t77, w1, nn_w hw, e77]
    · omega
    · have : mEF m f 81 = mW (up2 m 51 f 0) 3 (nI f) 81 := mTl_o (by decide)
      rw [this]; exact w3
    · have : mEF m f 0 = mW (up2 m 51 f 0) 3 (nI f) 0 := mTl_o (by decide)
      rw [this]; exact w4
  · unfold pt at h2 ⊢
    rw [n77, on 30 (by decide) (by decide), on 46 (by decide) (by decide), o 35 (by decide) (by decide), t51, o 62 (by decide) (by decide)]
    omega
  · rw [on 30 (by decide) (by decide), o 30 (by decide) (by decide)]; exact h3
  · rw [on 46 (by decide) (by decide), o 46 (by decide) (by decide)]; exact h4
  · rw [on 52 (by decide) (by decide), o 52 (by decide) (by decide)]; exact h5
  · rw [on 46 (by decide) (by decide), o 47 (by decide) (by decide), o 40 (by decide) (by decide), on 30 (by decide) (by decide)]; exact h6
  · rw [on 46 (by decide) (by decide), t51]
    intro g hg' hg2 s hs
    by_cases q : g = f
    · subst q
      rw [up1_s] at hg2
      exact absurd rfl hg2
    · rw [up1_n q] at hg2
      have e : mEF m f 69 (60 * s + g) = m 69 (60 * s + g) := by
        unfold mEF
        rw [mTl_69o (fun s' _ => by omega), mW_o (by decide), up2_o (by decide)]
      rw [e]
      exact h7 g hg' hg2 s hs
  · rw [on 30 (by decide) (by decide), o 34 (by decide) (by decide)]; exact h8
/-- a session that is no longer live -/
def mLv (m : Mst) (s : Nat) : Mst := mW (up2 m 35 s 0) 1 (nI s)
theorem mLv_o {m : Mst} {s F : Nat} (h : F ≠ 77 ∧ F ≠ 78 ∧ F ≠ 79 ∧ F ≠ 80 ∧ F ≠ 81) (h2 : F ≠ 35) : mLv m s F = m F := by
  unfold mLv
  rw [mW_o h, up2_o h2]
theorem EI.lv {m : Mst} {s : Nat} (h : EI m) (hs : s < nn m 30) (hl : m 35 s ≠ 0) : EI (mLv m s) := by
  obtain ⟨h1, h2, h3, h4, h5, h6, h7, h8⟩ := h
  have hw : wOK (up2 m 35 s 0) := h1.o (by decide)
  have e77 : nn (up2 m 35 s 0) 77 = nn m 77 := nn_o (by decide)
  have hcd := cnt_d hl (nn m 30) hs
  have hpt : 1 ≤ pt m := by unfold pt; omega
  have hw2 : wOK (mLv m s) := hw.w (by omega) ⟨1, by decide, by decide +kernel⟩ ⟨s, by omega, rfl⟩
  have o : ∀ F, F ≠ 77 ∧ F ≠ 78 ∧ F ≠ 79 ∧ F ≠ 80 ∧ F ≠ 81 → F ≠ 35 → mLv m s F = m F := fun F a c => mLv_o a c
  have on : ∀ F, F ≠ 77 ∧ F ≠ 78 ∧ F ≠ 79 ∧ F ≠ 80 ∧ F ≠ 81 → F ≠ 35 → nn (mLv m s) F = nn m F := fun F a c => by unfold nn; rw [o F a c]
  have n77 : nn (mLv m s) 77 = nn m 77 + 1 := by unfold mLv; rw [nn_w hw, e77]
  have t35 : mLv m s 35 = up1 (m 35) s 0 := by
    unfold mLv
    rw [mW_o (by decide), up2_r]
  refine ⟨hw2, ?_, ?_, ?_, ?_, ?_, ?_, ?_⟩
  · unfold pt at h2 ⊢
    rw [n77, on 30 (by decide) (by decide), on 46 (by decide) (by decide), t35, o 51 (by decide) (by decide), o 62 (by decide) (by decide)]
    omega
  · rw [on 30 (by decide) (by decide), o 30 (by decide) (by decide)]; exact h3
  · rw [on 46 (by decide) (by decide), o 46 (by decide) (by decide)]; exact h4
  · rw [on 52 (by decide) (by decide), o 52 (by decide) (by decide)]; exact h5
  · rw [on 46 (by decide) (by decide), o 47 (by decide) (by decide), o 40 (by decide) (by decide), on 30 (by decide) (by decide)]; exact h6
  · rw [on 46 (by decide) (by decide), o 51 (by decide) (by decide), o 69 (by decide) (by decide)]; exact h7
  · rw [on 30 (by decide) (by decide), o 34 (by decide) (by decide)]; exact h8
/-- the session of a family -/
def fS (m : Mst) (f : Nat) : Int32 := m 40 (m 47 f).toNatClampNeg
/-- the families of a session ended, those before j -/
def mEFs (m : Mst) (s : Nat) : Nat → Mst
  | 0 => m
  | j + 1 => if fS (mEFs m s j) j = nI s ∧ mEFs m s j 51 j ≠ 0 then mEF (mEFs m s j) j else mEFs m s j
theorem mEFs_o {m : Mst} {s F : Nat} (h : F ≠ 77 ∧ F ≠ 78 ∧ F ≠ 79 ∧ F ≠ 80 ∧ F ≠ 81) (h2 : F ≠ 69 ∧ F ≠ 51) : ∀ j, mEFs m s j F = m F
  | 0 => rfl
  | j + 1 => by
    have ih := mEFs_o (m := m) (s := s) h h2 j
    unfold mEFs
    split
    · rw [mEF_o h h2, ih]
    · exact ih
theorem mEFs_n {m : Mst} {s F : Nat} (h : F ≠ 77 ∧ F ≠ 78 ∧ F ≠ 79 ∧ F ≠ 80 ∧ F ≠ 81) (h2 : F ≠ 69 ∧ F ≠ 51) (j : Nat) : nn (mEFs m s j) F = nn m F := by
  unfold nn
  rw [mEFs_o h h2]
theorem EI.efs {m : Mst} {s : Nat} (h : EI m) : ∀ j, j ≤ nn m 46 → EI (mEFs m s j)
  | 0, _ => h
  | j + 1, hj => by
    have ih := h.efs (s := s) j (by omega)
    unfold mEFs
    split
    · rename_i hc
      exact ih.ef (by rw [mEFs_n (by decide) (by decide)]; omega) hc.2
    · exact ih
def efsF (a1 : Int32) : (Int32 → PM Unit) → Int32 → PM Unit := fun r2 => fun u1 => qI 46 fun v3 => qc (v3 ≤ u1) (qrt ()) (qa 47 60 u1 fun v9 => qa 40 60 v9 fun v12 => qc (v12 = a1) (qbd (q_endFamily u1) (fun _ => r2 (u1 + (1 : Int32)))) (r2 (u1 + (1 : Int32))))
theorem q_efs_eq {m : Mst} {s : Nat} (h : EI m) : q_endFamiliesOf (nI s) m = some ((), mEFs m s (nn m 46)) := by
  have key : ∀ d j fuel, j + d = nn m 46 → d < fuel → qlN (efsF (nI s)) fuel (nI j) (mEFs m s j) = some ((), mEFs m s (nn m 46)) := by
    intro d
    induction d with
    | zero =>
      intro j fuel hj hf
      obtain ⟨g, rfl⟩ : ∃ g, fuel = g + 1 := ⟨fuel - 1, by omega⟩
      have hj' : j = nn m 46 := by omega
      show qc (mEFs m s j 46 0 ≤ nI j) _ _ _ = _
      rw [qc_t, ← hj']
      · rfl
      · rw [mEFs_o (by decide) (by decide), h.2.2.2.1.1, hj']
        exact nI_le (Nat.le_refl _) (by have := h.2.2.2.1.2; omega)
    | succ d ih =>
      intro j fuel hj hf
      obtain ⟨g, rfl⟩ : ∃ g, fuel = g + 1 := ⟨fuel - 1, by omega⟩
      have hi := ih (j + 1) g (by omega) (by omega)
      have h46 := h.2.2.2.1.2
      have e := h.efs (s := s) j (by omega)
      have n46 : nn (mEFs m s j) 46 = nn m 46 := mEFs_n (by decide) (by decide) j
      obtain ⟨c, t, c1, c2, c3, c4⟩ := e.2.2.2.2.2.1 j (by omega)
      show qc (mEFs m s j 46 0 ≤ nI j) _ _ _ = _
      rw [qc_f (by rw [mEFs_o (by decide) (by decide), h.2.2.2.1.1]; exact nI_ge (by omega) (by omega)), qa_e rfl (by omega) (by decide), qa_e c1 c2 (by decide)]
      have hfs : fS (mEFs m s j) j = mEFs m s j 40 c := by unfold fS; rw [c1, nI_clamp (by omega)]
      rw [mEFs, hfs] at hi
      show qc (mEFs m s j 40 c = nI s) _ _ _ = _
      by_cases h1 : mEFs m s j 40 c = nI s
      · rw [qc_t h1]
        by_cases h2 : mEFs m s j 51 j = 0
        · rw [if_neg (fun r => r.2 h2)] at hi
          rw [qbd_e (q_endFamily_0 (by omega) h2)]
          show qlN _ g (nI j + 1) _ = _
          rw [nI_1]; exact hi
        · rw [if_pos ⟨h1, h2⟩] at hi
          rw [qbd_e (q_endFamily_eq (by omega) h2 e.1 e.2.2.2.2.1.1 e.2.2.2.2.1.2)]
          show qlN _ g (nI j + 1) _ = _
          rw [nI_1]; exact hi
      · rw [qc_f h1]
        rw [if_neg (fun r => h1 r.1)] at hi
        show qlN _ g (nI j + 1) _ = _
        rw [nI_1]; exact hi
  have := key (nn m 46) 0 100000 (by omega) (by have := h.2.2.2.1.2; omega)
  rw [nI_0] at this
  exact this
/-- a session's own sessions ended, those before j; how many are ended -/
def mCh (m : Mst) (s : Nat) : Nat → Mst × Nat
  | 0 => (m, 1)
  | j + 1 => if (mCh m s j).1 35 j ≠ 0 ∧ (mCh m s j).1 34 j = nI s then (mEFs (mLv (mCh m s j).1 j) j (nn m 46), (mCh m s j).2 + 1) else mCh m s j
def mES (m : Mst) (s : Nat) : Mst × Nat := (mEFs (mCh (mLv m s) s (nn m 30)).1 s (nn m 46), (mCh (mLv m s) s (nn m 30)).2)
theorem mCh_o {m : Mst} {s F : Nat} (h : F ≠ 77 ∧ F ≠ 78 ∧ F ≠ 79 ∧ F ≠ 80 ∧ F ≠ 81) (h2 : F ≠ 69 ∧ F ≠ 51) (h3 : F ≠ 35) : ∀ j, (mCh m s j).1 F = m F
  | 0 => rfl
  | j + 1 => by
    have ih := mCh_o (m := m) (s := s) h h2 h3 j
    unfold mCh
    split
    · show mEFs _ _ _ F = _
      rw [mEFs_o h h2, mLv_o h h3, ih]
    · exact ih
theorem mCh_n {m : Mst} {s F : Nat} (h : F ≠ 77 ∧ F ≠ 78 ∧ F ≠ 79 ∧ F ≠ 80 ∧ F ≠ 81) (h2 : F ≠ 69 ∧ F ≠ 51) (h3 : F ≠ 35) (j : Nat) : nn (mCh m s j).1 F = nn m F := by
  unfold nn
  rw [mCh_o h h2 h3]
theorem EI.ch {m : Mst} {s : Nat} (h : EI m) : ∀ j, j ≤ nn m 30 → EI (mCh m s j).1 ∧ (mCh m s j).2 ≤ j + 1
  | 0, _ => ⟨h, Nat.le_refl _⟩
  | j + 1, hj => by
    obtain ⟨ih, ih2⟩ := h.ch (s := s) j (by omega)
    unfold mCh
    split
    · rename_i hc
      have e := ih.lv (s := j) (by rw [mCh_n (by decide) (by decide) (by decide)]; omega) hc.1
      refine ⟨e.efs _ ?_, ?_⟩
      · have : nn (mLv (mCh m s j).1 j) 46 = nn m 46 := by unfold nn; rw [mLv_o (by decide) (by decide), mCh_o (by decide) (by decide) (by decide)]
        omega
      · show (mCh m s j).2 + 1 ≤ j + 1 + 1
        omega
    · exact ⟨ih, by omega⟩
