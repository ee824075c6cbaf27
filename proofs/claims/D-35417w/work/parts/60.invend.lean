/-! ===== the model's invariant through the ends ===== -/
abbrev wOKx (m : Mst) : Prop := wOK m
abbrev EIx (m : Mst) : Prop := EI m
theorem ix_sml {x : Int32} {n B : Nat} (h : ix x n) (hB : n ≤ B + 1) : sml x B := by
  obtain ⟨k, h1, h2⟩ := h
  exact ⟨k, by omega, h2⟩
theorem Inv.w {m : Mst} {T : Nat} (h : Inv m T) (hT : T < 24) : wOK m := by
  obtain ⟨c1, c2⟩ := h.c77 hT
  obtain ⟨⟨k, h1, h2⟩, ⟨a, h3, h4⟩⟩ := h.1
  exact ⟨c1, by omega, ⟨a, h3, h4⟩, ⟨k, by omega, h2⟩⟩
theorem Inv.ei {m : Mst} {T : Nat} (h : Inv m T) (hT : T < 24) : EI m := by
  have hw := h.w hT
  obtain ⟨c301, c302⟩ := h.c30 hT
  obtain ⟨c391, c392⟩ := h.c39 hT
  obtain ⟨c461, c462⟩ := h.c46 hT
  obtain ⟨c521, c522⟩ := h.c52 hT
  obtain ⟨i1, i2, i3, b5, b6, b7, b8, b35, b51, b64, b66, b69, b73, iK, iA, iS, iC, iFm, iz, iT, iR, iRz, iL, iE, iV, iAz⟩ := h
  refine ⟨hw, by omega, ⟨c301, by omega⟩, ⟨c461, by omega⟩, ⟨c521, by omega⟩, fun f hf => ?_, fun f hf => (iFm f hf).2, fun s hs => (iS s hs).2⟩
  obtain ⟨⟨c, c1, c2⟩, -⟩ := iFm f hf
  obtain ⟨⟨s, s1, s2⟩, -⟩ := iC c c1
  exact ⟨c, s, c2, by omega, s2, s1⟩
/-- one entry more, one end less to come -/
theorem iEn_w {m : Mst} {k n : Int32} (hw : wOK m) (hk : sml k 6) (hn : sml n 65535) (h : iEn (nn m 77) (m 78) (m 79) (m 80)) : iEn (nn (mW m k n) 77) (mW m k n 78) (mW m k n 79) (mW m k n 80) := by
  have e78 : mW m k n 78 = up1 (m 78) (nn m 77) k := by
    unfold mW
    rw [up2_o (by decide), up2_o (by decide), up2_o (by decide), up2_o (by decide), up2_r]
  have e79 : mW m k n 79 = up1 (m 79) (nn m 77) n := by
    unfold mW
    rw [up2_o (by decide), up2_o (by decide), up2_o (by decide), up2_r, up2_o (by decide)]
  have e80 : mW m k n 80 = up1 (m 80) (nn m 77) (m 0 0) := by
    unfold mW
    rw [up2_o (by decide), up2_o (by decide), up2_r, up2_o (by decide), up2_o (by decide)]
  rw [nn_w hw, e78, e79, e80]
  intro j hj
  by_cases q : j = nn m 77
  · subst q
    rw [up1_s, up1_s, up1_s]
    obtain ⟨-, -, -, c, c1, c2⟩ := hw
    exact ⟨hk, hn, ⟨c, c1, c2⟩⟩
  · rw [up1_n q, up1_n q, up1_n q]
    exact h j (by omega)
theorem iBo.up {r : Nat → Int32} (h : iBo r) (i : Nat) {x : Int32} (hx : x = 0 ∨ x = 1) : iBo (up1 r i x) := fun j => by
  by_cases q : j = i
  · subst q; rw [up1_s]; exact hx
  · rw [up1_n q]; exact h j
theorem mW_sum {m : Mst} {k n : Int32} (hw : wOK m) (h109 : nn m 77 ≤ 109) (hk : sml k 6) (hn : sml n 65535) : iTm (m 0 0) (mW m k n 81 0) ∧ mW m k n 77 0 = nI (nn m 77 + 1) := by
  obtain ⟨w1, w2, ⟨a, w3, w4⟩, ⟨c, w5, w6⟩⟩ := hw.w h109 hk hn
  refine ⟨⟨⟨c, by omega, ?_⟩, ⟨a, w3, w4⟩⟩, ?_⟩
  · rw [← w6, mW_o (by decide)]
  · rw [w1, nn_w hw]
theorem tbv_01 {m : Mst} {s f : Nat} : tbv m s f = 0 ∨ tbv m s f = 1 := by
  unfold tbv
  split
  · exact b2i_01 _
  · exact Or.inl rfl
theorem iBo.tl {m : Mst} {f : Nat} (h : iBo (m 69)) : ∀ j, iBo (mTl m f j 69)
  | 0 => h
  | j + 1 => by
    have := iBo.tl (m := m) (f := f) h j
    show iBo (up2 (mTl m f j) 69 (60 * j + f) (tbv m j f) 69)
    rw [up2_r]
    exact this.up _ tbv_01
theorem Inv.ef {m : Mst} {T f : Nat} (h : Inv m T) (hT : T < 24) (hf : f < nn m 46) (hg : m 51 f ≠ 0) : Inv (mEF m f) T := by
  have hw := h.w hT
  obtain ⟨c771, c772⟩ := h.c77 hT
  obtain ⟨c461, c462⟩ := h.c46 hT
  have hw' : wOKx (up2 m 51 f 0) := hw.o (by decide)
  have hcd := cnt_d hg (nn m 46) hf
  have hpt : 1 ≤ pt m := by unfold pt; omega
  have e77 : nn (up2 m 51 f 0) 77 = nn m 77 := nn_o (by decide)
  obtain ⟨i1, i2, i3, b5, b6, b7, b8, b35, b51, b64, b66, b69, b73, iK, iA, iS, iC, iFm, iz, iT, iR, iRz, iL, iE, iV, iAz⟩ := h
  obtain ⟨s1, s2⟩ := mW_sum (k := (3 : Int32)) (n := nI f) hw' (by omega) ⟨3, by decide, by decide +kernel⟩ ⟨f, by omega, rfl⟩
  have en := iEn_w (k := (3 : Int32)) (n := nI f) hw' ⟨3, by decide, by decide +kernel⟩ ⟨f, by omega, rfl⟩ (by rw [e77]; exact iE)
  have n77 : nn (mEF m f) 77 = nn m 77 + 1 := by
    have : nn (mEF m f) 77 = nn (mW (up2 m 51 f 0) 3 (nI f)) 77 := rfl
    rw [this, nn_w hw', e77]
  have t51 : mEF m f 51 = up1 (m 51) f 0 := by
    unfold mEF
    rw [mTl_o (by decide), mW_o (by decide), up2_r]
  obtain ⟨a1, a2, a3, a4, a5, a6, a7⟩ := i2
  refine ⟨s1, ⟨a1, a2, a3, a4, a5, a6, ?_⟩, ?_, b5, b6, b7, b8, b35, ?_, b64, b66, ?_, b73, iK, iA, iS, iC, ?_, ?_, iT, iR, iRz, iL, en, iV, iAz⟩
  · show ix (mW (up2 m 51 f 0) 3 (nI f) 77 0) _
    rw [s2, e77]
    exact ⟨nn m 77 + 1, by omega, rfl⟩
  · have hpt2 : pt (mEF m f) + 1 = pt m := by
      unfold pt
      show cnt (m 35) (nn m 30) + cnt (mEF m f 51) (nn m 46) + (if m 62 0 = -1 then 0 else 1) + 1 = _
      rw [t51]; omega
    omega
  · rw [t51]; exact b51.up f (Or.inl rfl)
  · exact iBo.tl (m := mW (up2 m 51 f 0) 3 (nI f)) b69 4
  · intro g hg'
    obtain ⟨g1, g2⟩ := iFm g hg'
    refine ⟨g1, ?_⟩
    rw [t51]
    intro hg2 s hs
    by_cases q : g = f
    · subst q
      rw [up1_s] at hg2
      exact absurd rfl hg2
    · rw [up1_n q] at hg2
      have e : mEF m f 69 (60 * s + g) = m 69 (60 * s + g) := by
        unfold mEF
        rw [mTl_69o (fun s' _ => by have : g < nn m 46 := hg'; omega), mW_o (by decide), up2_o (by decide)]
      rw [e]
      exact g2 hg2 s hs
  · intro g hg1 hg2 s hs
    have hg1 : nn m 46 ≤ g := hg1
    have e : mEF m f 69 (60 * s + g) = m 69 (60 * s + g) := by
      unfold mEF
      rw [mTl_69o (fun s' _ => by omega), mW_o (by decide), up2_o (by decide)]
    rw [e]
    exact iz g hg1 hg2 s hs
theorem Inv.lv {m : Mst} {T s : Nat} (h : Inv m T) (hT : T < 24) (hs : s < nn m 30) (hl : m 35 s ≠ 0) : Inv (mLv m s) T := by
  have hw := h.w hT
  obtain ⟨c771, c772⟩ := h.c77 hT
  obtain ⟨c301, c302⟩ := h.c30 hT
  have hw' : wOKx (up2 m 35 s 0) := hw.o (by decide)
  have hcd := cnt_d hl (nn m 30) hs
  have hpt : 1 ≤ pt m := by unfold pt; omega
  have e77 : nn (up2 m 35 s 0) 77 = nn m 77 := nn_o (by decide)
  obtain ⟨i1, i2, i3, b5, b6, b7, b8, b35, b51, b64, b66, b69, b73, iK, iA, iS, iC, iFm, iz, iT, iR, iRz, iL, iE, iV, iAz⟩ := h
  obtain ⟨s1, s2⟩ := mW_sum (k := (1 : Int32)) (n := nI s) hw' (by omega) ⟨1, by decide, by decide +kernel⟩ ⟨s, by omega, rfl⟩
  have en := iEn_w (k := (1 : Int32)) (n := nI s) hw' ⟨1, by decide, by decide +kernel⟩ ⟨s, by omega, rfl⟩ (by rw [e77]; exact iE)
  have n77 : nn (mLv m s) 77 = nn m 77 + 1 := by unfold mLv; rw [nn_w hw', e77]
  have t35 : mLv m s 35 = up1 (m 35) s 0 := by
    unfold mLv
    rw [mW_o (by decide), up2_r]
  obtain ⟨a1, a2, a3, a4, a5, a6, a7⟩ := i2
  refine ⟨s1, ⟨a1, a2, a3, a4, a5, a6, ?_⟩, ?_, b5, b6, b7, b8, ?_, b51, b64, b66, b69, b73, iK, iA, iS, iC, iFm, iz, iT, iR, iRz, iL, en, iV, iAz⟩
  · show ix (mW (up2 m 35 s 0) 1 (nI s) 77 0) _
    rw [s2, e77]
    exact ⟨nn m 77 + 1, by omega, rfl⟩
  · have hpt2 : pt (mLv m s) + 1 = pt m := by
      unfold pt
      show cnt (mLv m s 35) (nn m 30) + cnt (m 51) (nn m 46) + (if m 62 0 = -1 then 0 else 1) + 1 = _
      rw [t35]; omega
    omega
  · rw [t35]; exact b35.up s (Or.inl rfl)
theorem Inv.efs {m : Mst} {T s : Nat} (h : Inv m T) (hT : T < 24) : ∀ j, j ≤ nn m 46 → Inv (mEFs m s j) T
  | 0, _ => h
  | j + 1, hj => by
    have ih := h.efs (s := s) hT j (by omega)
    unfold mEFs
    split
    · rename_i hc
      exact ih.ef hT (by rw [mEFs_n (by decide) (by decide)]; omega) hc.2
    · exact ih
theorem Inv.ch {m : Mst} {T s : Nat} (h : Inv m T) (hT : T < 24) : ∀ j, j ≤ nn m 30 → Inv (mCh m s j).1 T
  | 0, _ => h
  | j + 1, hj => by
    have ih := h.ch (s := s) hT j (by omega)
    unfold mCh
    split
    · rename_i hc
      have e := ih.lv hT (s := j) (by rw [mCh_n (by decide) (by decide) (by decide)]; omega) hc.1
      refine e.efs hT _ ?_
      have : nn (mLv (mCh m s j).1 j) 46 = nn m 46 := by unfold nn; rw [mLv_o (by decide) (by decide), mCh_o (by decide) (by decide) (by decide)]
      omega
    · exact ih
theorem Inv.es {m : Mst} {T s : Nat} (h : Inv m T) (hT : T < 24) (hs : s < nn m 30) (hl : m 35 s ≠ 0) : Inv (mES m s).1 T := by
  have e := h.lv hT hs hl
  have n30 : nn (mLv m s) 30 = nn m 30 := by unfold nn; rw [mLv_o (by decide) (by decide)]
  have n46 : nn (mLv m s) 46 = nn m 46 := by unfold nn; rw [mLv_o (by decide) (by decide)]
  have ec := e.ch (s := s) hT (nn m 30) (by omega)
  exact ec.efs hT _ (by rw [mCh_n (by decide) (by decide) (by decide)]; omega)
