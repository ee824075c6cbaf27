/-! ===== a step more in the draft: the invariant ===== -/
theorem Inv.sp {m : Mst} {T n : Nat} {a c d g e : Int32} (h : Inv m T) (hn : m 10 8 = nI n) (hn12 : n < 12) (ho : stO a c d g e) : Inv (up2 (up2 (up2 (up2 (up2 (up2 (m) 11 (96 + n) a) 12 (96 + n) c) 13 (96 + n) d) 14 (96 + n) g) 15 (96 + n) e) 10 8 (nI (n + 1))) T := by
  obtain ⟨W, hW⟩ : ∃ W, W = up2 (up2 (up2 (up2 (up2 (up2 (m) 11 (96 + n) a) 12 (96 + n) c) 13 (96 + n) d) 14 (96 + n) g) 15 (96 + n) e) 10 8 (nI (n + 1)) := ⟨_, rfl⟩
  have w11 : W 11 = up1 (m 11) (96 + n) a := by rw [hW, up2_o (by decide), up2_o (by decide), up2_o (by decide), up2_o (by decide), up2_o (by decide), up2_r]
  have w12 : W 12 = up1 (m 12) (96 + n) c := by rw [hW, up2_o (by decide), up2_o (by decide), up2_o (by decide), up2_o (by decide), up2_r, up2_o (by decide)]
  have w13 : W 13 = up1 (m 13) (96 + n) d := by rw [hW, up2_o (by decide), up2_o (by decide), up2_o (by decide), up2_r, up2_o (by decide), up2_o (by decide)]
  have w14 : W 14 = up1 (m 14) (96 + n) g := by rw [hW, up2_o (by decide), up2_o (by decide), up2_r, up2_o (by decide), up2_o (by decide), up2_o (by decide)]
  have w15 : W 15 = up1 (m 15) (96 + n) e := by rw [hW, up2_o (by decide), up2_r, up2_o (by decide), up2_o (by decide), up2_o (by decide), up2_o (by decide)]
  have w10 : W 10 = up1 (m 10) 8 (nI (n + 1)) := by rw [hW, up2_r, up2_o (by decide), up2_o (by decide), up2_o (by decide), up2_o (by decide), up2_o (by decide)]
  obtain ⟨i1, i2, i3, b5, b6, b7, b8, b35, b51, b64, b66, b69, b73, iK, iA, iS, iC, iFm, iz, iT, iR, iRz, iL, iE, iV, iAz⟩ := h
  obtain ⟨⟨v9, v91, v92⟩, v2, v3, v4⟩ := iV
  have n9 : nn m 9 = v9 := nIx v92 (by omega)
  have hA : iAt (nn m 19) (nn m 9) (W 10) (W 11) (m 20) (m 21) (m 22) (m 23) (m 24) (m 25) := by
    rw [w10, w11]
    intro t ht
    obtain ⟨j1, j2, j3, ⟨V, x1, x2⟩, j5, j6⟩ := iA t ht
    have e23 : (m 23 t).toNatClampNeg = V := by rw [x2, nI_clamp (by omega)]
    obtain ⟨n', n1, n2, e10, -⟩ := v4 V x1
    rw [e23] at j5 j6
    rw [e23, up1_n (by omega)]
    refine ⟨j1, j2, j3, ⟨V, x1, x2⟩, j5, fun s => ?_⟩
    obtain ⟨s1, s2⟩ := j6 s
    refine ⟨s1, ?_⟩
    rcases j5 with r | ⟨jj, r1, r2⟩
    · exact absurd r s1
    · rw [e10, nI_clamp (by omega)] at r1
      rw [r2, nI_clamp (by omega)] at s2 ⊢
      rw [up1_n (by omega)]
      exact s2
  have hVe : iVe (m 9 0) (W 10 8) (W 10) (W 11) (W 12) (W 13) (W 14) (W 15) := by
    rw [w10, w11, w12, w13, w14, w15, up1_s]
    refine ⟨⟨v9, v91, v92⟩, ⟨n + 1, by omega, rfl⟩, fun k hk => ?_, fun j hj => ?_⟩
    · rw [nI_clamp (by omega)] at hk
      by_cases q : k = n
      · subst q
        rw [up1_s, up1_s, up1_s, up1_s, up1_s]
        exact ho
      · rw [up1_n (by omega), up1_n (by omega), up1_n (by omega), up1_n (by omega), up1_n (by omega)]
        exact v3 k (by rw [hn, nI_clamp (by omega)]; omega)
    · have hj2 : j < nn m 9 := hj
      obtain ⟨n', n1, n2, e10, st, pu, rk, r1, r2⟩ := v4 j hj
      refine ⟨n', n1, n2, by rw [up1_n (by omega)]; exact e10, fun k hk => ?_, fun k hk => ?_, rk, r1, fun k j2 hk hj3 => ?_⟩
      · rw [up1_n (by omega), up1_n (by omega), up1_n (by omega), up1_n (by omega), up1_n (by omega)]
        exact st k hk
      · have hne : 12 * j + k ≠ 96 + n := by omega
        rw [up1_n hne, up1_n hne, up1_n hne]
        exact pu k hk
      · have hne : 12 * j + k ≠ 96 + n := by omega
        have hne2 : 12 * j + j2 ≠ 96 + n := by omega
        rw [up1_n hne, up1_n hne2, up1_n hne, up1_n hne]
        exact r2 k j2 hk hj3
  rw [hW] at hA hVe
  exact ⟨i1, i2, i3, b5, b6, b7, b8, b35, b51, b64, b66, b69, b73, iK, hA, iS, iC, iFm, iz, iT, iR, iRz, iL, iE, hVe, iAz⟩
