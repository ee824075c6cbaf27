/-! ===== the invariant through a new session ===== -/
theorem Inv.ns {m : Mst} {T : Nat} (h : Inv m T) (hT : T < 24) {p w a b c : Int32} (hp : ix p 6) (hw : w = -1 ∨ ∃ o, o < nn m 30 ∧ w = nI o ∧ m 34 o = -1) : Inv (mW (mNS m p w a b c) 0 (nI (nn m 30))) (T + 1) := by
  obtain ⟨c301, c302⟩ := h.c30 hT
  have hwk : wOK (mNS m p w a b c) := (h.w hT).ns
  have h77 := (h.c77 hT).2
  have e77 : nn (mNS m p w a b c) 77 = nn m 77 := by unfold nn; rw [mNS_o (by decide) (by decide)]
  have hk0 : sml 0 6 := ⟨0, by decide, by decide +kernel⟩
  have hn0 : sml (nI (nn m 30)) 65535 := ⟨nn m 30, by omega, rfl⟩
  have hsum := mW_sum hwk (by omega) hk0 hn0
  have hn77 := nn_w (k := 0) (n := nI (nn m 30)) hwk
  obtain ⟨i1, i2, i3, b5, b6, b7, b8, b35, b51, b64, b66, b69, b73, iK, iA, iS, iC, iFm, iz, iT, iR, iRz, iL, iE, iV, iAz⟩ := h
  have hEn : iEn (nn (mNS m p w a b c) 77) (mNS m p w a b c 78) (mNS m p w a b c 79) (mNS m p w a b c 80) := by
    rw [e77, mNS_o (by decide) (by decide), mNS_o (by decide) (by decide), mNS_o (by decide) (by decide)]; exact iE
  have hEn2 := iEn_w hwk hk0 hn0 hEn
  obtain ⟨r31, r32, r33, r34, r35, r36, r30⟩ := mNS_r (m := m) (p := p) (w := w) (a := a) (b := b) (c := c)
  have e : ∀ F, (F ≠ 30 ∧ F ≠ 31 ∧ F ≠ 32 ∧ F ≠ 33 ∧ F ≠ 34) → (F ≠ 35 ∧ F ≠ 36) → (F ≠ 77 ∧ F ≠ 78 ∧ F ≠ 79 ∧ F ≠ 80 ∧ F ≠ 81) → mW (mNS m p w a b c) 0 (nI (nn m 30)) F = m F := fun F q1 q2 q3 => by rw [mW_o (by simpa only [ne_eq] using q3), mNS_o q1 q2]
  have f31 : mW (mNS m p w a b c) 0 (nI (nn m 30)) 31 = up1 (m 31) (nn m 30) p := by rw [mW_o (by decide), r31]
  have f34 : mW (mNS m p w a b c) 0 (nI (nn m 30)) 34 = up1 (m 34) (nn m 30) w := by rw [mW_o (by decide), r34]
  have f35 : mW (mNS m p w a b c) 0 (nI (nn m 30)) 35 = up1 (m 35) (nn m 30) 1 := by rw [mW_o (by decide), r35]
  have f30 : mW (mNS m p w a b c) 0 (nI (nn m 30)) 30 0 = nI (nn m 30 + 1) := by rw [mW_o (by decide), r30]
  rw [e77] at hsum hn77
  have e00 : mNS m p w a b c 0 0 = m 0 0 := by rw [mNS_o (by decide) (by decide)]
  rw [e00] at hsum
  generalize mW (mNS m p w a b c) 0 (nI (nn m 30)) = W at *
  clear hwk hEn r31 r32 r33 r34 r35 r36 r30 e00
  have n30 : nn W 30 = nn m 30 + 1 := by
    show (W 30 0).toNatClampNeg = _
    rw [f30]; exact nI_clamp (by omega)
  have en : ∀ F, (F ≠ 30 ∧ F ≠ 31 ∧ F ≠ 32 ∧ F ≠ 33 ∧ F ≠ 34) → (F ≠ 35 ∧ F ≠ 36) → (F ≠ 77 ∧ F ≠ 78 ∧ F ≠ 79 ∧ F ≠ 80 ∧ F ≠ 81) → nn W F = nn m F := fun F q1 q2 q3 => by unfold nn; rw [e F q1 q2 q3]
  have hn30 : nn m 30 ≤ T := by
    obtain ⟨k, k1, k2⟩ := i2.2.1
    have : nn m 30 = k := by unfold nn; rw [k2, nI_clamp (by omega)]
    omega
  have x0 := e 0 (by decide) (by decide) (by decide)
  refine ⟨by rw [x0]; exact hsum.1, ?_, ?_, by rw [e 5 (by decide) (by decide) (by decide)]; exact b5, by rw [e 6 (by decide) (by decide) (by decide)]; exact b6, by rw [e 7 (by decide) (by decide) (by decide)]; exact b7, by rw [e 8 (by decide) (by decide) (by decide)]; exact b8, by rw [f35]; exact b35.up _ (Or.inr rfl), by rw [e 51 (by decide) (by decide) (by decide)]; exact b51, by rw [e 64 (by decide) (by decide) (by decide)]; exact b64, by rw [e 66 (by decide) (by decide) (by decide)]; exact b66, by rw [e 69 (by decide) (by decide) (by decide)]; exact b69, by rw [e 73 (by decide) (by decide) (by decide)]; exact b73, ?_, ?_, ?_, ?_, ?_, ?_, ?_, ?_, ?_, ?_, hEn2, ?_, ?_⟩
  · obtain ⟨a1, a2, a3, a4, a5, a6, a7⟩ := i2
    rw [f30, hsum.2, e 19 (by decide) (by decide) (by decide), e 39 (by decide) (by decide) (by decide), e 46 (by decide) (by decide) (by decide), e 52 (by decide) (by decide) (by decide), e 70 (by decide) (by decide) (by decide)]
    exact ⟨a1.mono (by omega), ⟨_, by omega, rfl⟩, a3.mono (by omega), a4.mono (by omega), a5.mono (by omega), a6.mono (by omega), ⟨_, by unfold pt at i3; omega, rfl⟩⟩
  · unfold pt at i3 ⊢
    rw [f35, n30, hn77, en 46 (by decide) (by decide) (by decide), e 51 (by decide) (by decide) (by decide), e 62 (by decide) (by decide) (by decide), cnt_new (by decide)]
    omega
  · rw [x0, e 60 (by decide) (by decide) (by decide), e 61 (by decide) (by decide) (by decide), e 62 (by decide) (by decide) (by decide), e 63 (by decide) (by decide) (by decide), e 64 (by decide) (by decide) (by decide), e 65 (by decide) (by decide) (by decide)]; exact iK
  · rw [en 19 (by decide) (by decide) (by decide), en 9 (by decide) (by decide) (by decide), e 10 (by decide) (by decide) (by decide), e 11 (by decide) (by decide) (by decide), e 20 (by decide) (by decide) (by decide), e 21 (by decide) (by decide) (by decide), e 22 (by decide) (by decide) (by decide), e 23 (by decide) (by decide) (by decide), e 24 (by decide) (by decide) (by decide), e 25 (by decide) (by decide) (by decide)]; exact iA
  · rw [n30, f31, f34]
    intro s hs
    by_cases q : s = nn m 30
    · subst q
      rw [up1_s, up1_s]
      refine ⟨hp, hw.imp id fun ⟨o, o1, o2, o3⟩ => ⟨o, o1, o2, ?_⟩⟩
      rw [up1_n (by omega)]; exact o3
    · rw [up1_n q, up1_n q]
      obtain ⟨j1, j2⟩ := iS s (by omega)
      refine ⟨j1, j2.imp id fun ⟨o, o1, o2, o3⟩ => ⟨o, o1, o2, ?_⟩⟩
      rw [up1_n (by omega)]; exact o3
  · rw [en 39 (by decide) (by decide) (by decide), n30, en 46 (by decide) (by decide) (by decide), e 40 (by decide) (by decide) (by decide), e 41 (by decide) (by decide) (by decide), e 42 (by decide) (by decide) (by decide), e 45 (by decide) (by decide) (by decide)]
    intro c hc
    obtain ⟨j1, j2⟩ := iC c hc
    exact ⟨j1.mono (by omega), j2⟩
  · rw [en 46 (by decide) (by decide) (by decide), en 39 (by decide) (by decide) (by decide), e 47 (by decide) (by decide) (by decide), e 51 (by decide) (by decide) (by decide), e 69 (by decide) (by decide) (by decide)]; exact iFm
  · rw [en 46 (by decide) (by decide) (by decide), e 69 (by decide) (by decide) (by decide)]; exact iz
  · rw [en 52 (by decide) (by decide) (by decide), en 46 (by decide) (by decide) (by decide), e 60 (by decide) (by decide) (by decide), e 53 (by decide) (by decide) (by decide), e 54 (by decide) (by decide) (by decide), e 57 (by decide) (by decide) (by decide), e 58 (by decide) (by decide) (by decide), e 59 (by decide) (by decide) (by decide)]; exact iT
  · rw [en 70 (by decide) (by decide) (by decide), e 71 (by decide) (by decide) (by decide), e 74 (by decide) (by decide) (by decide)]; exact iR
  · rw [en 70 (by decide) (by decide) (by decide), e 74 (by decide) (by decide) (by decide), e 75 (by decide) (by decide) (by decide)]; exact iRz
  · rw [e 76 (by decide) (by decide) (by decide)]; exact iL
  · rw [e 9 (by decide) (by decide) (by decide), e 10 (by decide) (by decide) (by decide), e 11 (by decide) (by decide) (by decide), e 12 (by decide) (by decide) (by decide), e 13 (by decide) (by decide) (by decide), e 14 (by decide) (by decide) (by decide), e 15 (by decide) (by decide) (by decide)]; exact iV
  · rw [en 19 (by decide) (by decide) (by decide), e 26 (by decide) (by decide) (by decide), e 27 (by decide) (by decide) (by decide)]; exact iAz
