/-! ===== endSession of the model ===== -/
def chF (a1 : Int32) : (Int32 × Int32 → PM Int32) → Int32 × Int32 → PM Int32 := fun r7 => un2 fun u5 u6 => qI 30 fun v10 => qc (v10 ≤ u6) (qrt u5) (qa 35 60 u6 fun v15 => qc (v15 = 0) (r7 (u5, (u6 + (1 : Int32)))) (qa 34 60 u6 fun v20 => qc (v20 = a1) (qz 35 60 u6 (0 : Int32) <| qbd (q_write (1 : Int32) u6) (fun _ => qbd (q_endFamiliesOf u6) (fun _ => r7 ((u5 + (1 : Int32)), (u6 + (1 : Int32)))))) (r7 (u5, (u6 + (1 : Int32))))))
theorem q_endSession_eq {m : Mst} {s : Nat} (h : EI m) (hs : s < nn m 30) (hl : m 35 s ≠ 0) : q_endSession (nI s) m = some (nI (mES m s).2, (mES m s).1) := by
  have h30 := h.2.2.1
  unfold q_endSession
  rw [qz_e rfl (by omega) (by decide) (Or.inl rfl), qbd_e (q_write_eq (h.1.o (by decide)))]
  have e1 : EI (mLv m s) := h.lv hs hl
  show qbd (qlN (chF (nI s)) 100000 (1, 0)) (fun u8 => qbd (q_endFamiliesOf (nI s)) (fun _ => qrt u8)) (mLv m s) = _
  have n30 : nn (mLv m s) 30 = nn m 30 := by unfold nn; rw [mLv_o (by decide) (by decide)]
  have n46 : nn (mLv m s) 46 = nn m 46 := by unfold nn; rw [mLv_o (by decide) (by decide)]
  unfold mES
  generalize mLv m s = m1 at e1 n30 n46 ⊢
  have key : ∀ d j fuel, j + d = nn m 30 → d < fuel → qlN (chF (nI s)) fuel (nI (mCh m1 s j).2, nI j) (mCh m1 s j).1 = some (nI (mCh m1 s (nn m 30)).2, (mCh m1 s (nn m 30)).1) := by
    intro d
    induction d with
    | zero =>
      intro j fuel hj hf
      obtain ⟨g, rfl⟩ : ∃ g, fuel = g + 1 := ⟨fuel - 1, by omega⟩
      have hj' : j = nn m 30 := by omega
      show qc ((mCh m1 s j).1 30 0 ≤ nI j) _ _ _ = _
      rw [qc_t, ← hj']
      · rfl
      · rw [mCh_o (by decide) (by decide) (by decide), e1.2.2.1.1, n30, hj']
        exact nI_le (Nat.le_refl _) (by omega)
    | succ d ih =>
      intro j fuel hj hf
      obtain ⟨g, rfl⟩ : ∃ g, fuel = g + 1 := ⟨fuel - 1, by omega⟩
      have hi := ih (j + 1) g (by omega) (by omega)
      obtain ⟨ec, -⟩ := e1.ch (s := s) j (by omega)
      have c46 : nn (mCh m1 s j).1 46 = nn m1 46 := mCh_n (by decide) (by decide) (by decide) j
      have c30 : nn (mCh m1 s j).1 30 = nn m1 30 := mCh_n (by decide) (by decide) (by decide) j
      show qc ((mCh m1 s j).1 30 0 ≤ nI j) _ _ _ = _
      rw [qc_f (by rw [mCh_o (by decide) (by decide) (by decide), e1.2.2.1.1, n30]; exact nI_ge (by omega) (by omega)), qa_e rfl (by omega) (by decide)]
      rw [mCh] at hi
      by_cases h1 : (mCh m1 s j).1 35 j = 0
      · rw [qc_t h1]
        rw [if_neg (fun r => r.1 h1)] at hi
        show qlN _ g (nI (mCh m1 s j).2, nI j + 1) _ = _
        rw [nI_1]; exact hi
      · rw [qc_f h1, qa_e rfl (by omega) (by decide)]
        by_cases h2 : (mCh m1 s j).1 34 j = nI s
        · rw [qc_t h2, qz_e rfl (by omega) (by decide) (Or.inl rfl), qbd_e (q_write_eq (ec.1.o (by decide)))]
          rw [if_pos ⟨h1, h2⟩] at hi
          have el := ec.lv (s := j) (by omega) h1
          have hl46 : nn (mLv (mCh m1 s j).1 j) 46 = nn m1 46 := by
            have : nn (mLv (mCh m1 s j).1 j) 46 = nn (mCh m1 s j).1 46 := by unfold nn; rw [mLv_o (by decide) (by decide)]
            omega
          have hq := q_efs_eq (s := j) el
          rw [hl46] at hq
          show qbd (q_endFamiliesOf (nI j)) _ (mLv (mCh m1 s j).1 j) = _
          rw [qbd_e hq]
          show qlN _ g (nI (mCh m1 s j).2 + 1, nI j + 1) _ = _
          rw [nI_1, nI_1]; exact hi
        · rw [qc_f h2]
          rw [if_neg (fun r => h2 r.2)] at hi
          show qlN _ g (nI (mCh m1 s j).2, nI j + 1) _ = _
          rw [nI_1]; exact hi
  have hk := key (nn m 30) 0 100000 (by omega) (by omega)
  have e00 : (nI (mCh m1 s 0).2, nI 0) = ((1 : Int32), (0 : Int32)) := by
    show (nI 1, nI 0) = _
    decide +kernel
  rw [e00] at hk
  rw [qbd_e (show qlN (chF (nI s)) 100000 (1, 0) m1 = _ from hk)]
  obtain ⟨ec, -⟩ := e1.ch (s := s) (nn m 30) (by omega)
  have hq := q_efs_eq (s := s) ec
  have c46 : nn (mCh m1 s (nn m 30)).1 46 = nn m 46 := by rw [mCh_n (by decide) (by decide) (by decide)]; exact n46
  rw [c46] at hq
  rw [qbd_e hq]
  rfl
