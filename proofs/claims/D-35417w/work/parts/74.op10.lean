/-! ===== operations (10): act ===== -/
theorem up2_cm {m : Mst} {F F' i i' : Nat} {x y : Int32} (h : F ≠ F') : up2 (up2 m F i x) F' i' y = up2 (up2 m F' i' y) F i x := by
  funext a b
  by_cases q : a = F
  · subst q
    rw [up2_o h, up2_r, up2_r, up2_o h]
  · by_cases r : a = F'
    · subst r
      rw [up2_r, up2_o q, up2_o q, up2_r]
    · rw [up2_o r, up2_o q, up2_o q, up2_o r]
theorem mW_36 {m : Mst} {k n x : Int32} {i : Nat} : mW (up2 m 36 i x) k n = up2 (mW m k n) 36 i x := by
  have e : nn (up2 m 36 i x) 77 = nn m 77 := nn_o (by decide)
  unfold mW
  have e0 : up2 m 36 i x 0 0 = m 0 0 := by rw [up2_o (by decide)]
  have e1 : up2 m 36 i x 81 0 = m 81 0 := by rw [up2_o (by decide)]
  rw [e, e0, e1, up2_cm (F := 36) (F' := 78) (by decide), up2_cm (F := 36) (F' := 79) (by decide), up2_cm (F := 36) (F' := 80) (by decide), up2_cm (F := 36) (F' := 77) (by decide), up2_cm (F := 36) (F' := 81) (by decide)]
theorem up2_w {m : Mst} {F i : Nat} {x y : Int32} : up2 (up2 m F i x) F i y = up2 m F i y := by
  funext a b
  by_cases q : a = F
  · subst q
    rw [up2_r, up2_r, up2_r]
    by_cases r : b = i
    · subst r; rw [up1_s, up1_s]
    · rw [up1_n r, up1_n r, up1_n r]
  · rw [up2_o q, up2_o q, up2_o q]
theorem up2_cs {m : Mst} {F i i' : Nat} {x y : Int32} (h : i ≠ i') : up2 (up2 m F i x) F i' y = up2 (up2 m F i' y) F i x := by
  funext a b
  by_cases q : a = F
  · subst q
    rw [up2_r, up2_r, up2_r, up2_r]
    by_cases r : b = i
    · subst r; rw [up1_n h, up1_s, up1_s]
    · rw [up1_n r]
      by_cases t : b = i'
      · subst t; rw [up1_s, up1_s]
      · rw [up1_n t, up1_n t, up1_n r]
  · rw [up2_o q, up2_o q, up2_o q, up2_o q]
theorem mNS_36 {m : Mst} {p w a b c a' b' c' : Int32} : up2 (up2 (up2 (mNS m p w a b c) 36 (3 * nn m 30) a') 36 (3 * nn m 30 + 1) b') 36 (3 * nn m 30 + 2) c' = mNS m p w a' b' c' := by
  unfold mNS
  generalize up2 (up2 (up2 (up2 (up2 m 31 (nn m 30) p) 32 (nn m 30) (m 0 0)) 33 (nn m 30) (m 0 0)) 34 (nn m 30) w) 35 (nn m 30) 1 = Y
  generalize nn m 30 = N
  rw [up2_cm (F := 30) (F' := 36) (by decide), up2_cs (i := 3 * N + 2) (i' := 3 * N) (by omega), up2_cs (i := 3 * N + 1) (i' := 3 * N) (by omega), up2_w]
  rw [up2_cm (F := 30) (F' := 36) (by decide), up2_cs (i := 3 * N + 2) (i' := 3 * N + 1) (by omega), up2_w, up2_cm (F := 30) (F' := 36) (by decide), up2_w]
/-- a session's factors copied to a new one -/
def cpF (a1 v7 : Int32) : (Int32 → PM Int32) → Int32 → PM Int32 := fun r9 => fun u8 => qc ((3 : Int32) ≤ u8) (qrt v7) (qa 36 180 (((3 : Int32) * a1) + u8) fun v15 => qw 36 180 (((3 : Int32) * v7) + u8) v15 <| r9 (u8 + (1 : Int32)))
theorem q_copy {W : Mst} {s N : Nat} (hs : s < N) (hN : N < 60) : (qlp (σ := Int32) (cpF (nI s) (nI N)) 0) W = some (nI N, up2 (up2 (up2 W 36 (3 * N) (W 36 (3 * s))) 36 (3 * N + 1) (W 36 (3 * s + 1))) 36 (3 * N + 2) (W 36 (3 * s + 2))) := by
  show cpF (nI s) (nI N) (qlN (cpF (nI s) (nI N)) 99999) 0 W = _
  show qc ((3 : Int32) ≤ 0) _ _ W = _
  rw [qc_f (by decide), show (0 : Int32) = nI 0 from nI_0.symm, qa_e (ix3p (k := 0)) (by omega) (by decide), qw_e (ix3p (k := 0)) (by omega) (by decide)]
  show cpF (nI s) (nI N) (qlN (cpF (nI s) (nI N)) 99998) (nI 0 + 1) _ = _
  show qc ((3 : Int32) ≤ nI 0 + 1) _ _ _ = _
  rw [qc_f (by decide +kernel), show nI 0 + 1 = nI 1 from nI_1 0, qa_e (ix3p (k := 1)) (by omega) (by decide), qw_e (ix3p (k := 1)) (by omega) (by decide)]
  show cpF (nI s) (nI N) (qlN (cpF (nI s) (nI N)) 99997) (nI 1 + 1) _ = _
  show qc ((3 : Int32) ≤ nI 1 + 1) _ _ _ = _
  rw [qc_f (by decide +kernel), show nI 1 + 1 = nI 2 from nI_1 1, qa_e (ix3p (k := 2)) (by omega) (by decide), qw_e (ix3p (k := 2)) (by omega) (by decide)]
  show cpF (nI s) (nI N) (qlN (cpF (nI s) (nI N)) 99996) (nI 2 + 1) _ = _
  show qc ((3 : Int32) ≤ nI 2 + 1) _ _ _ = _
  rw [qc_t (by decide +kernel)]
  show some (nI N, _) = _
  rw [up2_n (x := 36) (y := 3 * s + 1) (by omega), up2_n (x := 36) (y := 3 * s + 2) (by omega), up2_n (x := 36) (y := 3 * s + 2) (by omega)]
  rfl
theorem q_newCopy {m : Mst} {p : Int32} {s : Nat} (hw : wOK m) (h30 : m 30 0 = nI (nn m 30)) (hS : nn m 30 < 60) (hs : s < nn m 30) : (qbd (q_newSession p (nI s)) fun v7 => qlp (σ := Int32) (cpF (nI s) v7) (0 : Int32)) m = some (nI (nn m 30), mW (mNS m p (nI s) (m 36 (3 * s)) (m 36 (3 * s + 1)) (m 36 (3 * s + 2))) 0 (nI (nn m 30))) := by
  rw [qbd_e (q_newSession_eq hw h30 hS), h30, q_copy hs hS]
  have e : ∀ j, j < 3 * nn m 30 → mW (mNS m p (nI s) (-1) (-1) (-1)) 0 (nI (nn m 30)) 36 j = m 36 j := fun j hj => by
    rw [mW_o (by decide), mNS_r.2.2.2.2.2.1, up1_n (by omega), up1_n (by omega), up1_n (by omega)]
  rw [e _ (by omega), e _ (by omega), e _ (by omega), ← mW_36, ← mW_36, ← mW_36, mNS_36]
