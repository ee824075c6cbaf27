/-! ===== an attempt goes on: a session granted, what it comes to ===== -/
theorem up2_eta {m : Mst} {F i : Nat} : up2 m F i (m F i) = m := by
  funext x y
  unfold up2
  split
  · rename_i q; rw [q.1, q.2]
  · rfl
theorem Inv.mns {m : Mst} {T : Nat} (h : Inv m T) (hT : T ≤ 24) (h30 : nn m 30 < T) (hle : nn m 77 + (pt m + 1) ≤ 4 * T) {p w a b c : Int32} (hp : ix p 6) (hw : w = -1 ∨ ∃ o, o < nn m 30 ∧ w = nI o ∧ m 34 o = -1) : Inv (mNS m p w a b c) T ∧ nn (mNS m p w a b c) 77 = nn m 77 ∧ pt (mNS m p w a b c) = pt m + 1 := by
  obtain ⟨r31, r32, r33, r34, r35, r36, r30⟩ := mNS_r (m := m) (p := p) (w := w) (a := a) (b := b) (c := c)
  have e : ∀ F, (F ≠ 30 ∧ F ≠ 31 ∧ F ≠ 32 ∧ F ≠ 33 ∧ F ≠ 34) → (F ≠ 35 ∧ F ≠ 36) → mNS m p w a b c F = m F := fun F q1 q2 => mNS_o q1 q2
  generalize mNS m p w a b c = W at *
  have n30 : nn W 30 = nn m 30 + 1 := by
    show (W 30 0).toNatClampNeg = _
    rw [r30]; exact nI_clamp (by omega)
  have en : ∀ F, (F ≠ 30 ∧ F ≠ 31 ∧ F ≠ 32 ∧ F ≠ 33 ∧ F ≠ 34) → (F ≠ 35 ∧ F ≠ 36) → nn W F = nn m F := fun F q1 q2 => by unfold nn; rw [e F q1 q2]
  obtain ⟨i1, i2, i3, b5, b6, b7, b8, b35, b51, b64, b66, b69, b73, iK, iA, iS, iC, iFm, iz, iT, iR, iRz, iL, iE, iV, iAz⟩ := h
  have hpt : pt W = pt m + 1 := by
    unfold pt
    rw [r35, n30, en 46 (by decide) (by decide), e 51 (by decide) (by decide), e 62 (by decide) (by decide), cnt_new (by decide)]
    omega
  have e77 : nn W 77 = nn m 77 := en 77 (by decide) (by decide)
  refine ⟨?_, e77, hpt⟩
  unfold Inv
  simp only [e 0 (by decide) (by decide), e 81 (by decide) (by decide), e 19 (by decide) (by decide), e 39 (by decide) (by decide), e 46 (by decide) (by decide), e 52 (by decide) (by decide), e 70 (by decide) (by decide), e 77 (by decide) (by decide), e 5 (by decide) (by decide), e 6 (by decide) (by decide), e 7 (by decide) (by decide), e 8 (by decide) (by decide), e 51 (by decide) (by decide), e 64 (by decide) (by decide), e 66 (by decide) (by decide), e 69 (by decide) (by decide), e 73 (by decide) (by decide), e 60 (by decide) (by decide), e 61 (by decide) (by decide), e 62 (by decide) (by decide), e 63 (by decide) (by decide), e 65 (by decide) (by decide), e 9 (by decide) (by decide), e 10 (by decide) (by decide), e 11 (by decide) (by decide), e 20 (by decide) (by decide), e 21 (by decide) (by decide), e 22 (by decide) (by decide), e 23 (by decide) (by decide), e 24 (by decide) (by decide), e 25 (by decide) (by decide), e 40 (by decide) (by decide), e 41 (by decide) (by decide), e 42 (by decide) (by decide), e 45 (by decide) (by decide), e 47 (by decide) (by decide), e 53 (by decide) (by decide), e 54 (by decide) (by decide), e 57 (by decide) (by decide), e 58 (by decide) (by decide), e 59 (by decide) (by decide), e 71 (by decide) (by decide), e 74 (by decide) (by decide), e 75 (by decide) (by decide), e 76 (by decide) (by decide), e 78 (by decide) (by decide), e 79 (by decide) (by decide), e 80 (by decide) (by decide), e 12 (by decide) (by decide), e 13 (by decide) (by decide), e 14 (by decide) (by decide), e 15 (by decide) (by decide), e 26 (by decide) (by decide), e 27 (by decide) (by decide), en 9 (by decide) (by decide), en 19 (by decide) (by decide), en 39 (by decide) (by decide), en 46 (by decide) (by decide), en 52 (by decide) (by decide), en 70 (by decide) (by decide), en 77 (by decide) (by decide), n30, r30, r31, r34, r35, hpt]
  obtain ⟨a1, a2, a3, a4, a5, a6, a7⟩ := i2
  refine ⟨i1, ⟨a1, ⟨nn m 30 + 1, by omega, rfl⟩, a3, a4, a5, a6, a7⟩, hle, b5, b6, b7, b8, b35.up _ (Or.inr rfl), b51, b64, b66, b69, b73, iK, iA, fun s hs => ?_, fun s hs => ?_, iFm, iz, iT, iR, iRz, iL, iE, iV, iAz⟩
  · by_cases q : s = nn m 30
    · subst q
      rw [up1_s, up1_s]
      refine ⟨hp, hw.imp id fun ⟨o, o1, o2, o3⟩ => ⟨o, o1, o2, ?_⟩⟩
      rw [up1_n (by omega)]; exact o3
    · rw [up1_n q, up1_n q]
      obtain ⟨j1, j2⟩ := iS s (by omega)
      refine ⟨j1, j2.imp id fun ⟨o, o1, o2, o3⟩ => ⟨o, o1, o2, ?_⟩⟩
      rw [up1_n (by omega)]; exact o3
  · obtain ⟨j1, j2⟩ := iC s hs
    exact ⟨j1.mono (by omega), j2⟩
theorem Inv.gs {m : Mst} {T a V n : Nat} {r s x : Int32} (h : Inv (up2 (up2 m 24 a x) 25 a 2) T) (ha : a < nn m 19) (e23 : m 23 a = nI V) (hV : V < 8) (h10 : m 10 V = nI n) (hn : n ≤ 12) (hr : ixn r n) (hs : s = 0 → r ≠ -1 ∧ m 11 (12 * V + r.toNatClampNeg) = 0) : Inv (up2 (up2 (up2 m 24 a r) 26 a 0) 25 a s) T := by
  obtain ⟨i1, i2, i3, b5, b6, b7, b8, b35, b51, b64, b66, b69, b73, iK, iA, iS, iC, iFm, iz, iT, iR, iRz, iL, iE, iV, iAz⟩ := h
  have e24 : up2 (up2 (up2 m 24 a r) 26 a 0) 25 a s 24 = up1 (m 24) a r := by rw [up2_o (by decide), up2_o (by decide), up2_r]
  have e25 : up2 (up2 (up2 m 24 a r) 26 a 0) 25 a s 25 = up1 (m 25) a s := by rw [up2_r, up2_o (by decide), up2_o (by decide)]
  have f24 : up2 (up2 m 24 a x) 25 a 2 24 = up1 (m 24) a x := by rw [up2_o (by decide), up2_r]
  have f25 : up2 (up2 m 24 a x) 25 a 2 25 = up1 (m 25) a 2 := by rw [up2_r, up2_o (by decide)]
  refine ⟨i1, i2, i3, b5, b6, b7, b8, b35, b51, b64, b66, b69, b73, iK, ?_, iS, iC, iFm, iz, iT, iR, iRz, iL, iE, iV, iAz⟩
  show iAt (nn m 19) (nn m 9) (m 10) (m 11) (m 20) (m 21) (m 22) (m 23) (up2 (up2 (up2 m 24 a r) 26 a 0) 25 a s 24) (up2 (up2 (up2 m 24 a r) 26 a 0) 25 a s 25)
  have iA : iAt (nn m 19) (nn m 9) (m 10) (m 11) (m 20) (m 21) (m 22) (m 23) (up2 (up2 m 24 a x) 25 a 2 24) (up2 (up2 m 24 a x) 25 a 2 25) := iA
  rw [f24, f25] at iA
  rw [e24, e25]
  intro i hi
  obtain ⟨j1, j2, j3, j4, j5, j6⟩ := iA i hi
  by_cases q : i = a
  · subst q
    rw [up1_s, up1_s]
    refine ⟨j1, j2, j3, j4, ?_, fun t => ?_⟩
    · rw [e23, nI_clamp (by omega), h10, nI_clamp (by omega)]; exact hr
    · rw [e23, nI_clamp (by omega)]; exact hs t
  · rw [up1_n q] at j5
    rw [up1_n q, up1_n q] at j6
    rw [up1_n q, up1_n q]
    exact ⟨j1, j2, j3, j4, j5, j6⟩
/-- a session granted to an attempt -/
def mGr (m : Mst) (a p d l : Nat) : Mst := up2 (up2 (up2 (mW (mNS m (nI p) (-1) (m 29 (3 * a)) (m 29 (3 * a + 1)) (m 29 (3 * a + 2))) 0 (nI (nn m 30))) 28 a (nI (nn m 30))) 5 (6 * p + d) 1) 6 (6 * p + l) 1
theorem mGr_o {m : Mst} {a p d l F : Nat} (h : F ≠ 77 ∧ F ≠ 78 ∧ F ≠ 79 ∧ F ≠ 80 ∧ F ≠ 81) (h2 : F ≠ 30 ∧ F ≠ 31 ∧ F ≠ 32 ∧ F ≠ 33 ∧ F ≠ 34) (h3 : F ≠ 35 ∧ F ≠ 36) (h4 : F ≠ 5 ∧ F ≠ 6 ∧ F ≠ 28) : mGr m a p d l F = m F := by
  unfold mGr
  rw [up2_o h4.2.1, up2_o h4.1, up2_o h4.2.2, mW_o h, mNS_o h2 h3]
theorem Inv.gr {m : Mst} {T a p d l : Nat} (h : Inv m T) (hT : T ≤ 24) (h30 : nn m 30 < T) (hle : nn m 77 + pt m + 2 ≤ 4 * T) (hp : p < 6) : Inv (mGr m a p d l) T := by
  obtain ⟨h1, h2, h3⟩ := h.mns hT h30 (by omega) (p := nI p) (w := -1) (a := m 29 (3 * a)) (b := m 29 (3 * a + 1)) (c := m 29 (3 * a + 2)) ⟨p, hp, rfl⟩ (Or.inl rfl)
  have h4 := h1.wr (k := 0) (n := nI (nn m 30)) hT ⟨0, by decide, by decide +kernel⟩ ⟨nn m 30, by omega, rfl⟩ (by omega)
  unfold mGr
  generalize mW (mNS m (nI p) (-1) (m 29 (3 * a)) (m 29 (3 * a + 1)) (m 29 (3 * a + 2))) 0 (nI (nn m 30)) = W at h4
  have h5 : Inv (up2 W 28 a (nI (nn m 30))) T := h4
  generalize up2 W 28 a (nI (nn m 30)) = W at h5
  have e5 : up2 (up2 W 5 (6 * p + d) 1) 6 (6 * p + l) 1 5 = up1 (W 5) (6 * p + d) 1 := by rw [up2_o (by decide), up2_r]
  have e6 : up2 (up2 W 5 (6 * p + d) 1) 6 (6 * p + l) 1 6 = up1 (W 6) (6 * p + l) 1 := by rw [up2_r, up2_o (by decide)]
  obtain ⟨i1, i2, i3, b5, b6, b7, b8, b35, b51, b64, b66, b69, b73, iK, iA, iS, iC, iFm, iz, iT, iR, iRz, iL, iE, iV, iAz⟩ := h5
  exact ⟨i1, i2, i3, (by rw [e5]; exact b5.up _ (Or.inr rfl)), (by rw [e6]; exact b6.up _ (Or.inr rfl)), b7, b8, b35, b51, b64, b66, b69, b73, iK, iA, iS, iC, iFm, iz, iT, iR, iRz, iL, iE, iV, iAz⟩
def grF (a1 : Int32) : (Int32 → PM Unit) → Int32 → PM Unit := (fun r18 => fun u17 => qc ((3 : Int32) ≤ u17) (qrt ()) (qa 28 60 a1 fun v25 => qa 29 180 (((3 : Int32) * a1) + u17) fun v29 => qw 36 180 (((3 : Int32) * v25) + u17) v29 <| r18 (u17 + (1 : Int32))))
theorem q_grLoop {W : Mst} {a N : Nat} (ha : a < 60) (hN : N < 60) (e28 : W 28 a = nI N) : qlp (σ := Int32) (grF (nI a)) (0 : Int32) W = some ((), up2 (up2 (up2 W 36 (3 * N) (W 29 (3 * a))) 36 (3 * N + 1) (W 29 (3 * a + 1))) 36 (3 * N + 2) (W 29 (3 * a + 2))) := by
  show grF (nI a) (qlN (grF (nI a)) 99999) 0 W = _
  show qc ((3 : Int32) ≤ 0) _ _ W = _
  rw [qc_f (by decide), show (0 : Int32) = nI 0 from nI_0.symm, qa_e rfl ha (by decide), e28, qa_e (ix3p (k := 0)) (by omega) (by decide), qw_e (ix3p (k := 0)) (by omega) (by decide)]
  show grF (nI a) (qlN (grF (nI a)) 99998) (nI 0 + 1) _ = _
  show qc ((3 : Int32) ≤ nI 0 + 1) _ _ _ = _
  rw [qc_f (by decide +kernel), show nI 0 + 1 = nI 1 from nI_1 0, qa_e rfl ha (by decide), show up2 W 36 (3 * N + 0) (W 29 (3 * a + 0)) 28 a = nI N from e28, qa_e (ix3p (k := 1)) (by omega) (by decide), qw_e (ix3p (k := 1)) (by omega) (by decide)]
  show grF (nI a) (qlN (grF (nI a)) 99997) (nI 1 + 1) _ = _
  show qc ((3 : Int32) ≤ nI 1 + 1) _ _ _ = _
  rw [qc_f (by decide +kernel), show nI 1 + 1 = nI 2 from nI_1 1, qa_e rfl ha (by decide), show up2 (up2 W 36 (3 * N + 0) (W 29 (3 * a + 0))) 36 (3 * N + 1) (up2 W 36 (3 * N + 0) (W 29 (3 * a + 0)) 29 (3 * a + 1)) 28 a = nI N from e28, qa_e (ix3p (k := 2)) (by omega) (by decide), qw_e (ix3p (k := 2)) (by omega) (by decide)]
  show grF (nI a) (qlN (grF (nI a)) 99996) (nI 2 + 1) _ = _
  show qc ((3 : Int32) ≤ nI 2 + 1) _ _ _ = _
  rw [qc_t (by decide +kernel)]
  rfl
theorem q_grant_eq {m : Mst} {a p d l : Nat} (hw : wOK m) (ha : a < 60) (hp : p < 6) (hd : d < 6) (hl : l < 6) (h30 : m 30 0 = nI (nn m 30)) (hS : nn m 30 < 60) (e20 : m 20 a = nI p) (e21 : m 21 a = nI d) (e22 : m 22 a = nI l) : q_grant (nI a) m = some ((), mGr (up2 m 25 a 1) a p d l) := by
  unfold q_grant
  rw [qI_d, qc_f (by rw [h30, show (60 : Int32) = nI 60 from by decide +kernel]; exact fun r => absurd ((nI_eq (by omega) (by omega)).mp r) (by omega)), qa_e rfl ha (by decide), e20, qw_e rfl ha (by decide)]
  have g30 : up2 m 25 a 1 30 0 = nI (nn (up2 m 25 a 1) 30) := h30
  have n30 : nn (up2 m 25 a 1) 30 < 60 := hS
  have g21 : up2 m 25 a 1 21 a = nI d := e21
  have g22 : up2 m 25 a 1 22 a = nI l := e22
  have hw2 : wOK (up2 m 25 a 1) := hw.o (by decide)
  generalize up2 m 25 a 1 = m3 at g30 n30 g21 g22 hw2 ⊢
  rw [qbd_e (q_newSession_eq hw2 g30 n30), g30, qw_e rfl ha (by decide)]
  have hl := q_grLoop (W := up2 (mW (mNS m3 (nI p) (-1) (-1) (-1) (-1)) 0 (nI (nn m3 30))) 28 a (nI (nn m3 30))) ha n30 up2_s
  refine qbd_t hl ?_
  have v29 : ∀ j, up2 (mW (mNS m3 (nI p) (-1) (-1) (-1) (-1)) 0 (nI (nn m3 30))) 28 a (nI (nn m3 30)) 29 j = m3 29 j := fun j => by rw [up2_o (by decide), mW_o (by decide), mNS_o (by decide) (by decide)]
  rw [v29, v29, v29, up2_cm (F := 28) (F' := 36) (by decide), up2_cm (F := 28) (F' := 36) (by decide), up2_cm (F := 28) (F' := 36) (by decide), ← mW_36, ← mW_36, ← mW_36, mNS_36]
  have k21 : up2 (mW (mNS m3 (nI p) (-1) (m3 29 (3 * a)) (m3 29 (3 * a + 1)) (m3 29 (3 * a + 2))) 0 (nI (nn m3 30))) 28 a (nI (nn m3 30)) 21 a = nI d := by rw [up2_o (by decide), mW_o (by decide), mNS_o (by decide) (by decide)]; exact g21
  have k22 : up2 (mW (mNS m3 (nI p) (-1) (m3 29 (3 * a)) (m3 29 (3 * a + 1)) (m3 29 (3 * a + 2))) 0 (nI (nn m3 30))) 28 a (nI (nn m3 30)) 22 a = nI l := by rw [up2_o (by decide), mW_o (by decide), mNS_o (by decide) (by decide)]; exact g22
  unfold mGr
  generalize up2 (mW (mNS m3 (nI p) (-1) (m3 29 (3 * a)) (m3 29 (3 * a + 1)) (m3 29 (3 * a + 2))) 0 (nI (nn m3 30))) 28 a (nI (nn m3 30)) = W at k21 k22 ⊢
  rw [qa_e rfl ha (by decide), k21, qz_e ix6 (by omega) (by decide) (Or.inr rfl), qa_e rfl ha (by decide), show up2 W 5 (6 * p + d) 1 22 a = nI l from k22, qz_e ix6 (by omega) (by decide) (Or.inr rfl)]
  rfl
theorem CRh.knowsPC {U : (Nat → List Nat) → Prop} {nL : Nat} {v : Vw} {m m0 : Mst} {o : Nat × Int64} {b T : Nat} (h : CCh U nL v m m0 o (b + 3) T) {p d : Nat} (hp : p < 6) (hd : d < 6) : CCh U nL (uBs v (2 + 2 * p) (up1 (vB v (2 + 2 * p)) d true) 3) (up2 m 6 (6 * p + d) 1) m0 o b T := ⟨h.1.knowsP hp hd, MR.oBs h.2.1, h.2.2⟩
theorem CRh.knowsDC {U : (Nat → List Nat) → Prop} {nL : Nat} {v : Vw} {m m0 : Mst} {o : Nat × Int64} {b T : Nat} (h : CCh U nL v m m0 o (b + 3) T) {p d : Nat} (hp : p < 6) (hd : d < 6) : CCh U nL (uBs v (1 + 2 * p) (up1 (vB v (1 + 2 * p)) d true) 3) (up2 m 5 (6 * p + d) 1) m0 o b T := ⟨h.1.knowsD hp hd, MR.oBs h.2.1, h.2.2⟩
theorem c_grant {U : (Nat → List Nat) → Prop} {nL : Nat} {v : Vw} {m m0 : Mst} {o : Nat × Int64} {b T a p d l : Nat} (h : CCh U nL v m m0 o (b + 6 + 260 + 300 + 100) T) (hwk : wOK m) (hS : nn m 30 ≤ 24) (ha : a < nn m 19) (hp : p < 6) (hd : d < 6) (hl : l < 6) (e20 : m 20 a = nI p) (e21 : m 21 a = nI d) (e22 : m 22 a = nI l) {P : Unit → Vw → Prop} {X : String → Vw → Prop} (hP : ∀ v', CCh U nL v' (mGr m a p d l) m0 o b T → P () v') : (hgR 7 a 11 fun v49 => hgR 7 a 0 fun v50 => hgR 7 a 8 fun v51 => hgI 7 a 9 fun v52 => hisK 0 v49 fun i53 => hisK 32 v51 fun i55 => hbn0 (h_X1_beginSession i53 v50 nul i55 v52) (fun v57 => hpI 7 a 10 v57 <| hgR 7 a 0 fun v58 => hisK 2 v58 fun i59 => hgR 2 i59 6 fun v61 => hgI 7 a 1 fun v62 => hisK 14 v61 fun i63 => hbn0 (h_J18_set i63 v62) (fun _ => hgR 7 a 0 fun v66 => hisK 2 v66 fun i67 => hgR 2 i67 7 fun v69 => hgI 7 a 2 fun v70 => hisK 14 v69 fun i71 => hbn0 (h_J18_set i71 v70) (fun _ => hrt ())))) P X v := by
  have ex : ∀ (w : Vw) (M : Mst) (B : Nat), CCh U nL w M m0 o B T → nn M 19 = nn m 19 → M 20 a = nI p → vN w 7 a 0 = idc 2 p := fun w M B hw hn e => by
    have := hw.1.hR70 a (by omega)
    rw [e, rf_ix (by omega)] at this
    exact this
  have h14 : ∀ (w : Vw) (M : Mst) (B : Nat), CCh U nL w M m0 o B T → 21 ≤ vK w 14 := fun w M B hw => hw.1.hCt.2.2.2.2.2.2.2.2.2.1
  obtain ⟨s1, s2, s3, s4, s5, s6⟩ := h.1.hSa a ha
  have n11 : vN v 7 a 11 = idc 0 0 := h.1.hT7 a ha
  refine hgR_e n11 (hgR_e (ex v m _ h rfl e20) (hgR_e s1 (hgI_e s5 (hisK_i (hisK_i (hbn0_i ?_))))))
  refine c_begin (a := m 29 (3 * a)) (b' := m 29 (3 * a + 1)) (c := m 29 (3 * a + 2)) (p := nI p) (w := -1) (b := b + 6) h hwk hS (rf_ix (by omega)).symm rf_m1.symm rfl s4 ⟨s6 0 (by decide), s6 1 (by decide), s6 2 (by decide)⟩ fun v' hv => ?_
  have h2 : CCh U nL (uM v' 7 a 10 (nI (nn m 30))) (up2 (mW (mNS m (nI p) (-1) (m 29 (3 * a)) (m 29 (3 * a + 1)) (m 29 (3 * a + 2))) 0 (nI (nn m 30))) 28 a (nI (nn m 30))) m0 o (b + 6) T := ⟨hv.1.asession a (nI (nn m 30)), hv.2.1.oM rfl, hv.2.2⟩
  have eW : ∀ F, (F ≠ 77 ∧ F ≠ 78 ∧ F ≠ 79 ∧ F ≠ 80 ∧ F ≠ 81) → (F ≠ 30 ∧ F ≠ 31 ∧ F ≠ 32 ∧ F ≠ 33 ∧ F ≠ 34) → (F ≠ 35 ∧ F ≠ 36) → F ≠ 28 → up2 (mW (mNS m (nI p) (-1) (m 29 (3 * a)) (m 29 (3 * a + 1)) (m 29 (3 * a + 2))) 0 (nI (nn m 30))) 28 a (nI (nn m 30)) F = m F := fun F q1 q2 q3 q4 => by rw [up2_o q4, mW_o q1, mNS_o q2 q3]
  refine hpI_i ?_
  unfold mGr at hP
  generalize up2 (mW (mNS m (nI p) (-1) (m 29 (3 * a)) (m 29 (3 * a + 1)) (m 29 (3 * a + 2))) 0 (nI (nn m 30))) 28 a (nI (nn m 30)) = W at h2 eW hP
  generalize uM v' 7 a 10 (nI (nn m 30)) = v2 at h2 ⊢
  have n19 : nn W 19 = nn m 19 := congrArg (fun r => (r 0).toNatClampNeg) (eW 19 (by decide) (by decide) (by decide) (by decide))
  have w20 : W 20 a = nI p := by rw [eW 20 (by decide) (by decide) (by decide) (by decide)]; exact e20
  have w21 : W 21 a = nI d := by rw [eW 21 (by decide) (by decide) (by decide) (by decide)]; exact e21
  have w22 : W 22 a = nI l := by rw [eW 22 (by decide) (by decide) (by decide) (by decide)]; exact e22
  obtain ⟨p1, p2, p3, p4, p5, p6, p7, p8, p9⟩ := h2.1.hPe p hp
  have hb2 := h2.1.bud
  refine hgR_e (ex v2 W _ h2 n19 w20) (hisK_i (hgR_e p4 (hgI_e ((h2.1.f 7 1 21 (by decide) (show a < nn W 19 by omega)).trans w21) (hisK_i (hbn0_i ⟨d, ⟨rfl, by omega, by have := h14 v2 W _ h2; omega, by omega⟩, ?_⟩)))))
  have h3 : CCh U nL (uBs v2 (1 + 2 * p) (up1 (vB v2 (1 + 2 * p)) d true) 3) (up2 W 5 (6 * p + d) 1) m0 o (b + 3) T := CRh.knowsDC h2 hp hd
  have y20 : up2 W 5 (6 * p + d) 1 20 a = nI p := w20
  have y22 : up2 W 5 (6 * p + d) 1 22 a = nI l := w22
  have yn : nn (up2 W 5 (6 * p + d) 1) 19 = nn m 19 := n19
  generalize up2 W 5 (6 * p + d) 1 = W2 at h3 y20 y22 yn hP
  generalize uBs v2 (1 + 2 * p) (up1 (vB v2 (1 + 2 * p)) d true) 3 = v3 at h3 ⊢
  obtain ⟨p1, p2, p3, p4, p5, p6, p7, p8, p9⟩ := h3.1.hPe p hp
  have hb3 := h3.1.bud
  have h4 : CCh U nL (uBs v3 (2 + 2 * p) (up1 (vB v3 (2 + 2 * p)) l true) 3) (up2 W2 6 (6 * p + l) 1) m0 o b T := CRh.knowsPC h3 hp hl
  have h5 : P () (uBs v3 (2 + 2 * p) (up1 (vB v3 (2 + 2 * p)) l true) 3) := hP _ h4
  have h6 := h14 v3 W2 _ h3
  have e7 := (h3.1.f 7 2 22 (by decide) (show a < nn W2 19 by omega)).trans y22
  have e0 := ex v3 W2 _ h3 yn y20
  clear h h2 h3 h4 hP ex h14 hwk hv
  refine hgR_e e0 (hisK_i (hgR_e p5 (hgI_e e7 (hisK_i (hbn0_i ⟨l, ⟨rfl, by omega, by omega, by omega⟩, ?_⟩)))))
  exact hrt_i h5
