/-! ===== beginSession ===== -/
theorem wOK.ns {m : Mst} (h : wOK m) {p w a b c : Int32} : wOK (mNS m p w a b c) := by
  obtain ⟨h1, h2, ⟨x, h3, h4⟩, ⟨y, h5, h6⟩⟩ := h
  have e77 : mNS m p w a b c 77 = m 77 := mNS_o (by decide) (by decide)
  have n77 : nn (mNS m p w a b c) 77 = nn m 77 := by unfold nn; rw [e77]
  exact ⟨by rw [n77, e77]; exact h1, by rw [n77]; exact h2, ⟨x, h3, by rw [mNS_o (by decide) (by decide)]; exact h4⟩, ⟨y, h5, by rw [mNS_o (by decide) (by decide)]; exact h6⟩⟩
theorem c_begin {U : (Nat → List Nat) → Prop} {nL : Nat} {v : Vw} {m m0 : Mst} {o : Nat × Int64} {b T : Nat} (h : CCh U nL v m m0 o (b + 260 + 300 + 100) T) (hwk : wOK m) (hS : nn m 30 ≤ 24) {p w a b' c set : Int32} {pr ow a3 : Nat} (hp : pr = rf 2 p) (hw : ow = rf 8 w) (hset : set = st3 a b' c) (ha3 : vL v 32 a3 = 3) (ha : (a ≠ -1 → vM v 32 a3 0 = a) ∧ (b' ≠ -1 → vM v 32 a3 1 = b') ∧ (c ≠ -1 → vM v 32 a3 2 = c))
    {P : Int32 → Vw → Prop} {X : String → Vw → Prop} (hP : ∀ v', CCh U nL v' (mW (mNS m p w a b' c) 0 (nI (nn m 30))) m0 o b T → P (nI (nn m 30)) v') : h_X1_beginSession 0 pr ow a3 set P X v := by
  obtain ⟨h, hm, ho⟩ := h
  have hb := h.bud
  have e8 : vK v 8 = nn m 30 := h.hCt.2.2.1
  have h79 : 79 ≤ vK v 32 := h.hCt.2.2.2.2.2.2.2.2.2.2.2
  have hZ : vZ v 3 = nn m 30 := h.hL3.1
  obtain ⟨f1, f2, f3, f4, f5, f6, f7, f8, f9⟩ := vNS_fr (now := m 0 0) (pr := pr) (ow := ow) (a3 := a3) (set := set) e8
  have s4 := h.s4
  have g16 := h.g16
  have l13 := h.lt13 (y := 3) (by decide)
  have h2 : CCh U nL (vNS v (nn m 30) (m 0 0) pr ow a3 set) (mNS m p w a b' c) m0 o (b + 260) T := by
    refine ⟨?_, hm.row ⟨(f1 4 (by decide) (by decide)).1, (f1 4 (by decide) (by decide)).2.1⟩ ⟨(f1 33 (by decide) (by decide)).1, (f1 33 (by decide) (by decide)).2.2.1⟩ (fun z hz => f2 z (by omega)), ho⟩
    rw [hset]
    exact h.sess hS hp hw ha3 ha
  have c1 : 9 + 1 ≤ vb v := by omega
  have c2 : vL (vA8 v (nn m 30) (m 0 0) pr ow) 32 a3 + 1 ≤ vb v - (9 + 1) := by
    rw [vA8_K.2, up2_o (by decide), ha3]; omega
  have c3 : 2 * vZ v 3 + 12 ≤ vb v - (9 + 1) - (vL (vA8 v (nn m 30) (m 0 0) pr ow) 32 a3 + 1) := by
    rw [vA8_K.2, up2_o (by decide), ha3, hZ]; omega
  have c4 : vZ v 3 < 4096 := by omega
  clear hb h79 f1 f2 f3 f4 f5 f8 f9 ha3 ha hset h hm
  unfold h_X1_beginSession
  refine hnw_i c1 ?_
  rw [e8]
  refine hgR_e (x := idc 13 3) s4 (hisK_i (hbn0_i (J2sz (n := nn m 30) ?_ hZ (hbn0_i ?_))))
  · show 3 < up1 (vK v) 8 (vK v 8 + 1) 13
    rw [up1_n (by decide)]; exact l13
  · unfold h_X9_init
    refine hpR_i (hgR_e (x := idc 0 0) up3_s (hisK_i (hgI_e (x := m 0 0) g16 (hpI_i (hgR_e (x := idc 0 0) up3_s (hisK_i (hgI_e (x := m 0 0) g16 (hpI_i (hpZ_i (Or.inr rfl) (hpI_i (hpR_i (hpR_i ⟨c2, hpR_i (hpI_i (hrt_i ?_))⟩))))))))))))
    refine hgR_e (x := idc 13 3) s4 (hisK_i (hbn0_i (J2add ?_ ?_ c4 c3 ?_)))
    · exact l13
    · rw [idc_mod (by decide)]; decide
    · show hgI 8 (nn m 30) 0 _ P X (vNS v (nn m 30) (m 0 0) pr ow a3 set)
      generalize vNS v (nn m 30) (m 0 0) pr ow a3 set = V at h2 f6 f7 ⊢
      refine hgI_e f6.1 (hbn0_i (c_write (k := (0 : Int32)) (n := nI (nn m 30)) h2 hwk.ns ⟨0, by decide, by decide +kernel⟩ ⟨nn m 30, by omega, rfl⟩ fun v' hv => ?_))
      have n30 : nn (mW (mNS m p w a b' c) 0 (nI (nn m 30))) 30 = nn m 30 + 1 := by
        unfold nn
        rw [mW_o (by decide), mNS_r.2.2.2.2.2.2]
        exact nI_clamp (by omega)
      exact hgI_e (hv.1.hN8 (nn m 30) (by omega)) (hrt_i (hP v' hv))
/-- the model's new session, in which nothing was shown -/
def nsF (v1 : Int32) : (Int32 → PM Unit) → Int32 → PM Unit := fun r20 => fun u19 => qc ((3 : Int32) ≤ u19) (qrt ()) (qw 36 180 (((3 : Int32) * v1) + u19) (-1 : Int32) <| r20 (u19 + (1 : Int32)))
theorem q_newSession_eq {m : Mst} {p w : Int32} (hw : wOK m) (h30 : m 30 0 = nI (nn m 30)) (hS : nn m 30 < 60) : q_newSession p w m = some (m 30 0, mW (mNS m p w (-1) (-1) (-1)) 0 (nI (nn m 30))) := by
  unfold q_newSession
  show qw 31 60 (m 30 0) p _ m = _
  rw [qw_e h30 hS (by decide)]
  show qw 32 60 (m 30 0) (m 0 0) _ _ = _
  rw [qw_e h30 hS (by decide)]
  show qw 33 60 (m 30 0) (m 0 0) _ _ = _
  rw [qw_e h30 hS (by decide), qw_e h30 hS (by decide), qz_e h30 hS (by decide) (Or.inr rfl)]
  generalize hm1 : up2 (up2 (up2 (up2 (up2 m 31 (nn m 30) p) 32 (nn m 30) (m 0 0)) 33 (nn m 30) (m 0 0)) 34 (nn m 30) w) 35 (nn m 30) 1 = m1
  have hl : qlp (σ := Int32) (nsF (m 30 0)) (0 : Int32) m1 = some ((), up2 (up2 (up2 m1 36 (3 * nn m 30) (-1)) 36 (3 * nn m 30 + 1) (-1)) 36 (3 * nn m 30 + 2) (-1)) := by
    have ei : ∀ k, ((3 : Int32) * m 30 0) + nI k = nI (3 * nn m 30 + k) := fun k => by rw [h30]; exact ix3p
    show nsF (m 30 0) (qlN (nsF (m 30 0)) 99999) 0 m1 = _
    show qc ((3 : Int32) ≤ 0) _ _ m1 = _
    rw [qc_f (by decide), show (0 : Int32) = nI 0 from nI_0.symm, qw_e (ei 0) (by omega) (by decide)]
    show nsF (m 30 0) (qlN (nsF (m 30 0)) 99998) (nI 0 + 1) _ = _
    show qc ((3 : Int32) ≤ nI 0 + 1) _ _ _ = _
    rw [qc_f (by decide +kernel), show nI 0 + 1 = nI 1 from nI_1 0, qw_e (ei 1) (by omega) (by decide)]
    show nsF (m 30 0) (qlN (nsF (m 30 0)) 99997) (nI 1 + 1) _ = _
    show qc ((3 : Int32) ≤ nI 1 + 1) _ _ _ = _
    rw [qc_f (by decide +kernel), show nI 1 + 1 = nI 2 from nI_1 1, qw_e (ei 2) (by omega) (by decide)]
    show nsF (m 30 0) (qlN (nsF (m 30 0)) 99996) (nI 2 + 1) _ = _
    show qc ((3 : Int32) ≤ nI 2 + 1) _ _ _ = _
    rw [qc_t (by decide +kernel)]
    rfl
  have hl2 : (qlp (σ := Int32) (fun r20 => fun u19 => qc ((3 : Int32) ≤ u19) (qrt ()) (qw 36 180 (((3 : Int32) * m 30 0) + u19) (-1 : Int32) <| r20 (u19 + (1 : Int32)))) (0 : Int32)) m1 = _ := hl
  rw [qbd_e hl2]
  have e30 : (up2 (up2 (up2 m1 36 (3 * nn m 30) (-1)) 36 (3 * nn m 30 + 1) (-1)) 36 (3 * nn m 30 + 2) (-1)) 30 0 + 1 = nI (nn m 30 + 1) := by
    rw [← hm1]
    show m 30 0 + 1 = _
    rw [h30]
    exact nI_1 _
  show qbd (q_write 0 (m 30 0)) _ (up2 _ 30 0 ((up2 (up2 (up2 m1 36 (3 * nn m 30) (-1)) 36 (3 * nn m 30 + 1) (-1)) 36 (3 * nn m 30 + 2) (-1)) 30 0 + 1)) = _
  rw [e30, ← hm1]
  show qbd (q_write 0 (m 30 0)) _ (mNS m p w (-1) (-1) (-1)) = _
  rw [qbd_e (q_write_eq hw.ns), h30]
  have hh : nn m 30 = nn m 30 := rfl
  show some (nI (nn m 30), mW _ 0 (nI (nn m 30))) = _
  rfl
