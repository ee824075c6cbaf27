/-! ===== a step more in the draft (printed by gen/evAI.py) ===== -/
theorem CRh.stepE {U : (Nat → List Nat) → Prop} {nL : Nat} {v : Vw} {m : Mst} {b T : Nat} (h : CRh U nL v m (b + 60) (T)) {n : Nat} (a c d g e : Int32) (hn : vZ v (fl (vK v 1 - 1)) = n) (hn12 : n < 12) (hA : ∀ t, t < nn m 19 → (m 23 t).toNatClampNeg < vZ v 1)  : CRh U nL (uA (uM (uM (uM (uM (uM (uK v 6 5) 6 (vK v 6) 0 a) 6 (vK v 6) 1 c) 6 (vK v 6) 2 d) 6 (vK v 6) 3 g) 6 (vK v 6) 4 e) (fl (vK v 1 - 1)) (idc 6 (vK v 6))) (up2 (up2 (up2 (up2 (up2 (up2 (m) 11 (96 + n) a) 12 (96 + n) c) 13 (96 + n) d) 14 (96 + n) g) 15 (96 + n) e) 10 8 (nI (n + 1))) (b) (T) := by
  obtain ⟨hF, hSt, hPe, hSe, hLn, hCt, hL3, hL4, hL5, hL6, hL7, hL8, hAr, hDv, hTo, hPu, hCa, hAu, hPp, hOw, hWr, hUn, hFl, hAt, hSa, hSs, hOs, hR70, hR81, hR82, hR90, hR95, hRt, hRr, hRa, hT7, hT8, hT10, hT12, hN8, hN10, hFa, hTu, hBu, hLa⟩ := h
  have k13 : vK v 13 = 8 + vK v 1 := hCt.2.2.2.2.2.2.2.1
  have k1 : 1 ≤ vK v 1 := hCt.2.2.2.2.2.2.2.2.1
  have yb : fl (vK v 1 - 1) = 0 ∨ 9 ≤ fl (vK v 1 - 1) := by unfold fl; split <;> omega
  refine ⟨((((((((((((hF.bR (K := 6) (i := vK v 6) (show cn m 6 ≤ _ from Nat.zero_le _) (fun _ => 0)).bM (K := 6) (i := vK v 6) (f := 0) (show cn m 6 ≤ _ from Nat.zero_le _) a).bM (K := 6) (i := vK v 6) (f := 1) (show cn m 6 ≤ _ from Nat.zero_le _) c).bM (K := 6) (i := vK v 6) (f := 2) (show cn m 6 ≤ _ from Nat.zero_le _) d).bM (K := 6) (i := vK v 6) (f := 3) (show cn m 6 ≤ _ from Nat.zero_le _) g).bM (K := 6) (i := vK v 6) (f := 4) (show cn m 6 ≤ _ from Nat.zero_le _) e).om (F := 11) rfl (96 + n) a).om (F := 12) rfl (96 + n) c).om (F := 13) rfl (96 + n) d).om (F := 14) rfl (96 + n) g).om (F := 15) rfl (96 + n) e).om (F := 10) rfl 8 (nI (n + 1))), (by first | exact hSt | (simp (config := { decide := true }) only [vM_uMk, vN_uNk]; exact hSt)), (by first | exact hPe | (simp (config := { decide := true }) only [vM_uMk, vN_uNk]; exact hPe)), (by first | exact hSe | (simp (config := { decide := true }) only [vM_uMk, vN_uNk]; exact hSe)), (by first | exact hLn | (simp (config := { decide := true }) only [vM_uMk, vN_uNk]; exact hLn)), ?_, ?_, ?_, ?_, ?_, ?_, ?_, (by first | exact hAr | (simp (config := { decide := true }) only [vM_uMk, vN_uNk]; exact hAr)), (by first | exact hDv | (simp (config := { decide := true }) only [vM_uMk, vN_uNk]; exact hDv)), (by first | exact hTo | (simp (config := { decide := true }) only [vM_uMk, vN_uNk]; exact hTo)), (by first | exact hPu | (simp (config := { decide := true }) only [vM_uMk, vN_uNk]; exact hPu)), (by first | exact hCa | (simp (config := { decide := true }) only [vM_uMk, vN_uNk]; exact hCa)), (by first | exact hAu | (simp (config := { decide := true }) only [vM_uMk, vN_uNk]; exact hAu)), (by first | exact hPp | (simp (config := { decide := true }) only [vM_uMk, vN_uNk]; exact hPp)), (by first | exact hOw | (simp (config := { decide := true }) only [vM_uMk, vN_uNk]; exact hOw)), (by first | exact hWr | (simp (config := { decide := true }) only [vM_uMk, vN_uNk]; exact hWr)), (by first | exact hUn | (simp (config := { decide := true }) only [vM_uMk, vN_uNk]; exact hUn)), ?_, ?_, (by first | exact hSa | (simp (config := { decide := true }) only [vM_uMk, vN_uNk]; exact hSa)), (by first | exact hSs | (simp (config := { decide := true }) only [vM_uMk, vN_uNk]; exact hSs)), (by first | exact hOs | (simp (config := { decide := true }) only [vM_uMk, vN_uNk]; exact hOs)), (by first | exact hR70 | (simp (config := { decide := true }) only [vM_uMk, vN_uNk]; exact hR70)), (by first | exact hR81 | (simp (config := { decide := true }) only [vM_uMk, vN_uNk]; exact hR81)), (by first | exact hR82 | (simp (config := { decide := true }) only [vM_uMk, vN_uNk]; exact hR82)), (by first | exact hR90 | (simp (config := { decide := true }) only [vM_uMk, vN_uNk]; exact hR90)), (by first | exact hR95 | (simp (config := { decide := true }) only [vM_uMk, vN_uNk]; exact hR95)), (by first | exact hRt | (simp (config := { decide := true }) only [vM_uMk, vN_uNk]; exact hRt)), (by first | exact hRr | (simp (config := { decide := true }) only [vM_uMk, vN_uNk]; exact hRr)), (by first | exact hRa | (simp (config := { decide := true }) only [vM_uMk, vN_uNk]; exact hRa)), (by first | exact hT7 | (simp (config := { decide := true }) only [vM_uMk, vN_uNk]; exact hT7)), (by first | exact hT8 | (simp (config := { decide := true }) only [vM_uMk, vN_uNk]; exact hT8)), (by first | exact hT10 | (simp (config := { decide := true }) only [vM_uMk, vN_uNk]; exact hT10)), (by first | exact hT12 | (simp (config := { decide := true }) only [vM_uMk, vN_uNk]; exact hT12)), (by first | exact hN8 | (simp (config := { decide := true }) only [vM_uMk, vN_uNk]; exact hN8)), (by first | exact hN10 | (simp (config := { decide := true }) only [vM_uMk, vN_uNk]; exact hN10)), (by first | exact hFa | (simp (config := { decide := true }) only [vM_uMk, vN_uNk]; exact hFa)), (by first | exact hTu | (simp (config := { decide := true }) only [vM_uMk, vN_uNk]; exact hTu)), ?_, ?_⟩
  · obtain ⟨c1, c2, c3, c4, c5, c6, c7, c8, c9, c10, c11, c12⟩ := hCt
    exact ⟨c1, c2, c3, c4, c5, c6, c7, c8, c9, c10, c11, c12⟩
  · show gL1 (up1 (vZ v) (fl (vK v 1 - 1)) (vZ v (fl (vK v 1 - 1)) + 1)) (up2 (vE v) (fl (vK v 1 - 1)) (vZ v (fl (vK v 1 - 1))) (idc 6 (vK v 6))) _ _ _
    refine ⟨(up1_n (by omega)).trans hL3.1, fun k hk => ?_⟩
    rw [up2_o (by omega)]
    exact hL3.2 k hk
  · show gL1 (up1 (vZ v) (fl (vK v 1 - 1)) (vZ v (fl (vK v 1 - 1)) + 1)) (up2 (vE v) (fl (vK v 1 - 1)) (vZ v (fl (vK v 1 - 1))) (idc 6 (vK v 6))) _ _ _
    refine ⟨(up1_n (by omega)).trans hL4.1, fun k hk => ?_⟩
    rw [up2_o (by omega)]
    exact hL4.2 k hk
  · show gL1 (up1 (vZ v) (fl (vK v 1 - 1)) (vZ v (fl (vK v 1 - 1)) + 1)) (up2 (vE v) (fl (vK v 1 - 1)) (vZ v (fl (vK v 1 - 1))) (idc 6 (vK v 6))) _ _ _
    refine ⟨(up1_n (by omega)).trans hL5.1, fun k hk => ?_⟩
    rw [up2_o (by omega)]
    exact hL5.2 k hk
  · show gL1 (up1 (vZ v) (fl (vK v 1 - 1)) (vZ v (fl (vK v 1 - 1)) + 1)) (up2 (vE v) (fl (vK v 1 - 1)) (vZ v (fl (vK v 1 - 1))) (idc 6 (vK v 6))) _ _ _
    refine ⟨(up1_n (by omega)).trans hL6.1, fun k hk => ?_⟩
    rw [up2_o (by omega)]
    exact hL6.2 k hk
  · show gL1 (up1 (vZ v) (fl (vK v 1 - 1)) (vZ v (fl (vK v 1 - 1)) + 1)) (up2 (vE v) (fl (vK v 1 - 1)) (vZ v (fl (vK v 1 - 1))) (idc 6 (vK v 6))) _ _ _
    refine ⟨(up1_n (by omega)).trans hL7.1, fun k hk => ?_⟩
    rw [up2_o (by omega)]
    exact hL7.2 k hk
  · show gL1 (up1 (vZ v) (fl (vK v 1 - 1)) (vZ v (fl (vK v 1 - 1)) + 1)) (up2 (vE v) (fl (vK v 1 - 1)) (vZ v (fl (vK v 1 - 1))) (idc 6 (vK v 6))) _ _ _
    refine ⟨(up1_n (by omega)).trans hL8.1, fun k hk => ?_⟩
    rw [up2_o (by omega)]
    exact hL8.2 k hk
  · obtain ⟨f1, f2, f3, f4, f5, f6⟩ := hFl
    have w11 : (up2 (up2 (up2 (up2 (up2 (up2 (m) 11 (96 + n) a) 12 (96 + n) c) 13 (96 + n) d) 14 (96 + n) g) 15 (96 + n) e) 10 8 (nI (n + 1))) 11 = up1 (m 11) (96 + n) a := by rw [up2_o (by decide), up2_o (by decide), up2_o (by decide), up2_o (by decide), up2_o (by decide), up2_r]
    have w12 : (up2 (up2 (up2 (up2 (up2 (up2 (m) 11 (96 + n) a) 12 (96 + n) c) 13 (96 + n) d) 14 (96 + n) g) 15 (96 + n) e) 10 8 (nI (n + 1))) 12 = up1 (m 12) (96 + n) c := by rw [up2_o (by decide), up2_o (by decide), up2_o (by decide), up2_o (by decide), up2_r, up2_o (by decide)]
    have w13 : (up2 (up2 (up2 (up2 (up2 (up2 (m) 11 (96 + n) a) 12 (96 + n) c) 13 (96 + n) d) 14 (96 + n) g) 15 (96 + n) e) 10 8 (nI (n + 1))) 13 = up1 (m 13) (96 + n) d := by rw [up2_o (by decide), up2_o (by decide), up2_o (by decide), up2_r, up2_o (by decide), up2_o (by decide)]
    have w14 : (up2 (up2 (up2 (up2 (up2 (up2 (m) 11 (96 + n) a) 12 (96 + n) c) 13 (96 + n) d) 14 (96 + n) g) 15 (96 + n) e) 10 8 (nI (n + 1))) 14 = up1 (m 14) (96 + n) g := by rw [up2_o (by decide), up2_o (by decide), up2_r, up2_o (by decide), up2_o (by decide), up2_o (by decide)]
    have w15 : (up2 (up2 (up2 (up2 (up2 (up2 (m) 11 (96 + n) a) 12 (96 + n) c) 13 (96 + n) d) 14 (96 + n) g) 15 (96 + n) e) 10 8 (nI (n + 1))) 15 = up1 (m 15) (96 + n) e := by rw [up2_o (by decide), up2_r, up2_o (by decide), up2_o (by decide), up2_o (by decide), up2_o (by decide)]
    have w10 : (up2 (up2 (up2 (up2 (up2 (up2 (m) 11 (96 + n) a) 12 (96 + n) c) 13 (96 + n) d) 14 (96 + n) g) 15 (96 + n) e) 10 8 (nI (n + 1))) 10 = up1 (m 10) 8 (nI (n + 1)) := by rw [up2_r, up2_o (by decide), up2_o (by decide), up2_o (by decide), up2_o (by decide), up2_o (by decide)]
    have mo : ∀ q, q < vK v 6 → (up3 (up3 (up3 (up3 (up3 (row3 (vM v) 6 (vK v 6) (fun _ => 0)) 6 (vK v 6) 0 a) 6 (vK v 6) 1 c) 6 (vK v 6) 2 d) 6 (vK v 6) 3 g) 6 (vK v 6) 4 e) 6 q = vM v 6 q := fun q hq => by
      funext z
      rw [up3_n (fun t => by omega), up3_n (fun t => by omega), up3_n (fun t => by omega), up3_n (fun t => by omega), up3_n (fun t => by omega), row3_n (fun t => by omega)]
    have ez : (up1 (vZ v) (fl (vK v 1 - 1)) (vZ v (fl (vK v 1 - 1)) + 1)) 1 = vZ v 1 := up1_n (by omega)
    show gFl (fun i => vN v 1 i 0) (vN v 0 0 1) (vK v 1) (up1 (vK v) 6 (vK v 6 + 1) 6) (up1 (vZ v) (fl (vK v 1 - 1)) (vZ v (fl (vK v 1 - 1)) + 1)) (up2 (vE v) (fl (vK v 1 - 1)) (vZ v (fl (vK v 1 - 1))) (idc 6 (vK v 6))) ((up3 (up3 (up3 (up3 (up3 (row3 (vM v) 6 (vK v 6) (fun _ => 0)) 6 (vK v 6) 0 a) 6 (vK v 6) 1 c) 6 (vK v 6) 2 d) 6 (vK v 6) 3 g) 6 (vK v 6) 4 e) 6) ((up2 (up2 (up2 (up2 (up2 (up2 (m) 11 (96 + n) a) 12 (96 + n) c) 13 (96 + n) d) 14 (96 + n) g) 15 (96 + n) e) 10 8 (nI (n + 1))) 10) ((up2 (up2 (up2 (up2 (up2 (up2 (m) 11 (96 + n) a) 12 (96 + n) c) 13 (96 + n) d) 14 (96 + n) g) 15 (96 + n) e) 10 8 (nI (n + 1))) 11) ((up2 (up2 (up2 (up2 (up2 (up2 (m) 11 (96 + n) a) 12 (96 + n) c) 13 (96 + n) d) 14 (96 + n) g) 15 (96 + n) e) 10 8 (nI (n + 1))) 12) ((up2 (up2 (up2 (up2 (up2 (up2 (m) 11 (96 + n) a) 12 (96 + n) c) 13 (96 + n) d) 14 (96 + n) g) 15 (96 + n) e) 10 8 (nI (n + 1))) 13) ((up2 (up2 (up2 (up2 (up2 (up2 (m) 11 (96 + n) a) 12 (96 + n) c) 13 (96 + n) d) 14 (96 + n) g) 15 (96 + n) e) 10 8 (nI (n + 1))) 14) ((up2 (up2 (up2 (up2 (up2 (up2 (m) 11 (96 + n) a) 12 (96 + n) c) 13 (96 + n) d) 14 (96 + n) g) 15 (96 + n) e) 10 8 (nI (n + 1))) 15) (m 9 0)
    rw [w10, w11, w12, w13, w14, w15, up1_s]
    refine ⟨f1, f2, ?_, by rw [ez]; exact f4, by rw [ez]; exact f5, fun j hj => ?_⟩
    · obtain ⟨g1, g2, g3⟩ := f3
      refine ⟨by rw [up1_s, up1_s, hn], by rw [up1_s, hn]; omega, fun k hk => ?_⟩
      rw [up1_s, hn] at hk
      rw [hn]
      by_cases q : k = n
      · subst q
        refine ⟨vK v 6, up2_s, by omega, ?_⟩
        rw [up1_s, up1_s, up1_s, up1_s, up1_s]
        exact ⟨by rw [up3_k (by decide), up3_k (by decide), up3_k (by decide), up3_k (by decide), up3_s], by rw [up3_k (by decide), up3_k (by decide), up3_k (by decide), up3_s], by rw [up3_k (by decide), up3_k (by decide), up3_s], by rw [up3_k (by decide), up3_s], up3_s⟩
      · obtain ⟨qq, q1, q2, q3⟩ := g3 k (by omega)
        refine ⟨qq, by rw [up2_n (fun t => q t.2)]; exact q1, by omega, ?_⟩
        rw [mo qq q2, up1_n (by omega), up1_n (by omega), up1_n (by omega), up1_n (by omega), up1_n (by omega)]
        exact q3
    · rw [ez] at hj
      obtain ⟨w, w1, w2, g1, g2, g3⟩ := f6 j hj
      have hne : fl w ≠ fl (vK v 1 - 1) := fun t => by have := fl_inj t; omega
      refine ⟨w, by rw [up2_o (by omega)]; exact w1, w2, ?_⟩
      unfold gFi
      rw [up1_n hne, up1_n (by omega)]
      refine ⟨g1, g2, fun k hk => ?_⟩
      obtain ⟨qq, q1, q2, q3⟩ := g3 k hk
      refine ⟨qq, by rw [up2_o hne]; exact q1, by omega, ?_⟩
      rw [mo qq q2, up1_n (by omega), up1_n (by omega), up1_n (by omega), up1_n (by omega), up1_n (by omega)]
      exact q3
  · obtain ⟨f1, f2, f3, f4, f5, f6⟩ := hFl
    intro t ht
    obtain ⟨h1, h2⟩ := hAt t ht
    obtain ⟨w, w1, w2, -⟩ := f6 _ (hA t ht)
    have h1 : vN v 7 t 3 = vE v 1 (m 23 t).toNatClampNeg := h1
    show vN v 7 t 3 = (up2 (vE v) (fl (vK v 1 - 1)) (vZ v (fl (vK v 1 - 1))) (idc 6 (vK v 6))) 1 (m 23 t).toNatClampNeg ∧ vN v 7 t 4 = (if m 24 t = -1 then nul else (up2 (vE v) (fl (vK v 1 - 1)) (vZ v (fl (vK v 1 - 1))) (idc 6 (vK v 6))) (fl (vN v 7 t 3 / 64)) (m 24 t).toNatClampNeg)
    have hne : fl (vN v 7 t 3 / 64) ≠ fl (vK v 1 - 1) := fun s => by
      rw [h1, w1, idc_div (by decide)] at s
      have := fl_inj s
      omega
    rw [up2_o (by omega), up2_o hne]
    exact ⟨h1, h2⟩
  · show gBu (vb v - (5 + 1) - (2 * vZ v (fl (vK v 1 - 1)) + 12)) b (m 35) (m 51) (nn m 30) (nn m 46) (m 62 0)
    rw [hn]
    unfold gBu at hBu ⊢
    omega
  · show gL1 (up1 (vZ v) (fl (vK v 1 - 1)) (vZ v (fl (vK v 1 - 1)) + 1)) (up2 (vE v) (fl (vK v 1 - 1)) (vZ v (fl (vK v 1 - 1))) (idc 6 (vK v 6))) _ _ _
    refine ⟨(up1_n (by omega)).trans hLa.1, fun k hk => ?_⟩
    rw [up2_o (by omega)]
    exact hLa.2 k hk
