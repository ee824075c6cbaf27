/-! ===== a factor shown (printed by gen/evAB.py) ===== -/
theorem vM_uMo {v : Vw} {K i f K' : Nat} {x : Int32} (h : K' ≠ K) : vM (uM v K i f x) K' = vM v K' := up3_o h
theorem st3_bb : ∀ a b c : Bool, ∀ k : Fin 3, ((((if a then 0 else 1) ||| (if b then 0 else 2)) ||| (if c then 0 else 4) : Int32)) ||| ((1 : Int32) <<< (nI k.1 &&& 31)) = (((if (a && decide (k.1 ≠ 0)) then 0 else 1) ||| (if (b && decide (k.1 ≠ 1)) then 0 else 2)) ||| (if (c && decide (k.1 ≠ 2)) then 0 else 4) : Int32) := by decide +kernel
theorem st3_k {x : Nat → Int32} {s k : Nat} {y : Int32} (hk : k < 3) (hy : y ≠ -1) : st3 (up1 x (3 * s + k) y (3 * s)) (up1 x (3 * s + k) y (3 * s + 1)) (up1 x (3 * s + k) y (3 * s + 2)) = st3 (x (3 * s)) (x (3 * s + 1)) (x (3 * s + 2)) ||| ((1 : Int32) <<< (nI k &&& 31)) := by
  have h := st3_bb (decide (x (3 * s) = -1)) (decide (x (3 * s + 1) = -1)) (decide (x (3 * s + 2) = -1)) ⟨k, hk⟩
  unfold st3
  simp only [decide_eq_true_eq, Bool.and_eq_true] at h
  rw [h]
  rcases (by omega : k = 0 ∨ k = 1 ∨ k = 2) with q | q | q <;> subst q
  · rw [Nat.add_zero, up1_s, up1_n (show 3 * s + 1 ≠ 3 * s by omega), up1_n (show 3 * s + 2 ≠ 3 * s by omega)]
    simp [hy]
  · rw [up1_s, up1_n (show 3 * s ≠ 3 * s + 1 by omega), up1_n (show 3 * s + 2 ≠ 3 * s + 1 by omega)]
    simp [hy]
  · rw [up1_s, up1_n (show 3 * s ≠ 3 * s + 2 by omega), up1_n (show 3 * s + 1 ≠ 3 * s + 2 by omega)]
    simp [hy]
theorem CRh.showS {U : (Nat → List Nat) → Prop} {nL : Nat} {v : Vw} {m : Mst} {b T : Nat} (h : CRh U nL v m (b) (T)) {s k y3 : Nat} {now set : Int32} (hs : s < nn m 30) (hk : k < 3) (hy : vN v 8 s 6 = idc 32 y3) (hn : now ≠ -1) (hset : set = vM v 8 s 7 ||| ((1 : Int32) <<< (nI k &&& 31)))  : CRh U nL (uM (uM v 8 s 7 set) 32 y3 k now) (up2 m 36 (3 * s + k) now) (b) (T) := by
  obtain ⟨hF, hSt, hPe, hSe, hLn, hCt, hL3, hL4, hL5, hL6, hL7, hL8, hAr, hDv, hTo, hPu, hCa, hAu, hPp, hOw, hWr, hUn, hFl, hAt, hSa, hSs, hOs, hR70, hR81, hR82, hR90, hR95, hRt, hRr, hRa, hT7, hT8, hT10, hT12, hN8, hN10, hFa, hTu, hBu, hLa⟩ := h
  have ey : vN v 8 s 6 / 64 = y3 := by rw [hy, idc_div (by decide)]
  have y79 : 79 ≤ y3 := by rw [← ey]; exact (hSs s hs).2.1
  obtain ⟨oo, o1, o2⟩ := hOs
  have hOs : gOs (fun i => vN v 7 i 8) (fun i => vN v 8 i 6) (nn m 19) (nn m 30) := ⟨oo, o1, o2⟩
  have oy : oo y3 = 2 * s + 1 := by rw [← ey]; exact o2 s hs
  refine ⟨((((hF.oM (K := 8) (f := 7) rfl s set).oM (K := 32) (f := k) rfl y3 now).om (F := 36) rfl (3 * s + k) now)), (by first | exact hSt | (simp (config := { decide := true }) only [vN_uM, vM_uMo, vM_uMk]; exact hSt)), (by first | exact hPe | (simp (config := { decide := true }) only [vN_uM, vM_uMo, vM_uMk]; exact hPe)), (by first | exact hSe | (simp (config := { decide := true }) only [vN_uM, vM_uMo, vM_uMk]; exact hSe)), (by first | exact hLn | (simp (config := { decide := true }) only [vN_uM, vM_uMo, vM_uMk]; exact hLn)), (by first | exact hCt | (simp (config := { decide := true }) only [vN_uM, vM_uMo, vM_uMk]; exact hCt)), (by first | exact hL3 | (simp (config := { decide := true }) only [vN_uM, vM_uMo, vM_uMk]; exact hL3)), (by first | exact hL4 | (simp (config := { decide := true }) only [vN_uM, vM_uMo, vM_uMk]; exact hL4)), (by first | exact hL5 | (simp (config := { decide := true }) only [vN_uM, vM_uMo, vM_uMk]; exact hL5)), (by first | exact hL6 | (simp (config := { decide := true }) only [vN_uM, vM_uMo, vM_uMk]; exact hL6)), (by first | exact hL7 | (simp (config := { decide := true }) only [vN_uM, vM_uMo, vM_uMk]; exact hL7)), (by first | exact hL8 | (simp (config := { decide := true }) only [vN_uM, vM_uMo, vM_uMk]; exact hL8)), (hAr.cg (fun z hz => by show ((up3 (up3 (vM v) 8 s 7 set) 32 y3 k now) 32 z) = vM v 32 z; funext j; rw [up3_n (fun t => by omega), up3_o (by decide)])), (by first | exact hDv | (simp (config := { decide := true }) only [vN_uM, vM_uMo, vM_uMk]; exact hDv)), (by first | exact hTo | (simp (config := { decide := true }) only [vN_uM, vM_uMo, vM_uMk]; exact hTo)), (by first | exact hPu | (simp (config := { decide := true }) only [vN_uM, vM_uMo, vM_uMk]; exact hPu)), (by first | exact hCa | (simp (config := { decide := true }) only [vN_uM, vM_uMo, vM_uMk]; exact hCa)), (by first | exact hAu | (simp (config := { decide := true }) only [vN_uM, vM_uMo, vM_uMk]; exact hAu)), (by first | exact hPp | (simp (config := { decide := true }) only [vN_uM, vM_uMo, vM_uMk]; exact hPp)), (by first | exact hOw | (simp (config := { decide := true }) only [vN_uM, vM_uMo, vM_uMk]; exact hOw)), (by first | exact hWr | (simp (config := { decide := true }) only [vN_uM, vM_uMo, vM_uMk]; exact hWr)), (by first | exact hUn | (simp (config := { decide := true }) only [vN_uM, vM_uMo, vM_uMk]; exact hUn)), (by first | exact hFl | (simp (config := { decide := true }) only [vN_uM, vM_uMo, vM_uMk]; exact hFl)), (by first | exact hAt | (simp (config := { decide := true }) only [vN_uM, vM_uMo, vM_uMk]; exact hAt)), ?_, ?_, (by first | exact hOs | (simp (config := { decide := true }) only [vN_uM, vM_uMo, vM_uMk]; exact hOs)), (by first | exact hR70 | (simp (config := { decide := true }) only [vN_uM, vM_uMo, vM_uMk]; exact hR70)), (by first | exact hR81 | (simp (config := { decide := true }) only [vN_uM, vM_uMo, vM_uMk]; exact hR81)), (by first | exact hR82 | (simp (config := { decide := true }) only [vN_uM, vM_uMo, vM_uMk]; exact hR82)), (by first | exact hR90 | (simp (config := { decide := true }) only [vN_uM, vM_uMo, vM_uMk]; exact hR90)), (by first | exact hR95 | (simp (config := { decide := true }) only [vN_uM, vM_uMo, vM_uMk]; exact hR95)), (by first | exact hRt | (simp (config := { decide := true }) only [vN_uM, vM_uMo, vM_uMk]; exact hRt)), (by first | exact hRr | (simp (config := { decide := true }) only [vN_uM, vM_uMo, vM_uMk]; exact hRr)), (by first | exact hRa | (simp (config := { decide := true }) only [vN_uM, vM_uMo, vM_uMk]; exact hRa)), (by first | exact hT7 | (simp (config := { decide := true }) only [vN_uM, vM_uMo, vM_uMk]; exact hT7)), (by first | exact hT8 | (simp (config := { decide := true }) only [vN_uM, vM_uMo, vM_uMk]; exact hT8)), (by first | exact hT10 | (simp (config := { decide := true }) only [vN_uM, vM_uMo, vM_uMk]; exact hT10)), (by first | exact hT12 | (simp (config := { decide := true }) only [vN_uM, vM_uMo, vM_uMk]; exact hT12)), (by first | exact hN8 | (simp (config := { decide := true }) only [vN_uM, vM_uMo, vM_uMk]; exact hN8)), (by first | exact hN10 | (simp (config := { decide := true }) only [vN_uM, vM_uMo, vM_uMk]; exact hN10)), (by first | exact hFa | (simp (config := { decide := true }) only [vN_uM, vM_uMo, vM_uMk]; exact hFa)), (by first | exact hTu | (simp (config := { decide := true }) only [vN_uM, vM_uMo, vM_uMk]; exact hTu)), (by first | exact hBu | (simp (config := { decide := true }) only [vN_uM, vM_uMo, vM_uMk]; exact hBu)), (by first | exact hLa | (simp (config := { decide := true }) only [vN_uM, vM_uMo, vM_uMk]; exact hLa))⟩
  · intro i hi
    obtain ⟨a1, a2, a3, a4, a5, a6⟩ := hSa i hi
    have ne : vN v 7 i 8 / 64 ≠ y3 := fun t => by
      have q1 : oo (vN v 7 i 8 / 64) = _ := o1 i hi
      rw [t, oy] at q1
      omega
    refine ⟨a1, a2, a3, a4, ?_, fun f hf hm => ?_⟩
    · show (up3 (up3 (vM v) 8 s 7 set) 32 y3 k now) 7 i 9 = _
      rw [up3_o (by decide), up3_o (by decide)]; exact a5
    · show (up3 (up3 (vM v) 8 s 7 set) 32 y3 k now) 32 (vN v 7 i 8 / 64) f = _
      rw [up3_n (fun t => ne t.2), up3_o (by decide)]; exact a6 f hf hm
  · intro i hi
    obtain ⟨a1, a2, a3, a4, a5, a6⟩ := hSs i hi
    by_cases q : i = s
    · subst q
      refine ⟨a1, a2, a3, a4, ?_, fun f hf hm => ?_⟩
      · show (up3 (up3 (vM v) 8 i 7 set) 32 y3 k now) 8 i 7 = st3 (up2 m 36 (3 * i + k) now 36 (3 * i)) (up2 m 36 (3 * i + k) now 36 (3 * i + 1)) (up2 m 36 (3 * i + k) now 36 (3 * i + 2))
        have a5 : vM v 8 i 7 = _ := a5
        rw [up3_o (by decide), up3_s, up2_r, st3_k hk hn, hset, a5]
      · show (up3 (up3 (vM v) 8 i 7 set) 32 y3 k now) 32 (vN v 8 i 6 / 64) f = up2 m 36 (3 * i + k) now 36 (3 * i + f)
        have hm : up2 m 36 (3 * i + k) now 36 (3 * i + f) ≠ -1 := hm
        rw [up2_r] at hm ⊢
        rw [ey]
        by_cases r : f = k
        · subst r; rw [up3_s, up1_s]
        · rw [up1_n (by omega)] at hm ⊢
          rw [up3_x (fun t => r t.2.2), up3_o (by decide), ← ey]
          exact a6 f hf hm
    · have ne : vN v 8 i 6 / 64 ≠ y3 := fun t => by
        have q1 : oo (vN v 8 i 6 / 64) = _ := o2 i hi
        rw [t, oy] at q1
        omega
      have e36 : ∀ f, f < 3 → up2 m 36 (3 * s + k) now 36 (3 * i + f) = m 36 (3 * i + f) := fun f hf => by rw [up2_r, up1_n (by omega)]
      refine ⟨a1, a2, a3, a4, ?_, fun f hf hm => ?_⟩
      · show (up3 (up3 (vM v) 8 s 7 set) 32 y3 k now) 8 i 7 = st3 (up2 m 36 (3 * s + k) now 36 (3 * i + 0)) (up2 m 36 (3 * s + k) now 36 (3 * i + 1)) (up2 m 36 (3 * s + k) now 36 (3 * i + 2))
        rw [up3_o (by decide), up3_n (fun t => q t.2), e36 0 (by decide), e36 1 (by decide), e36 2 (by decide)]; exact a5
      · show (up3 (up3 (vM v) 8 s 7 set) 32 y3 k now) 32 (vN v 8 i 6 / 64) f = up2 m 36 (3 * s + k) now 36 (3 * i + f)
        have hm : up2 m 36 (3 * s + k) now 36 (3 * i + f) ≠ -1 := hm
        rw [e36 f hf] at hm ⊢
        rw [up3_n (fun t => ne t.2), up3_o (by decide)]; exact a6 f hf hm
theorem CRh.showA {U : (Nat → List Nat) → Prop} {nL : Nat} {v : Vw} {m : Mst} {b T : Nat} (h : CRh U nL v m (b) (T)) {s k y3 : Nat} {now set : Int32} (hs : s < nn m 19) (hk : k < 3) (hy : vN v 7 s 8 = idc 32 y3) (hn : now ≠ -1) (hset : set = vM v 7 s 9 ||| ((1 : Int32) <<< (nI k &&& 31)))  : CRh U nL (uM (uM v 7 s 9 set) 32 y3 k now) (up2 m 29 (3 * s + k) now) (b) (T) := by
  obtain ⟨hF, hSt, hPe, hSe, hLn, hCt, hL3, hL4, hL5, hL6, hL7, hL8, hAr, hDv, hTo, hPu, hCa, hAu, hPp, hOw, hWr, hUn, hFl, hAt, hSa, hSs, hOs, hR70, hR81, hR82, hR90, hR95, hRt, hRr, hRa, hT7, hT8, hT10, hT12, hN8, hN10, hFa, hTu, hBu, hLa⟩ := h
  have ey : vN v 7 s 8 / 64 = y3 := by rw [hy, idc_div (by decide)]
  have y79 : 79 ≤ y3 := by rw [← ey]; exact (hSa s hs).2.1
  obtain ⟨oo, o1, o2⟩ := hOs
  have hOs : gOs (fun i => vN v 7 i 8) (fun i => vN v 8 i 6) (nn m 19) (nn m 30) := ⟨oo, o1, o2⟩
  have oy : oo y3 = 2 * s := by rw [← ey]; exact o1 s hs
  refine ⟨((((hF.oM (K := 7) (f := 9) rfl s set).oM (K := 32) (f := k) rfl y3 now).om (F := 29) rfl (3 * s + k) now)), (by first | exact hSt | (simp (config := { decide := true }) only [vN_uM, vM_uMo, vM_uMk]; exact hSt)), (by first | exact hPe | (simp (config := { decide := true }) only [vN_uM, vM_uMo, vM_uMk]; exact hPe)), (by first | exact hSe | (simp (config := { decide := true }) only [vN_uM, vM_uMo, vM_uMk]; exact hSe)), (by first | exact hLn | (simp (config := { decide := true }) only [vN_uM, vM_uMo, vM_uMk]; exact hLn)), (by first | exact hCt | (simp (config := { decide := true }) only [vN_uM, vM_uMo, vM_uMk]; exact hCt)), (by first | exact hL3 | (simp (config := { decide := true }) only [vN_uM, vM_uMo, vM_uMk]; exact hL3)), (by first | exact hL4 | (simp (config := { decide := true }) only [vN_uM, vM_uMo, vM_uMk]; exact hL4)), (by first | exact hL5 | (simp (config := { decide := true }) only [vN_uM, vM_uMo, vM_uMk]; exact hL5)), (by first | exact hL6 | (simp (config := { decide := true }) only [vN_uM, vM_uMo, vM_uMk]; exact hL6)), (by first | exact hL7 | (simp (config := { decide := true }) only [vN_uM, vM_uMo, vM_uMk]; exact hL7)), (by first | exact hL8 | (simp (config := { decide := true }) only [vN_uM, vM_uMo, vM_uMk]; exact hL8)), (hAr.cg (fun z hz => by show ((up3 (up3 (vM v) 7 s 9 set) 32 y3 k now) 32 z) = vM v 32 z; funext j; rw [up3_n (fun t => by omega), up3_o (by decide)])), (by first | exact hDv | (simp (config := { decide := true }) only [vN_uM, vM_uMo, vM_uMk]; exact hDv)), (by first | exact hTo | (simp (config := { decide := true }) only [vN_uM, vM_uMo, vM_uMk]; exact hTo)), (by first | exact hPu | (simp (config := { decide := true }) only [vN_uM, vM_uMo, vM_uMk]; exact hPu)), (by first | exact hCa | (simp (config := { decide := true }) only [vN_uM, vM_uMo, vM_uMk]; exact hCa)), (by first | exact hAu | (simp (config := { decide := true }) only [vN_uM, vM_uMo, vM_uMk]; exact hAu)), (by first | exact hPp | (simp (config := { decide := true }) only [vN_uM, vM_uMo, vM_uMk]; exact hPp)), (by first | exact hOw | (simp (config := { decide := true }) only [vN_uM, vM_uMo, vM_uMk]; exact hOw)), (by first | exact hWr | (simp (config := { decide := true }) only [vN_uM, vM_uMo, vM_uMk]; exact hWr)), (by first | exact hUn | (simp (config := { decide := true }) only [vN_uM, vM_uMo, vM_uMk]; exact hUn)), (by first | exact hFl | (simp (config := { decide := true }) only [vN_uM, vM_uMo, vM_uMk]; exact hFl)), (by first | exact hAt | (simp (config := { decide := true }) only [vN_uM, vM_uMo, vM_uMk]; exact hAt)), ?_, ?_, (by first | exact hOs | (simp (config := { decide := true }) only [vN_uM, vM_uMo, vM_uMk]; exact hOs)), (by first | exact hR70 | (simp (config := { decide := true }) only [vN_uM, vM_uMo, vM_uMk]; exact hR70)), (by first | exact hR81 | (simp (config := { decide := true }) only [vN_uM, vM_uMo, vM_uMk]; exact hR81)), (by first | exact hR82 | (simp (config := { decide := true }) only [vN_uM, vM_uMo, vM_uMk]; exact hR82)), (by first | exact hR90 | (simp (config := { decide := true }) only [vN_uM, vM_uMo, vM_uMk]; exact hR90)), (by first | exact hR95 | (simp (config := { decide := true }) only [vN_uM, vM_uMo, vM_uMk]; exact hR95)), (by first | exact hRt | (simp (config := { decide := true }) only [vN_uM, vM_uMo, vM_uMk]; exact hRt)), (by first | exact hRr | (simp (config := { decide := true }) only [vN_uM, vM_uMo, vM_uMk]; exact hRr)), (by first | exact hRa | (simp (config := { decide := true }) only [vN_uM, vM_uMo, vM_uMk]; exact hRa)), (by first | exact hT7 | (simp (config := { decide := true }) only [vN_uM, vM_uMo, vM_uMk]; exact hT7)), (by first | exact hT8 | (simp (config := { decide := true }) only [vN_uM, vM_uMo, vM_uMk]; exact hT8)), (by first | exact hT10 | (simp (config := { decide := true }) only [vN_uM, vM_uMo, vM_uMk]; exact hT10)), (by first | exact hT12 | (simp (config := { decide := true }) only [vN_uM, vM_uMo, vM_uMk]; exact hT12)), (by first | exact hN8 | (simp (config := { decide := true }) only [vN_uM, vM_uMo, vM_uMk]; exact hN8)), (by first | exact hN10 | (simp (config := { decide := true }) only [vN_uM, vM_uMo, vM_uMk]; exact hN10)), (by first | exact hFa | (simp (config := { decide := true }) only [vN_uM, vM_uMo, vM_uMk]; exact hFa)), (by first | exact hTu | (simp (config := { decide := true }) only [vN_uM, vM_uMo, vM_uMk]; exact hTu)), (by first | exact hBu | (simp (config := { decide := true }) only [vN_uM, vM_uMo, vM_uMk]; exact hBu)), (by first | exact hLa | (simp (config := { decide := true }) only [vN_uM, vM_uMo, vM_uMk]; exact hLa))⟩
  · intro i hi
    obtain ⟨a1, a2, a3, a4, a5, a6⟩ := hSa i hi
    by_cases q : i = s
    · subst q
      refine ⟨a1, a2, a3, a4, ?_, fun f hf hm => ?_⟩
      · show (up3 (up3 (vM v) 7 i 9 set) 32 y3 k now) 7 i 9 = st3 (up2 m 29 (3 * i + k) now 29 (3 * i)) (up2 m 29 (3 * i + k) now 29 (3 * i + 1)) (up2 m 29 (3 * i + k) now 29 (3 * i + 2))
        have a5 : vM v 7 i 9 = _ := a5
        rw [up3_o (by decide), up3_s, up2_r, st3_k hk hn, hset, a5]
      · show (up3 (up3 (vM v) 7 i 9 set) 32 y3 k now) 32 (vN v 7 i 8 / 64) f = up2 m 29 (3 * i + k) now 29 (3 * i + f)
        have hm : up2 m 29 (3 * i + k) now 29 (3 * i + f) ≠ -1 := hm
        rw [up2_r] at hm ⊢
        rw [ey]
        by_cases r : f = k
        · subst r; rw [up3_s, up1_s]
        · rw [up1_n (by omega)] at hm ⊢
          rw [up3_x (fun t => r t.2.2), up3_o (by decide), ← ey]
          exact a6 f hf hm
    · have ne : vN v 7 i 8 / 64 ≠ y3 := fun t => by
        have q1 : oo (vN v 7 i 8 / 64) = _ := o1 i hi
        rw [t, oy] at q1
        omega
      have e36 : ∀ f, f < 3 → up2 m 29 (3 * s + k) now 29 (3 * i + f) = m 29 (3 * i + f) := fun f hf => by rw [up2_r, up1_n (by omega)]
      refine ⟨a1, a2, a3, a4, ?_, fun f hf hm => ?_⟩
      · show (up3 (up3 (vM v) 7 s 9 set) 32 y3 k now) 7 i 9 = st3 (up2 m 29 (3 * s + k) now 29 (3 * i + 0)) (up2 m 29 (3 * s + k) now 29 (3 * i + 1)) (up2 m 29 (3 * s + k) now 29 (3 * i + 2))
        rw [up3_o (by decide), up3_n (fun t => q t.2), e36 0 (by decide), e36 1 (by decide), e36 2 (by decide)]; exact a5
      · show (up3 (up3 (vM v) 7 s 9 set) 32 y3 k now) 32 (vN v 7 i 8 / 64) f = up2 m 29 (3 * s + k) now 29 (3 * i + f)
        have hm : up2 m 29 (3 * s + k) now 29 (3 * i + f) ≠ -1 := hm
        rw [e36 f hf] at hm ⊢
        rw [up3_n (fun t => ne t.2), up3_o (by decide)]; exact a6 f hf hm
  · intro i hi
    obtain ⟨a1, a2, a3, a4, a5, a6⟩ := hSs i hi
    have ne : vN v 8 i 6 / 64 ≠ y3 := fun t => by
      have q1 : oo (vN v 8 i 6 / 64) = _ := o2 i hi
      rw [t, oy] at q1
      omega
    refine ⟨a1, a2, a3, a4, ?_, fun f hf hm => ?_⟩
    · show (up3 (up3 (vM v) 7 s 9 set) 32 y3 k now) 8 i 7 = _
      rw [up3_o (by decide), up3_o (by decide)]; exact a5
    · show (up3 (up3 (vM v) 7 s 9 set) 32 y3 k now) 32 (vN v 8 i 6 / 64) f = _
      rw [up3_n (fun t => ne t.2), up3_o (by decide)]; exact a6 f hf hm
