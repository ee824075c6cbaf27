/-! ===== the court's end of a family ===== -/
theorem up2_r {m : Mst} {F i : Nat} {x : Int32} : up2 m F i x F = up1 (m F) i x := by
  funext j
  unfold up2 up1
  simp
theorem cnt_o {f : Nat → Int32} {i : Nat} {x : Int32} : ∀ n, n ≤ i → cnt (up1 f i x) n = cnt f n
  | 0, _ => rfl
  | n + 1, h => by
    unfold cnt
    rw [cnt_o n (by omega), up1_n (by omega)]
theorem cnt_d {f : Nat → Int32} {i : Nat} (hi : f i ≠ 0) : ∀ n, i < n → cnt (up1 f i 0) n + 1 = cnt f n
  | 0, h => absurd h (Nat.not_lt_zero i)
  | n + 1, h => by
    unfold cnt
    by_cases q : i = n
    · subst q
      rw [cnt_o i (Nat.le_refl _), up1_s, if_pos rfl, if_neg hi]
    · have := cnt_d hi n (by omega)
      rw [up1_n (fun r => q r.symm)]
      omega
theorem CRh.ungood {U : (Nat → List Nat) → Prop} {nL : Nat} {v : Vw} {m : Mst} {b T : Nat} (h : CRh U nL v m b T) {f : Nat} (hf : f < nn m 46) (hg : m 51 f ≠ 0) : CRh U nL (uM v 10 f 5 0) (up2 m 51 f 0) (b + 300) T := by
  obtain ⟨hF, hSt, hPe, hSe, hLn, hCt, hL3, hL4, hL5, hL6, hL7, hL8, hAr, hDv, hTo, hPu, hCa, hAu, hPp, hOw, hWr, hUn, hFl, hAt, hSa, hSs, hOs, hR70, hR81, hR82, hR90, hR95, hRt, hRr, hRa, hT7, hT8, hT10, hT12, hN8, hN10, hFa, hTu, hBu, hLa⟩ := h
  refine ⟨hF.set (by decide) f 0, hSt, hPe, hSe, hLn, hCt, hL3, hL4, hL5, hL6, hL7, hL8, hAr, hDv, hTo, hPu, hCa, hAu, hPp, hOw, hWr, hUn, hFl, hAt, hSa, hSs, hOs, hR70, hR81, hR82, hR90, hR95, hRt, hRr, hRa, hT7, hT8, hT10, hT12, hN8, ?_, ?_, ?_, ?_, hLa⟩
  · simp (config := { decide := true }) only [vM_uMk]; exact hN10
  · simp (config := { decide := true }) only [vM_uMk]; exact hFa
  · simp (config := { decide := true }) only [vM_uMk]; exact hTu
  · show gBu (vb v) (b + 300) (m 35) (up2 m 51 f 0 51) (nn m 30) (nn m 46) (m 62 0)
    rw [up2_r]
    have := cnt_d hg (nn m 46) hf
    unfold gBu at hBu ⊢
    omega
/-- a family told to the services before j -/
def tellV (v : Vw) (f : Nat) (hs : Nat → Bool) : Nat → Vw
  | 0 => v
  | j + 1 => if hs j = true then (if vM v 3 j 0 = 0 then uBs (tellV v f hs j) (14 + 2 * j) (up1 (vB (tellV v f hs j) (14 + 2 * j)) f true) 3 else uWl (tellV v f hs j) (6 + j) (vW (tellV v f hs j) (6 + j) ++ [idc 10 f]) 4) else tellV v f hs j
theorem tellV_fr {v : Vw} {f : Nat} {hs : Nat → Bool} : ∀ j, vM (tellV v f hs j) = vM v ∧ vN (tellV v f hs j) = vN v ∧ vL (tellV v f hs j) = vL v ∧ vK (tellV v f hs j) = vK v ∧ vZ (tellV v f hs j) = vZ v ∧ vE (tellV v f hs j) = vE v ∧ vo (tellV v f hs j) = vo v ∧ vb v ≤ vb (tellV v f hs j) + 4 * j
  | 0 => ⟨rfl, rfl, rfl, rfl, rfl, rfl, rfl, Nat.le_refl _⟩
  | j + 1 => by
    obtain ⟨h1, h2, h3, h4, h5, h6, h7, h8⟩ := tellV_fr (v := v) (f := f) (hs := hs) j
    unfold tellV
    split
    · split
      · refine ⟨h1, h2, h3, h4, h5, h6, h7, ?_⟩
        show vb v ≤ vb (tellV v f hs j) - 3 + 4 * (j + 1)
        omega
      · refine ⟨h1, h2, h3, h4, h5, h6, h7, ?_⟩
        show vb v ≤ vb (tellV v f hs j) - 4 + 4 * (j + 1)
        omega
    · exact ⟨h1, h2, h3, h4, h5, h6, h7, by omega⟩
theorem tellV_Bo {v : Vw} {f : Nat} {hs : Nat → Bool} {b : Nat} : ∀ j, (∀ s, s < j → b ≠ 14 + 2 * s) → vB (tellV v f hs j) b = vB v b
  | 0, _ => rfl
  | j + 1, h => by
    have ih := tellV_Bo (v := v) (f := f) (hs := hs) (b := b) j fun s hs' => h s (by omega)
    unfold tellV
    split
    · split
      · show up1 (vB (tellV v f hs j)) (14 + 2 * j) _ b = _
        rw [up1_n (h j (by omega)), ih]
      · exact ih
    · exact ih
theorem tellV_Bs {v : Vw} {f : Nat} {hs : Nat → Bool} {s : Nat} : ∀ j, s < j → vB (tellV v f hs j) (14 + 2 * s) = if hs s = true ∧ vM v 3 s 0 = 0 then up1 (vB v (14 + 2 * s)) f true else vB v (14 + 2 * s)
  | 0, h => absurd h (Nat.not_lt_zero s)
  | j + 1, h => by
    by_cases q : s = j
    · subst q
      have e := tellV_Bo (v := v) (f := f) (hs := hs) (b := 14 + 2 * s) s fun s' h' => by omega
      unfold tellV
      by_cases h1 : hs s = true
      · rw [if_pos h1]
        by_cases h2 : vM v 3 s 0 = 0
        · rw [if_pos h2, if_pos ⟨h1, h2⟩]
          show up1 (vB (tellV v f hs s)) (14 + 2 * s) _ (14 + 2 * s) = _
          rw [up1_s, e]
        · rw [if_neg h2, if_neg (fun r => h2 r.2)]; exact e
      · rw [if_neg h1, if_neg (fun r => h1 r.1)]; exact e
    · have ih := tellV_Bs (v := v) (f := f) (hs := hs) (s := s) j (by omega)
      rw [← ih]
      rw [tellV]
      split
      · split
        · show up1 (vB (tellV v f hs j)) (14 + 2 * j) _ (14 + 2 * s) = _
          rw [up1_n (by omega)]
        · rfl
      · rfl
theorem tellV_Wo {v : Vw} {f : Nat} {hs : Nat → Bool} {i : Nat} : ∀ j, (∀ s, s < j → i ≠ 6 + s) → vW (tellV v f hs j) i = vW v i
  | 0, _ => rfl
  | j + 1, h => by
    have ih := tellV_Wo (v := v) (f := f) (hs := hs) (i := i) j fun s hs' => h s (by omega)
    unfold tellV
    split
    · split
      · exact ih
      · show up1 (vW (tellV v f hs j)) (6 + j) _ i = _
        rw [up1_n (h j (by omega)), ih]
    · exact ih
theorem tellV_Ws {v : Vw} {f : Nat} {hs : Nat → Bool} {s : Nat} : ∀ j, s < j → vW (tellV v f hs j) (6 + s) = if hs s = true ∧ vM v 3 s 0 ≠ 0 then vW v (6 + s) ++ [idc 10 f] else vW v (6 + s)
  | 0, h => absurd h (Nat.not_lt_zero s)
  | j + 1, h => by
    by_cases q : s = j
    · subst q
      have e := tellV_Wo (v := v) (f := f) (hs := hs) (i := 6 + s) s fun s' h' => by omega
      unfold tellV
      by_cases h1 : hs s = true
      · rw [if_pos h1]
        by_cases h2 : vM v 3 s 0 = 0
        · rw [if_pos h2, if_neg (fun r => r.2 h2)]; exact e
        · rw [if_neg h2, if_pos ⟨h1, h2⟩]
          show up1 (vW (tellV v f hs s)) (6 + s) _ (6 + s) = _
          rw [up1_s, e]
      · rw [if_neg h1, if_neg (fun r => h1 r.1)]; exact e
    · have ih := tellV_Ws (v := v) (f := f) (hs := hs) (s := s) j (by omega)
      rw [← ih]
      rw [tellV]
      split
      · split
        · rfl
        · show up1 (vW (tellV v f hs j)) (6 + j) _ (6 + s) = _
          rw [up1_n (by omega)]
      · rfl
/-- the first set bit, of four -/
theorem nsb_at {hs : Nat → Bool} (h4 : ∀ k, 4 ≤ k → hs k = false) (j : Nat) : (nsb hs j = -1 ∧ ∀ k, j ≤ k → hs k = false) ∨ ∃ k, j ≤ k ∧ k < 4 ∧ hs k = true ∧ nsb hs j = nI k ∧ ∀ i, j ≤ i → i < k → hs i = false := by
  unfold nsb
  rcases hq : (List.range 8).find? (fun k => decide (j ≤ k) && hs k) with _ | k
  · refine Or.inl ⟨rfl, fun k hk => ?_⟩
    by_cases s : k < 4
    · have := List.find?_eq_none.mp hq k (List.mem_range.mpr (by omega))
      rw [decide_eq_true hk, Bool.true_and] at this
      cases hh : hs k
      · rfl
      · exact absurd hh this
    · exact h4 k (by omega)
  · obtain ⟨h1, h2, h3⟩ := List.find?_range_eq_some.mp hq
    rw [Bool.and_eq_true, decide_eq_true_eq] at h1
    refine Or.inr ⟨k, h1.1, ?_, h1.2, rfl, fun i hi hik => ?_⟩
    · by_cases s : k < 4
      · exact s
      · rw [h4 k (by omega)] at h1
        exact absurd h1.2 (by decide)
    · have := h3 i hik
      rw [decide_eq_true hi, Bool.true_and] at this
      cases hh : hs i
      · rfl
      · rw [hh] at this; exact absurd this (by decide)
theorem tellV_skip {v : Vw} {f : Nat} {hs : Nat → Bool} {j : Nat} : ∀ k, j ≤ k → (∀ i, j ≤ i → i < k → hs i = false) → tellV v f hs k = tellV v f hs j
  | 0, h, _ => by rw [show j = 0 by omega]
  | k + 1, h, hz => by
    by_cases q : j = k + 1
    · rw [q]
    · have ih := tellV_skip (v := v) (f := f) (hs := hs) (j := j) k (by omega) fun i h1 h2 => hz i h1 (by omega)
      rw [tellV, if_neg (by rw [hz k (by omega) (by omega)]; decide)]
      exact ih
theorem c_tell {v : Vw} {s f : Nat} {hs : Nat → Bool} (h1 : hs s = true) (g1 : vN v 3 s 3 = idc 14 (14 + 2 * s)) (g2 : vN v 3 s 4 = idc 15 (6 + s)) (g3 : vM v 10 f 0 = nI f) (hf : f < 60) (g4 : 14 + 2 * s < vK v 14) (g5 : 6 + s < vK v 15) {j : Nat} (hj : j = s) (hb : 4 * s + 4 ≤ vb v) (hl : (vW v (6 + s)).length < 4096) {P : Unit → Vw → Prop} {X : String → Vw → Prop} (hP : P () (tellV v f hs (s + 1))) : h_X4_tell s (idc 10 f) P X (tellV v f hs s) := by
  obtain ⟨e1, e2, e3, e4, e5, e6, e7, e8⟩ := tellV_fr (v := v) (f := f) (hs := hs) s
  have ew := tellV_Wo (v := v) (f := f) (hs := hs) (i := 6 + s) s fun s' h' => by omega
  rw [tellV, if_pos h1] at hP
  unfold h_X4_tell
  refine hgI_e (x := vM v 3 s 0) (by rw [e1]) (hcnd_i (fun q => ?_) fun q => ?_)
  · rw [if_pos q] at hP
    refine hgR_e (x := idc 14 (14 + 2 * s)) (by rw [e2]; exact g1) (hisK_i (hgI_e (x := nI f) (by rw [e1]; exact g3) (hisK_i (hbn0_i ⟨f, ⟨rfl, by omega, by rw [e4]; exact g4, by omega⟩, hrt_i hP⟩))))
  · rw [if_neg q] at hP
    exact hgR_e (x := idc 15 (6 + s)) (by rw [e2]; exact g2) (hisK_i (hbn0_i ⟨⟨by rw [e4]; exact g5, by omega, by rw [ew]; exact hl⟩, hrt_i hP⟩))
