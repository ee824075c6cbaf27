/-! ===== a bit of an owned set; a recovery, a code, a token, a family more (printed by gen/ev83.py) ===== -/
theorem CRh.mapU {U U' : (Nat → List Nat) → Prop} {nL : Nat} {v : Vw} {m : Mst} {b T : Nat} (h : CRh U nL v m b T) (hU : U (vW v) → U' (vW v)) : CRh U' nL v m b T := by
  obtain ⟨hF, hSt, hPe, hSe, hLn, hCt, hL3, hL4, hL5, hL6, hL7, hL8, hAr, hDv, hTo, hPu, hCa, hAu, hPp, hOw, hWr, hUn, hFl, hAt, hSa, hSs, hOs, hR70, hR81, hR82, hR90, hR95, hRt, hRr, hRa, hT7, hT8, hT10, hT12, hN8, hN10, hFa, hTu, hBu, hLa⟩ := h
  exact ⟨hF, hSt, hPe, hSe, hLn, hCt, hL3, hL4, hL5, hL6, hL7, hL8, hAr, hDv, hTo, hPu, hCa, hAu, hPp, hOw, hWr, hU hUn, hFl, hAt, hSa, hSs, hOs, hR70, hR81, hR82, hR90, hR95, hRt, hRr, hRa, hT7, hT8, hT10, hT12, hN8, hN10, hFa, hTu, hBu, hLa⟩
theorem gDv.cgb {B B' : Nat → Nat → Bool} {a b : Nat → Int32} {bb : Nat} (h : gDv B a b) (hb : 21 ≤ bb) (hB : ∀ z, z ≠ bb → B' z = B z) : gDv B' a b := by
  intro p hp d hd
  rw [hB _ (by omega), hB _ (by omega)]
  exact h p hp d hd
theorem gTo.cgb {B B' : Nat → Nat → Bool} {a : Nat → Int32} {bb : Nat} (h : gTo B a) (hb : 21 ≤ bb) (hB : ∀ z, z ≠ bb → B' z = B z) : gTo B' a := by
  intro s hs f hf
  rw [hB _ (by omega)]
  exact h s hs f hf
theorem gPu.cgb {B B' : Nat → Nat → Bool} {c k : Int32} {a b : Nat → Int32} {bb : Nat} (h : gPu (B 0) c k a b) (hb : 21 ≤ bb) (hB : ∀ z, z ≠ bb → B' z = B z) : gPu (B' 0) c k a b := by
  rw [hB 0 (by omega)]
  exact h
theorem gCa.cgb {p : Nat → Nat} {B B' : Nat → Nat → Bool} {K K' : Nat} {a : Nat → Int32} {bb : Nat} (h : gCa p B K a) (hK : K ≤ K') (hne : ∀ s, s < 4 → p s / 64 ≠ bb) (hB : ∀ z, z ≠ bb → B' z = B z) : gCa p B' K' a := by
  intro s hs
  obtain ⟨a1, a2, a3, a4⟩ := h s hs
  exact ⟨a1, a2, by omega, fun k hk => by rw [hB _ (hne s hs)]; exact a4 k hk⟩
theorem gAu.cgb {p : Nat → Nat} {B B' : Nat → Nat → Bool} {K K' n : Nat} {a b : Nat → Int32} {t bb : Nat} (h : gAu p B K n a b t) (hK : K ≤ K') (hne : ∀ f, f < n → p f / 64 ≠ bb) (hB : ∀ z, z ≠ bb → B' z = B z) : gAu p B' K' n a b t := by
  intro s hs
  obtain ⟨a1, a2, a3, a4⟩ := h s hs
  exact ⟨a1, a2, by omega, fun k => by rw [hB _ (hne s hs)]; exact a4 k⟩
theorem gPp.cgb {p : Nat → Nat} {B B' : Nat → Nat → Bool} {K K' n : Nat} {a : Nat → Int32} {bb : Nat} (h : gPp p B K n a) (hK : K ≤ K') (hne : ∀ f, f < n → p f / 64 ≠ bb) (hB : ∀ z, z ≠ bb → B' z = B z) : gPp p B' K' n a := by
  intro s hs
  obtain ⟨a1, a2, a3, a4⟩ := h s hs
  exact ⟨a1, a2, by omega, fun k => by rw [hB _ (hne s hs)]; exact a4 k⟩
theorem hrs_cg {a b a' b' : Nat → Int32} {n s f : Nat} (h : ∀ t, t < n → a' t = a t ∧ b' t = b t) : hrs a' b' n s f = hrs a b n s f := by
  induction n with
  | zero => rfl
  | succ n ih =>
    rw [hrs_s, hrs_s, ih (fun t ht => h t (by omega)), (h n (by omega)).1, (h n (by omega)).2]
theorem hrs_no {a b : Nat → Int32} {n s f : Nat} (h : ∀ t, t < n → a t ≠ nI f) : hrs a b n s f = false := by
  induction n with
  | zero => rfl
  | succ n ih =>
    rw [hrs_s, ih (fun t ht => h t (by omega)), beq_eq_false_iff_ne.mpr (h n (by omega))]
    rfl
theorem bt1_0 : ∀ k, k < 6 → bt1 0 k = false := by
  intro k hk
  have : ∀ k : Fin 6, bt1 0 k.1 = false := by decide +kernel
  exact this ⟨k, hk⟩
theorem CRh.people {U : (Nat → List Nat) → Prop} {nL : Nat} {v : Vw} {m : Mst} {b T : Nat} (h : CRh U nL v m (b + 3) (T)) {r p bb : Nat} {y : Int32} (hr : r < nn m 70) (hp : p < 6) (hN : vN v 12 r 3 = idc 14 bb) (hy : ∀ k, k < 6 → bt1 y k = (bt1 (m 74 r) k || decide (k = p)))  : CRh U nL (uBs v bb (up1 (vB v bb) p true) 3) (up2 m 74 r y) (b) (T) := by
  obtain ⟨hF, hSt, hPe, hSe, hLn, hCt, hL3, hL4, hL5, hL6, hL7, hL8, hAr, hDv, hTo, hPu, hCa, hAu, hPp, hOw, hWr, hUn, hFl, hAt, hSa, hSs, hOs, hR70, hR81, hR82, hR90, hR95, hRt, hRr, hRa, hT7, hT8, hT10, hT12, hN8, hN10, hFa, hTu, hBu, hLa⟩ := h
  have hbr := hPp r hr
  have ebb : vN v 12 r 3 / 64 = bb := by rw [hN, idc_div (by decide)]
  have hbb : 21 ≤ bb := by rw [← ebb]; exact hbr.2.1
  obtain ⟨ow, oF, oR, oS⟩ := hOw
  have hOw : gOw (fun i => vN v 10 i 8) (fun i => vN v 12 i 3) (fun i => vN v 3 i 1) (nn m 46) (nn m 70) := ⟨ow, oF, oR, oS⟩
  have orr : ow bb = 3 * r + 1 := by rw [← ebb]; exact oR r hr
  have ne3 : ∀ s, s < 4 → (fun i => vN v 3 i 1) s / 64 ≠ bb := fun s hs t => by have := oS s hs; rw [t] at this; omega
  have ne8 : ∀ f, f < nn m 46 → (fun i => vN v 10 i 8) f / 64 ≠ bb := fun s hs t => by have := oF s hs; rw [t] at this; omega
  refine ⟨(hF.om (F := 74) rfl r y), (by first | exact hSt | (simp (config := { decide := true }) only [vM_uMk, vN_uNk]; exact hSt)), (by first | exact hPe | (simp (config := { decide := true }) only [vM_uMk, vN_uNk]; exact hPe)), (by first | exact hSe | (simp (config := { decide := true }) only [vM_uMk, vN_uNk]; exact hSe)), (by first | exact hLn | (simp (config := { decide := true }) only [vM_uMk, vN_uNk]; exact hLn)), (by first | exact hCt | (simp (config := { decide := true }) only [vM_uMk, vN_uNk]; exact hCt)), (by first | exact hL3 | (simp (config := { decide := true }) only [vM_uMk, vN_uNk]; exact hL3)), (by first | exact hL4 | (simp (config := { decide := true }) only [vM_uMk, vN_uNk]; exact hL4)), (by first | exact hL5 | (simp (config := { decide := true }) only [vM_uMk, vN_uNk]; exact hL5)), (by first | exact hL6 | (simp (config := { decide := true }) only [vM_uMk, vN_uNk]; exact hL6)), (by first | exact hL7 | (simp (config := { decide := true }) only [vM_uMk, vN_uNk]; exact hL7)), (by first | exact hL8 | (simp (config := { decide := true }) only [vM_uMk, vN_uNk]; exact hL8)), (by first | exact hAr | (simp (config := { decide := true }) only [vM_uMk, vN_uNk]; exact hAr)), (hDv.cgb hbb (fun z hz => by show up1 (vB v) bb (up1 (vB v bb) p true) z = vB v z; exact up1_n hz)), (hTo.cgb hbb (fun z hz => by show up1 (vB v) bb (up1 (vB v bb) p true) z = vB v z; exact up1_n hz)), (gPu.cgb (B := vB v) hPu hbb (fun z hz => by show up1 (vB v) bb (up1 (vB v bb) p true) z = vB v z; exact up1_n hz)), (hCa.cgb (Nat.le_refl _) ne3 (fun z hz => by show up1 (vB v) bb (up1 (vB v bb) p true) z = vB v z; exact up1_n hz)), (hAu.cgb (Nat.le_refl _) ne8 (fun z hz => by show up1 (vB v) bb (up1 (vB v bb) p true) z = vB v z; exact up1_n hz)), ?_, (by first | exact hOw | (simp (config := { decide := true }) only [vM_uMk, vN_uNk]; exact hOw)), (by first | exact hWr | (simp (config := { decide := true }) only [vM_uMk, vN_uNk]; exact hWr)), (by first | exact hUn | (simp (config := { decide := true }) only [vM_uMk, vN_uNk]; exact hUn)), (by first | exact hFl | (simp (config := { decide := true }) only [vM_uMk, vN_uNk]; exact hFl)), (by first | exact hAt | (simp (config := { decide := true }) only [vM_uMk, vN_uNk]; exact hAt)), (by first | exact hSa | (simp (config := { decide := true }) only [vM_uMk, vN_uNk]; exact hSa)), (by first | exact hSs | (simp (config := { decide := true }) only [vM_uMk, vN_uNk]; exact hSs)), (by first | exact hOs | (simp (config := { decide := true }) only [vM_uMk, vN_uNk]; exact hOs)), (by first | exact hR70 | (simp (config := { decide := true }) only [vM_uMk, vN_uNk]; exact hR70)), (by first | exact hR81 | (simp (config := { decide := true }) only [vM_uMk, vN_uNk]; exact hR81)), (by first | exact hR82 | (simp (config := { decide := true }) only [vM_uMk, vN_uNk]; exact hR82)), (by first | exact hR90 | (simp (config := { decide := true }) only [vM_uMk, vN_uNk]; exact hR90)), (by first | exact hR95 | (simp (config := { decide := true }) only [vM_uMk, vN_uNk]; exact hR95)), (by first | exact hRt | (simp (config := { decide := true }) only [vM_uMk, vN_uNk]; exact hRt)), (by first | exact hRr | (simp (config := { decide := true }) only [vM_uMk, vN_uNk]; exact hRr)), (by first | exact hRa | (simp (config := { decide := true }) only [vM_uMk, vN_uNk]; exact hRa)), (by first | exact hT7 | (simp (config := { decide := true }) only [vM_uMk, vN_uNk]; exact hT7)), (by first | exact hT8 | (simp (config := { decide := true }) only [vM_uMk, vN_uNk]; exact hT8)), (by first | exact hT10 | (simp (config := { decide := true }) only [vM_uMk, vN_uNk]; exact hT10)), (by first | exact hT12 | (simp (config := { decide := true }) only [vM_uMk, vN_uNk]; exact hT12)), (by first | exact hN8 | (simp (config := { decide := true }) only [vM_uMk, vN_uNk]; exact hN8)), (by first | exact hN10 | (simp (config := { decide := true }) only [vM_uMk, vN_uNk]; exact hN10)), (by first | exact hFa | (simp (config := { decide := true }) only [vM_uMk, vN_uNk]; exact hFa)), (by first | exact hTu | (simp (config := { decide := true }) only [vM_uMk, vN_uNk]; exact hTu)), (hBu.sp (d := 3) (Nat.le_refl _)), (by first | exact hLa | (simp (config := { decide := true }) only [vM_uMk, vN_uNk]; exact hLa))⟩
  · intro r2 hr2
    obtain ⟨a1, a2, a3, a4⟩ := hPp r2 hr2
    refine ⟨a1, a2, a3, fun k => ?_⟩
    show up1 (vB v) bb (up1 (vB v bb) p true) (vN v 12 r2 3 / 64) k = (decide (k < 6) && bt1 (up2 m 74 r y 74 r2) k)
    rw [up2_r]
    by_cases q : r2 = r
    · subst q
      have hbb2 : vN v 12 r2 3 / 64 = bb := by rw [hN, idc_div (by decide)]
      rw [hbb2, up1_s, up1_s]
      have a5 := a4 k
      rw [show (fun i => vN v 12 i 3) r2 / 64 = bb from hbb2] at a5
      by_cases q2 : k = p
      · subst q2
        rw [up1_s, hy k hp, decide_eq_true hp]; simp
      · rw [up1_n q2, a5]
        by_cases q3 : k < 6
        · rw [hy k q3]; simp [q2]
        · rw [decide_eq_false q3, Bool.false_and, Bool.false_and]
    · have hne : vN v 12 r2 3 / 64 ≠ bb := fun t => by
        have o1 := oR r hr
        have o2 := oR r2 hr2
        rw [show (fun i => vN v 12 i 3) r / 64 = bb by show vN v 12 r 3 / 64 = bb; rw [hN, idc_div (by decide)]] at o1
        rw [show (fun i => vN v 12 i 3) r2 / 64 = bb from t] at o2
        omega
      rw [up1_n hne, up1_n q]
      exact a4 k
theorem CRh.recovery {U : (Nat → List Nat) → Prop} {nL : Nat} {v : Vw} {m : Mst} {b T : Nat} (h : CRh U nL v m (b + 100) (T)) {p : Nat} (hp : p < 6) (hR : nn m 70 ≤ 24) (h74 : m 74 (nn m 70) = 0) (h75 : m 75 (nn m 70) = 0)  : CRh U nL (uA (uN (uN (uB (uM (uM (uN (uK v 12 6) 12 (nn m 70) 5 (idc 0 0)) 12 (nn m 70) 1 (m 0 0)) 12 (nn m 70) 2 1)) 12 (nn m 70) 3 (idc 14 (vK v 14))) 12 (nn m 70) 0 (idc 2 p)) 7 (idc 12 (nn m 70))) (up2 (up2 (up2 (up2 m 71 (nn m 70) (nI p)) 72 (nn m 70) (m 0 0)) 73 (nn m 70) 1) 70 0 (nI ((nn m 70) + 1))) (b) (T) := by
  obtain ⟨hF, hSt, hPe, hSe, hLn, hCt, hL3, hL4, hL5, hL6, hL7, hL8, hAr, hDv, hTo, hPu, hCa, hAu, hPp, hOw, hWr, hUn, hFl, hAt, hSa, hSs, hOs, hR70, hR81, hR82, hR90, hR95, hRt, hRr, hRa, hT7, hT8, hT10, hT12, hN8, hN10, hFa, hTu, hBu, hLa⟩ := h
  have lt3 : ∀ s, s < 4 → vN v 3 s 1 / 64 < vK v 14 := fun s hs => (hCa s hs).2.2.1
  have lt10 : ∀ f, f < nn m 46 → vN v 10 f 8 / 64 < vK v 14 := fun s hs => (hAu s hs).2.2.1
  have lt12 : ∀ r, r < nn m 70 → vN v 12 r 3 / 64 < vK v 14 := fun s hs => (hPp s hs).2.2.1
  have eK : vK v 12 = nn m 70 := hCt.2.2.2.2.2.2.1
  have h14 : 21 ≤ vK v 14 := hCt.2.2.2.2.2.2.2.2.2.1
  have k14 : up1 (up1 (vK v) 12 (vK v 12 + 1)) 14 (up1 (vK v) 12 (vK v 12 + 1) 14 + 1) 14 = vK v 14 + 1 := by rw [up1_s, up1_n (by decide)]
  have kle : vK v 14 ≤ up1 (up1 (vK v) 12 (vK v 12 + 1)) 14 (up1 (vK v) 12 (vK v 12 + 1) 14 + 1) 14 := by rw [k14]; omega
  refine ⟨?_, (by first | exact hSt | (simp (config := { decide := true }) only [vM_uMk, vN_uNk]; exact hSt)), (by first | exact hPe | (simp (config := { decide := true }) only [vM_uMk, vN_uNk]; exact hPe)), (by first | exact hSe | (simp (config := { decide := true }) only [vM_uMk, vN_uNk]; exact hSe)), (by first | exact hLn | (simp (config := { decide := true }) only [vM_uMk, vN_uNk]; exact hLn)), ?_, (by first | exact hL3 | (simp (config := { decide := true }) only [vM_uMk, vN_uNk]; exact hL3)), (by first | exact hL4 | (simp (config := { decide := true }) only [vM_uMk, vN_uNk]; exact hL4)), (by first | exact hL5 | (simp (config := { decide := true }) only [vM_uMk, vN_uNk]; exact hL5)), (by first | exact hL6 | (simp (config := { decide := true }) only [vM_uMk, vN_uNk]; exact hL6)), ?_, (by first | exact hL8 | (simp (config := { decide := true }) only [vM_uMk, vN_uNk]; exact hL8)), (by first | exact hAr | (simp (config := { decide := true }) only [vM_uMk, vN_uNk]; exact hAr)), (hDv.cgb h14 (fun z hz => by show up1 (vB v) (vK v 14) (fun _ => false) z = vB v z; exact up1_n hz)), (hTo.cgb h14 (fun z hz => by show up1 (vB v) (vK v 14) (fun _ => false) z = vB v z; exact up1_n hz)), (gPu.cgb (B := vB v) hPu h14 (fun z hz => by show up1 (vB v) (vK v 14) (fun _ => false) z = vB v z; exact up1_n hz)), (hCa.cgb (bb := vK v 14) kle (fun s hs t => absurd t (Nat.ne_of_lt (lt3 s hs))) (fun z hz => by show up1 (vB v) (vK v 14) (fun _ => false) z = vB v z; exact up1_n hz)), (hAu.cgb (bb := vK v 14) kle (fun s hs t => absurd t (Nat.ne_of_lt (lt10 s hs))) (fun z hz => by show up1 (vB v) (vK v 14) (fun _ => false) z = vB v z; exact up1_n hz)), ?_, ?_, (by first | exact hWr | (simp (config := { decide := true }) only [vM_uMk, vN_uNk]; exact hWr)), (by first | exact hUn | (simp (config := { decide := true }) only [vM_uMk, vN_uNk]; exact hUn)), (gFl.ue (by decide) hFl), (gAt.ue (by decide) hAt), (by first | exact hSa | (simp (config := { decide := true }) only [vM_uMk, vN_uNk]; exact hSa)), (by first | exact hSs | (simp (config := { decide := true }) only [vM_uMk, vN_uNk]; exact hSs)), (by first | exact hOs | (simp (config := { decide := true }) only [vM_uMk, vN_uNk]; exact hOs)), (by first | exact hR70 | (simp (config := { decide := true }) only [vM_uMk, vN_uNk]; exact hR70)), (by first | exact hR81 | (simp (config := { decide := true }) only [vM_uMk, vN_uNk]; exact hR81)), (by first | exact hR82 | (simp (config := { decide := true }) only [vM_uMk, vN_uNk]; exact hR82)), (by first | exact hR90 | (simp (config := { decide := true }) only [vM_uMk, vN_uNk]; exact hR90)), (by first | exact hR95 | (simp (config := { decide := true }) only [vM_uMk, vN_uNk]; exact hR95)), (by first | exact hRt | (simp (config := { decide := true }) only [vM_uMk, vN_uNk]; exact hRt)), ?_, (by first | exact hRa | (simp (config := { decide := true }) only [vM_uMk, vN_uNk]; exact hRa)), (by first | exact hT7 | (simp (config := { decide := true }) only [vM_uMk, vN_uNk]; exact hT7)), (by first | exact hT8 | (simp (config := { decide := true }) only [vM_uMk, vN_uNk]; exact hT8)), (by first | exact hT10 | (simp (config := { decide := true }) only [vM_uMk, vN_uNk]; exact hT10)), ?_, (by first | exact hN8 | (simp (config := { decide := true }) only [vM_uMk, vN_uNk]; exact hN8)), (by first | exact hN10 | (simp (config := { decide := true }) only [vM_uMk, vN_uNk]; exact hN10)), (by first | exact hFa | (simp (config := { decide := true }) only [vM_uMk, vN_uNk]; exact hFa)), (by first | exact hTu | (simp (config := { decide := true }) only [vM_uMk, vN_uNk]; exact hTu)), ?_, (by first | exact hLa | (simp (config := { decide := true }) only [vM_uMk, vN_uNk]; exact hLa))⟩
  · have eK : vK v 12 = (nn m 70) := hCt.2.2.2.2.2.2.1
    refine gF.cnt (K := 12) (Fc := 70) (n := (nn m 70)) ?_ (by decide) (by rw [nn_o (by decide), nn_o (by decide), nn_o (by decide)]) (by omega) ?_
    · have h0 := hF.bR (K := 12) (i := (nn m 70)) (Nat.le_refl _) (fun _ => 0)
      have h1 := h0.bM (K := 12) (i := (nn m 70)) (f := 1) (Nat.le_refl _) (m 0 0)
      have h2 := h1.bM (K := 12) (i := (nn m 70)) (f := 2) (Nat.le_refl _) 1
      have h3 := h2.om (F := 71) rfl (nn m 70) (nI p)
      have h4 := h3.bm (K := 12) (f := 1) (F := 72) (i := (nn m 70)) (by decide) (Nat.le_refl _) (m 0 0)
      have h5 := h4.bm (K := 12) (f := 2) (F := 73) (i := (nn m 70)) (by decide) (Nat.le_refl _) 1
      show gF (up3 (up3 (row3 (vM v) 12 (vK v 12) (fun _ => 0)) 12 (nn m 70) 1 (m 0 0)) 12 (nn m 70) 2 1) _
      rw [eK]
      exact h5
    · intro f F hf
      show (up3 (up3 (row3 (vM v) 12 (vK v 12) (fun _ => 0)) 12 (nn m 70) 1 (m 0 0)) 12 (nn m 70) 2 1) 12 ((nn m 70)) f = _
      have hf2 : (f = 1 ∧ F = 72) ∨ (f = 2 ∧ F = 73) ∨ (f = 4 ∧ F = 75) := by
        have : ∀ x, x ∈ ftab → x.1 = 12 → (x.2.1 = 1 ∧ x.2.2 = 72) ∨ (x.2.1 = 2 ∧ x.2.2 = 73) ∨ (x.2.1 = 4 ∧ x.2.2 = 75) := by decide +kernel
        exact this _ hf rfl
      rcases hf2 with ⟨a, c⟩ | ⟨a, c⟩ | ⟨a, c⟩ <;> subst a <;> subst c <;> simp [up3, up2, row3, eK, h75]
  · obtain ⟨c1, c2, c3, c4, c5, c6, c7, c8, c9, c10, c11, c12⟩ := hCt
    refine ⟨c1, c2, c3, c4, c5, c6, ?_, c8, c9, ?_, c11, c12⟩
    · show up1 (up1 (vK v) 12 (vK v 12 + 1)) 14 (up1 (vK v) 12 (vK v 12 + 1) 14 + 1) 12 = (nI ((nn m 70) + 1)).toNatClampNeg
      rw [up1_n (by decide), up1_s, nI_clamp (by omega), c7]
    · show 21 ≤ up1 (up1 (vK v) 12 (vK v 12 + 1)) 14 (up1 (vK v) 12 (vK v 12 + 1) 14 + 1) 14
      rw [up1_s, up1_n (by decide)]
      omega
  · show gL1 (up1 (vZ v) 7 (vZ v 7 + 1)) (up2 (vE v) 7 (vZ v 7) (idc 12 (nn m 70))) 7 12 ((nI ((nn m 70) + 1)).toNatClampNeg)
    rw [nI_clamp (by omega)]
    exact hL7.add
  · show gPp (fun i => up3 (up3 (up3 (row3 (vN v) 12 (vK v 12) (fun _ => nul)) 12 (nn m 70) 5 (idc 0 0)) 12 (nn m 70) 3 (idc 14 (vK v 14))) 12 (nn m 70) 0 (idc 2 p) 12 i 3) (up1 (vB v) (vK v 14) (fun _ => false)) (up1 (up1 (vK v) 12 (vK v 12 + 1)) 14 (up1 (vK v) 12 (vK v 12 + 1) 14 + 1) 14) (nI ((nn m 70) + 1)).toNatClampNeg (m 74)
    rw [nI_clamp (by omega), k14]
    intro r2 hr2
    have e3 : up3 (up3 (up3 (row3 (vN v) 12 (vK v 12) (fun _ => nul)) 12 (nn m 70) 5 (idc 0 0)) 12 (nn m 70) 3 (idc 14 (vK v 14))) 12 (nn m 70) 0 (idc 2 p) 12 r2 3 = if r2 = (nn m 70) then idc 14 (vK v 14) else vN v 12 r2 3 := by
      by_cases q : r2 = (nn m 70)
      · subst q; rw [if_pos rfl, up3_k (by decide), up3_s]
      · rw [if_neg q, up3_n (fun t => q t.2), up3_n (fun t => q t.2), up3_n (fun t => q t.2), row3_n (fun t => q (t.2.trans eK))]
    simp only [e3]
    by_cases q : r2 = (nn m 70)
    · rw [if_pos q, idc_div (by decide)]
      refine ⟨rfl, h14, by omega, fun k => ?_⟩
      rw [up1_s, q, h74]
      by_cases q3 : k < 6
      · rw [decide_eq_true q3, bt1_0 k q3]; rfl
      · rw [decide_eq_false q3]; rfl
    · rw [if_neg q]
      obtain ⟨a1, a2, a3, a4⟩ := hPp r2 (by omega)
      have a3 := lt12 r2 (by omega)
      exact ⟨a1, a2, Nat.lt_succ_of_lt a3, fun k => by rw [up1_n (Nat.ne_of_lt a3)]; exact a4 k⟩
  · obtain ⟨ow, oF, oR, oS⟩ := hOw
    refine ⟨fun z => if z = vK v 14 then 3 * (nn m 70) + 1 else ow z, fun f hf => ?_, fun r2 hr2 => ?_, fun s hs => ?_⟩
    · have o1 := oF f hf
      show (if vN v 10 f 8 / 64 = vK v 14 then _ else _) = _
      rw [if_neg (Nat.ne_of_lt (lt10 f hf))]; exact o1
    · have hr2 : r2 < (nI (nn m 70 + 1)).toNatClampNeg := hr2
      rw [nI_clamp (by omega)] at hr2
      have e3 : up3 (up3 (up3 (row3 (vN v) 12 (vK v 12) (fun _ => nul)) 12 (nn m 70) 5 (idc 0 0)) 12 (nn m 70) 3 (idc 14 (vK v 14))) 12 (nn m 70) 0 (idc 2 p) 12 r2 3 = if r2 = (nn m 70) then idc 14 (vK v 14) else vN v 12 r2 3 := by
        by_cases q : r2 = (nn m 70)
        · subst q; rw [if_pos rfl, up3_k (by decide), up3_s]
        · rw [if_neg q, up3_n (fun t => q t.2), up3_n (fun t => q t.2), up3_n (fun t => q t.2), row3_n (fun t => q (t.2.trans eK))]
      show (if up3 (up3 (up3 (row3 (vN v) 12 (vK v 12) (fun _ => nul)) 12 (nn m 70) 5 (idc 0 0)) 12 (nn m 70) 3 (idc 14 (vK v 14))) 12 (nn m 70) 0 (idc 2 p) 12 r2 3 / 64 = vK v 14 then _ else ow (up3 (up3 (up3 (row3 (vN v) 12 (vK v 12) (fun _ => nul)) 12 (nn m 70) 5 (idc 0 0)) 12 (nn m 70) 3 (idc 14 (vK v 14))) 12 (nn m 70) 0 (idc 2 p) 12 r2 3 / 64)) = _
      rw [e3]
      by_cases q : r2 = (nn m 70)
      · rw [if_pos q, idc_div (by decide), if_pos rfl, q]
      · rw [if_neg q]
        have o1 := oR r2 (by omega)
        rw [if_neg (Nat.ne_of_lt (lt12 r2 (by omega)))]; exact o1
    · have o1 := oS s hs
      show (if vN v 3 s 1 / 64 = vK v 14 then _ else _) = _
      rw [if_neg (Nat.ne_of_lt (lt3 s hs))]; exact o1
  · show gRf (fun i => up3 (up3 (up3 (row3 (vN v) 12 (vK v 12) (fun _ => nul)) 12 (nn m 70) 5 (idc 0 0)) 12 (nn m 70) 3 (idc 14 (vK v 14))) 12 (nn m 70) 0 (idc 2 p) 12 i 0) 2 (up2 m 71 (nn m 70) (nI p) 71) (nI ((nn m 70) + 1)).toNatClampNeg
    rw [nI_clamp (by omega), up2_r, eK]
    refine hRr.add (fun i hi => ⟨?_, up1_n (by omega)⟩) ?_
    · show up3 (up3 (up3 (row3 (vN v) 12 (nn m 70) (fun _ => nul)) 12 (nn m 70) 5 (idc 0 0)) 12 (nn m 70) 3 (idc 14 (vK v 14))) 12 (nn m 70) 0 (idc 2 p) 12 i 0 = _
      rw [up3_n (fun t => by omega), up3_n (fun t => by omega), up3_n (fun t => by omega), row3_n (fun t => by omega)]
    · show up3 (up3 (up3 (row3 (vN v) 12 (nn m 70) (fun _ => nul)) 12 (nn m 70) 5 (idc 0 0)) 12 (nn m 70) 3 (idc 14 (vK v 14))) 12 (nn m 70) 0 (idc 2 p) 12 (nn m 70) 0 = _
      rw [up3_s, up1_s, rf_ix (by omega)]
  · show gTh (fun i => up3 (up3 (up3 (row3 (vN v) 12 (vK v 12) (fun _ => nul)) 12 (nn m 70) 5 (idc 0 0)) 12 (nn m 70) 3 (idc 14 (vK v 14))) 12 (nn m 70) 0 (idc 2 p) 12 i 5) (nI ((nn m 70) + 1)).toNatClampNeg
    rw [nI_clamp (by omega), eK]
    refine hT12.add (fun i hi => ?_) ?_
    · show up3 (up3 (up3 (row3 (vN v) 12 (nn m 70) (fun _ => nul)) 12 (nn m 70) 5 (idc 0 0)) 12 (nn m 70) 3 (idc 14 (vK v 14))) 12 (nn m 70) 0 (idc 2 p) 12 i 5 = _
      rw [up3_n (fun t => by omega), up3_n (fun t => by omega), up3_n (fun t => by omega), row3_n (fun t => by omega)]
    · show up3 (up3 (up3 (row3 (vN v) 12 (nn m 70) (fun _ => nul)) 12 (nn m 70) 5 (idc 0 0)) 12 (nn m 70) 3 (idc 14 (vK v 14))) 12 (nn m 70) 0 (idc 2 p) 12 (nn m 70) 5 = _
      rw [up3_k (by decide), up3_k (by decide), up3_s]
  · show gBu (vb v - (6 + 1) - 6 - (2 * vZ v 7 + 12)) b (m 35) (m 51) (nn m 30) (nn m 46) (m 62 0)
    rw [hL7.1]
    unfold gBu at hBu ⊢
    omega
