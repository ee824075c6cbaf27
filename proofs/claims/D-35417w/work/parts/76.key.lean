/-! ===== a new key ===== -/
theorem gDv.cgB {B B' : Nat → Nat → Bool} {a b : Nat → Int32} (h : gDv B a b) (hB : ∀ z, z ≠ 0 → B' z = B z) : gDv B' a b := by
  intro p hp d hd
  rw [hB _ (by omega), hB _ (by omega)]
  exact h p hp d hd
theorem gTo.cgB {B B' : Nat → Nat → Bool} {a : Nat → Int32} (h : gTo B a) (hB : ∀ z, z ≠ 0 → B' z = B z) : gTo B' a := by
  intro s hs f hf
  rw [hB _ (by omega)]
  exact h s hs f hf
theorem gCa.cgB {p : Nat → Nat} {B B' : Nat → Nat → Bool} {K : Nat} {a : Nat → Int32} (h : gCa p B K a) (hB : ∀ z, z ≠ 0 → B' z = B z) : gCa p B' K a := by
  intro s hs
  obtain ⟨a1, a2, a3, a4⟩ := h s hs
  exact ⟨a1, a2, a3, fun k hk => by rw [hB _ (by omega)]; exact a4 k hk⟩
theorem gAu.cgB {p : Nat → Nat} {B B' : Nat → Nat → Bool} {K n : Nat} {a b : Nat → Int32} {t : Nat} (h : gAu p B K n a b t) (hB : ∀ z, z ≠ 0 → B' z = B z) : gAu p B' K n a b t := by
  intro s hs
  obtain ⟨a1, a2, a3, a4⟩ := h s hs
  exact ⟨a1, a2, a3, fun k => by rw [hB _ (by omega)]; exact a4 k⟩
theorem gPp.cgB {p : Nat → Nat} {B B' : Nat → Nat → Bool} {K n : Nat} {a : Nat → Int32} (h : gPp p B K n a) (hB : ∀ z, z ≠ 0 → B' z = B z) : gPp p B' K n a := by
  intro s hs
  obtain ⟨a1, a2, a3, a4⟩ := h s hs
  exact ⟨a1, a2, a3, fun k => by rw [hB _ (by omega)]; exact a4 k⟩
theorem CRh.newKey {U : (Nat → List Nat) → Prop} {nL : Nat} {v : Vw} {m : Mst} {b T : Nat} (h : CRh U nL v m (b + 303) (T)) {K : Nat} (hK : m 60 0 = nI K) (hK20 : K < 20) (h64 : m 64 K = 0) (h65 : m 65 K = -1) (hw : m 62 0 = -1) (y : Int32)  : CRh U nL (uM (uM (uM (uBs v 0 (up1 (vB v 0) K true) 3) 0 0 19 (nI (K + 1))) 0 0 21 (nI K)) 0 0 22 y) (up2 (up2 (up2 m 60 0 (nI (K + 1))) 62 0 (nI K)) 63 0 y) (b) (T) := by
  obtain ⟨hF, hSt, hPe, hSe, hLn, hCt, hL3, hL4, hL5, hL6, hL7, hL8, hAr, hDv, hTo, hPu, hCa, hAu, hPp, hOw, hWr, hUn, hFl, hAt, hSa, hSs, hOs, hR70, hR81, hR82, hR90, hR95, hRt, hRr, hRa, hT7, hT8, hT10, hT12, hN8, hN10, hFa, hTu, hBu, hLa⟩ := h
  refine ⟨(((hF.set (K := 0) (f := 19) (F := 60) (by decide) 0 (nI (K + 1))).set (K := 0) (f := 21) (F := 62) (by decide) 0 (nI K)).set (K := 0) (f := 22) (F := 63) (by decide) 0 y), (by first | exact hSt | (simp (config := { decide := true }) only [vM_uMk, vN_uNk]; exact hSt)), (by first | exact hPe | (simp (config := { decide := true }) only [vM_uMk, vN_uNk]; exact hPe)), (by first | exact hSe | (simp (config := { decide := true }) only [vM_uMk, vN_uNk]; exact hSe)), (by first | exact hLn | (simp (config := { decide := true }) only [vM_uMk, vN_uNk]; exact hLn)), (by first | exact hCt | (simp (config := { decide := true }) only [vM_uMk, vN_uNk]; exact hCt)), (by first | exact hL3 | (simp (config := { decide := true }) only [vM_uMk, vN_uNk]; exact hL3)), (by first | exact hL4 | (simp (config := { decide := true }) only [vM_uMk, vN_uNk]; exact hL4)), (by first | exact hL5 | (simp (config := { decide := true }) only [vM_uMk, vN_uNk]; exact hL5)), (by first | exact hL6 | (simp (config := { decide := true }) only [vM_uMk, vN_uNk]; exact hL6)), (by first | exact hL7 | (simp (config := { decide := true }) only [vM_uMk, vN_uNk]; exact hL7)), (by first | exact hL8 | (simp (config := { decide := true }) only [vM_uMk, vN_uNk]; exact hL8)), (by first | exact hAr | (simp (config := { decide := true }) only [vM_uMk, vN_uNk]; exact hAr)), (hDv.cgB (fun z hz => by show up1 (vB v) 0 (up1 (vB v 0) K true) z = vB v z; exact up1_n hz)), (hTo.cgB (fun z hz => by show up1 (vB v) 0 (up1 (vB v 0) K true) z = vB v z; exact up1_n hz)), ?_, (hCa.cgB (fun z hz => by show up1 (vB v) 0 (up1 (vB v 0) K true) z = vB v z; exact up1_n hz)), (hAu.cgB (fun z hz => by show up1 (vB v) 0 (up1 (vB v 0) K true) z = vB v z; exact up1_n hz)), (hPp.cgB (fun z hz => by show up1 (vB v) 0 (up1 (vB v 0) K true) z = vB v z; exact up1_n hz)), (by first | exact hOw | (simp (config := { decide := true }) only [vM_uMk, vN_uNk]; exact hOw)), (by first | exact hWr | (simp (config := { decide := true }) only [vM_uMk, vN_uNk]; exact hWr)), (by first | exact hUn | (simp (config := { decide := true }) only [vM_uMk, vN_uNk]; exact hUn)), (by first | exact hFl | (simp (config := { decide := true }) only [vM_uMk, vN_uNk]; exact hFl)), (by first | exact hAt | (simp (config := { decide := true }) only [vM_uMk, vN_uNk]; exact hAt)), (by first | exact hSa | (simp (config := { decide := true }) only [vM_uMk, vN_uNk]; exact hSa)), (by first | exact hSs | (simp (config := { decide := true }) only [vM_uMk, vN_uNk]; exact hSs)), (by first | exact hOs | (simp (config := { decide := true }) only [vM_uMk, vN_uNk]; exact hOs)), (by first | exact hR70 | (simp (config := { decide := true }) only [vM_uMk, vN_uNk]; exact hR70)), (by first | exact hR81 | (simp (config := { decide := true }) only [vM_uMk, vN_uNk]; exact hR81)), (by first | exact hR82 | (simp (config := { decide := true }) only [vM_uMk, vN_uNk]; exact hR82)), (by first | exact hR90 | (simp (config := { decide := true }) only [vM_uMk, vN_uNk]; exact hR90)), (by first | exact hR95 | (simp (config := { decide := true }) only [vM_uMk, vN_uNk]; exact hR95)), (by first | exact hRt | (simp (config := { decide := true }) only [vM_uMk, vN_uNk]; exact hRt)), (by first | exact hRr | (simp (config := { decide := true }) only [vM_uMk, vN_uNk]; exact hRr)), (by first | exact hRa | (simp (config := { decide := true }) only [vM_uMk, vN_uNk]; exact hRa)), (by first | exact hT7 | (simp (config := { decide := true }) only [vM_uMk, vN_uNk]; exact hT7)), (by first | exact hT8 | (simp (config := { decide := true }) only [vM_uMk, vN_uNk]; exact hT8)), (by first | exact hT10 | (simp (config := { decide := true }) only [vM_uMk, vN_uNk]; exact hT10)), (by first | exact hT12 | (simp (config := { decide := true }) only [vM_uMk, vN_uNk]; exact hT12)), (by first | exact hN8 | (simp (config := { decide := true }) only [vM_uMk, vN_uNk]; exact hN8)), (by first | exact hN10 | (simp (config := { decide := true }) only [vM_uMk, vN_uNk]; exact hN10)), (by first | exact hFa | (simp (config := { decide := true }) only [vM_uMk, vN_uNk]; exact hFa)), (by first | exact hTu | (simp (config := { decide := true }) only [vM_uMk, vN_uNk]; exact hTu)), ?_, (by first | exact hLa | (simp (config := { decide := true }) only [vM_uMk, vN_uNk]; exact hLa))⟩
  · intro j
    show up1 (vB v) 0 (up1 (vB v 0) K true) 0 j = opn (m 0 0) (nI (K + 1)).toNatClampNeg (m 64) (m 65) j
    rw [up1_s]
    have h0 := hPu j
    rw [hK, nI_clamp (by omega)] at h0
    rw [nI_clamp (by omega)]
    unfold opn at h0 ⊢
    by_cases q : j = K
    · subst q; rw [up1_s, h64, h65]; simp
    · rw [up1_n q, h0, decide_eq_decide.mpr (show j < K ↔ j < K + 1 by omega)]
  · show gBu (vb v - 3) b (m 35) (m 51) (nn m 30) (nn m 46) (nI K)
    unfold gBu at hBu ⊢
    rw [hw, if_pos rfl] at hBu
    split <;> omega
