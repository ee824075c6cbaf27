/-! ===== a new session: the view ===== -/
def vA8 (v : Vw) (s : Nat) (now : Int32) (pr ow : Nat) : Vw := uN (uN (uM (uM (uM (uM (uN (uK v 8 9) 8 s 8 (idc 0 0)) 8 s 3 now) 8 s 4 now) 8 s 5 1) 8 s 0 (nI s)) 8 s 1 pr) 8 s 2 ow
theorem vA8_M {v : Vw} {s : Nat} {now : Int32} {pr ow : Nat} : vM (vA8 v s now pr ow) = up3 (up3 (up3 (up3 (row3 (vM v) 8 (vK v 8) (fun _ => 0)) 8 s 3 now) 8 s 4 now) 8 s 5 1) 8 s 0 (nI s) := rfl
theorem vA8_N {v : Vw} {s : Nat} {now : Int32} {pr ow : Nat} : vN (vA8 v s now pr ow) = up3 (up3 (up3 (row3 (vN v) 8 (vK v 8) (fun _ => nul)) 8 s 8 (idc 0 0)) 8 s 1 pr) 8 s 2 ow := rfl
theorem vA8_K {v : Vw} {s : Nat} {now : Int32} {pr ow : Nat} : vK (vA8 v s now pr ow) = up1 (vK v) 8 (vK v 8 + 1) ∧ vL (vA8 v s now pr ow) = up2 (vL v) 8 (vK v 8) 9 := ⟨rfl, rfl⟩
theorem vNS_M {v : Vw} {s : Nat} {now : Int32} {pr ow a3 : Nat} {set : Int32} : vM (vNS v s now pr ow a3 set) = up3 (row3 (row3 (vM (vA8 v s now pr ow)) 32 (vK (vA8 v s now pr ow) 32) (fun _ => 0)) 32 (vK (vA8 v s now pr ow) 32) (vM (vA8 v s now pr ow) 32 a3)) 8 s 7 set := rfl
theorem vNS_N {v : Vw} {s : Nat} {now : Int32} {pr ow a3 : Nat} {set : Int32} : vN (vNS v s now pr ow a3 set) = up3 (row3 (row3 (vN (vA8 v s now pr ow)) 32 (vK (vA8 v s now pr ow) 32) (fun _ => nul)) 32 (vK (vA8 v s now pr ow) 32) (vN (vA8 v s now pr ow) 32 a3)) 8 s 6 (idc 32 (vK v 32)) := rfl
theorem vNS_L {v : Vw} {s : Nat} {now : Int32} {pr ow a3 : Nat} {set : Int32} : vL (vNS v s now pr ow a3 set) = up2 (vL (vA8 v s now pr ow)) 32 (vK (vA8 v s now pr ow) 32) (vL (vA8 v s now pr ow) 32 a3) ∧ vK (vNS v s now pr ow a3 set) = up1 (vK (vA8 v s now pr ow)) 32 (vK (vA8 v s now pr ow) 32 + 1) := ⟨rfl, rfl⟩
theorem vNS_fr {v : Vw} {s : Nat} {now : Int32} {pr ow a3 : Nat} {set : Int32} (hs : vK v 8 = s) :
    (∀ K, K ≠ 8 → K ≠ 32 → vM (vNS v s now pr ow a3 set) K = vM v K ∧ vN (vNS v s now pr ow a3 set) K = vN v K ∧ vL (vNS v s now pr ow a3 set) K = vL v K ∧ vK (vNS v s now pr ow a3 set) K = vK v K) ∧
    (∀ z, z < vK v 32 → vM (vNS v s now pr ow a3 set) 32 z = vM v 32 z ∧ vL (vNS v s now pr ow a3 set) 32 z = vL v 32 z) ∧ vM (vNS v s now pr ow a3 set) 32 (vK v 32) = vM v 32 a3 ∧ vL (vNS v s now pr ow a3 set) 32 (vK v 32) = vL v 32 a3 ∧
    (∀ i, i ≠ s → vM (vNS v s now pr ow a3 set) 8 i = vM v 8 i ∧ vN (vNS v s now pr ow a3 set) 8 i = vN v 8 i) ∧
    (vM (vNS v s now pr ow a3 set) 8 s 0 = nI s ∧ vM (vNS v s now pr ow a3 set) 8 s 3 = now ∧ vM (vNS v s now pr ow a3 set) 8 s 4 = now ∧ vM (vNS v s now pr ow a3 set) 8 s 5 = 1 ∧ vM (vNS v s now pr ow a3 set) 8 s 7 = set) ∧
    (vN (vNS v s now pr ow a3 set) 8 s 8 = idc 0 0 ∧ vN (vNS v s now pr ow a3 set) 8 s 1 = pr ∧ vN (vNS v s now pr ow a3 set) 8 s 2 = ow ∧ vN (vNS v s now pr ow a3 set) 8 s 6 = idc 32 (vK v 32)) ∧
    vK (vNS v s now pr ow a3 set) 8 = s + 1 ∧ vK (vNS v s now pr ow a3 set) 32 = vK v 32 + 1 := by
  subst hs
  have k32 : vK (vA8 v (vK v 8) now pr ow) 32 = vK v 32 := by rw [vA8_K.1, up1_n (by decide)]
  refine ⟨fun K k1 k2 => ⟨?_, ?_, ?_, ?_⟩, fun z hz => ⟨?_, ?_⟩, ?_, ?_, fun i hi => ⟨?_, ?_⟩, ⟨?_, ?_, ?_, ?_, ?_⟩, ⟨?_, ?_, ?_, ?_⟩, ?_, ?_⟩
  · rw [vNS_M, up3_o k1, row3_o k2, row3_o k2, vA8_M, up3_o k1, up3_o k1, up3_o k1, up3_o k1, row3_o k1]
  · rw [vNS_N, up3_o k1, row3_o k2, row3_o k2, vA8_N, up3_o k1, up3_o k1, up3_o k1, row3_o k1]
  · rw [vNS_L.1, up2_o k2, vA8_K.2, up2_o k1]
  · rw [vNS_L.2, up1_n k2, vA8_K.1, up1_n k1]
  · rw [vNS_M, up3_o (by decide), k32, row3_n (fun q => by omega), row3_n (fun q => by omega), vA8_M, up3_o (by decide), up3_o (by decide), up3_o (by decide), up3_o (by decide), row3_o (by decide)]
  · rw [vNS_L.1, k32, up2_n (fun q => by omega), vA8_K.2, up2_o (by decide)]
  · rw [vNS_M, up3_o (by decide), k32, row3_s, vA8_M, up3_o (by decide), up3_o (by decide), up3_o (by decide), up3_o (by decide), row3_o (by decide)]
  · rw [vNS_L.1, k32, up2_s, vA8_K.2, up2_o (by decide)]
  · rw [vNS_M]
    funext t
    rw [up3_n (fun q => hi q.2), row3_o (by decide), row3_o (by decide), vA8_M, up3_n (fun q => hi q.2), up3_n (fun q => hi q.2), up3_n (fun q => hi q.2), up3_n (fun q => hi q.2), row3_n (fun q => hi q.2)]
  · rw [vNS_N]
    funext t
    rw [up3_n (fun q => hi q.2), row3_o (by decide), row3_o (by decide), vA8_N, up3_n (fun q => hi q.2), up3_n (fun q => hi q.2), up3_n (fun q => hi q.2), row3_n (fun q => hi q.2)]
  · rw [vNS_M, up3_k (by decide), row3_o (by decide), row3_o (by decide), vA8_M, up3_s]
  · rw [vNS_M, up3_k (by decide), row3_o (by decide), row3_o (by decide), vA8_M, up3_k (by decide), up3_k (by decide), up3_k (by decide), up3_s]
  · rw [vNS_M, up3_k (by decide), row3_o (by decide), row3_o (by decide), vA8_M, up3_k (by decide), up3_k (by decide), up3_s]
  · rw [vNS_M, up3_k (by decide), row3_o (by decide), row3_o (by decide), vA8_M, up3_k (by decide), up3_s]
  · rw [vNS_M, up3_s]
  · rw [vNS_N, up3_k (by decide), row3_o (by decide), row3_o (by decide), vA8_N, up3_k (by decide), up3_k (by decide), up3_s]
  · rw [vNS_N, up3_k (by decide), row3_o (by decide), row3_o (by decide), vA8_N, up3_k (by decide), up3_s]
  · rw [vNS_N, up3_k (by decide), row3_o (by decide), row3_o (by decide), vA8_N, up3_s]
  · rw [vNS_N, up3_s]
  · rw [vNS_L.2, up1_n (by decide), vA8_K.1, up1_s]
  · rw [vNS_L.2, k32, up1_s]
theorem MR.row {v v' : Vw} {m : Mst} (h : MR v m) (h4 : vM v' 4 = vM v 4 ∧ vN v' 4 = vN v 4) (h33 : vM v' 33 = vM v 33 ∧ vL v' 33 = vL v 33) (h32 : ∀ z, z < 79 → vM v' 32 z = vM v 32 z ∧ vL v' 32 z = vL v 32 z) : MR v' m := by
  intro F K a l hf
  have h79 := mtb_32 ⟨F, mtb_len hf⟩
  rw [mtb_D hf] at h79
  rcases h F K a l hf with ⟨k0, e⟩ | ⟨k0, e1, e2, e3⟩
  · exact Or.inl ⟨k0, by rw [h4.1]; exact e⟩
  · refine Or.inr ⟨k0, by rw [h4.2]; exact e1, ?_⟩
    rcases mtb_kd hf with q | ⟨q | q, -⟩
    · exact absurd q k0
    · subst q
      obtain ⟨g1, g2⟩ := h32 a (h79 rfl)
      rw [g1, g2]; exact ⟨e2, e3⟩
    · subst q
      rw [h33.1, h33.2]; exact ⟨e2, e3⟩
set_option maxHeartbeats 8000000 in
theorem CRh.sess {U : (Nat → List Nat) → Prop} {nL : Nat} {v : Vw} {m : Mst} {b T : Nat} (h : CRh U nL v m (b + 300 + 100) T) {p w a b' c : Int32} {pr ow a3 : Nat} (hS : nn m 30 ≤ 24) (hp : pr = rf 2 p) (hw : ow = rf 8 w) (ha3 : vL v 32 a3 = 3) (ha : (a ≠ -1 → vM v 32 a3 0 = a) ∧ (b' ≠ -1 → vM v 32 a3 1 = b') ∧ (c ≠ -1 → vM v 32 a3 2 = c)) : CRh U nL (vNS v (nn m 30) (m 0 0) pr ow a3 (st3 a b' c)) (mNS m p w a b' c) b T := by
  obtain ⟨hF, hSt, hPe, hSe, hLn, hCt, hL3, hL4, hL5, hL6, hL7, hL8, hAr, hDv, hTo, hPu, hCa, hAu, hPp, hOw, hWr, hUn, hFl, hAt, hSa, hSs, hOs, hR70, hR81, hR82, hR90, hR95, hRt, hRr, hRa, hT7, hT8, hT10, hT12, hN8, hN10, hFa, hTu, hBu, hLa⟩ := h
  have hs8 : vK v 8 = nn m 30 := hCt.2.2.1
  have h79 : 79 ≤ vK v 32 := hCt.2.2.2.2.2.2.2.2.2.2.2
  obtain ⟨f1, f2, f3, f4, f5, f6, f7, f8, f9⟩ := vNS_fr (now := m 0 0) (pr := pr) (ow := ow) (a3 := a3) (set := st3 a b' c) hs8
  obtain ⟨r31, r32, r33, r34, r35, r36, r30⟩ := mNS_r (m := m) (p := p) (w := w) (a := a) (b := b') (c := c)
  have o : ∀ F, F ≠ 30 ∧ F ≠ 31 ∧ F ≠ 32 ∧ F ≠ 33 ∧ F ≠ 34 → F ≠ 35 ∧ F ≠ 36 → mNS m p w a b' c F = m F := fun F x y => mNS_o x y
  have on : ∀ F, F ≠ 30 ∧ F ≠ 31 ∧ F ≠ 32 ∧ F ≠ 33 ∧ F ≠ 34 → F ≠ 35 ∧ F ≠ 36 → nn (mNS m p w a b' c) F = nn m F := fun F x y => by unfold nn; rw [o F x y]
  have n30 : nn (mNS m p w a b' c) 30 = nn m 30 + 1 := by unfold nn; rw [r30]; exact nI_clamp (by omega)
  have eZ : vZ (vNS v (nn m 30) (m 0 0) pr ow a3 (st3 a b' c)) = up1 (vZ v) 3 (vZ v 3 + 1) := rfl
  have eE : vE (vNS v (nn m 30) (m 0 0) pr ow a3 (st3 a b' c)) = up2 (vE v) 3 (vZ v 3) (idc 8 (nn m 30)) := rfl
  have eB : vB (vNS v (nn m 30) (m 0 0) pr ow a3 (st3 a b' c)) = vB v := rfl
  have eW : vW (vNS v (nn m 30) (m 0 0) pr ow a3 (st3 a b' c)) = vW v := rfl
  have eb : vb (vNS v (nn m 30) (m 0 0) pr ow a3 (st3 a b' c)) = vb v - (9 + 1) - (vL (vA8 v (nn m 30) (m 0 0) pr ow) 32 a3 + 1) - (2 * vZ v 3 + 12) := rfl
  have eb2 : vL (vA8 v (nn m 30) (m 0 0) pr ow) 32 a3 = 3 := by rw [vA8_K.2, up2_o (by decide)]; exact ha3
  rw [eb2, hL3.1] at eb
  generalize hV : vNS v (nn m 30) (m 0 0) pr ow a3 (st3 a b' c) = V at f1 f2 f3 f4 f5 f6 f7 f8 f9 eZ eE eB eW eb ⊢
  generalize hM : mNS m p w a b' c = M at r31 r32 r33 r34 r35 r36 r30 o on n30 ⊢
  have g1 := fun K k1 k2 => (f1 K k1 k2).1
  have g2 := fun K k1 k2 => (f1 K k1 k2).2.1
  have g3 := fun K k1 k2 => (f1 K k1 k2).2.2.1
  have g4 := fun K k1 k2 => (f1 K k1 k2).2.2.2
  unfold CRh
  simp only [eZ, eE, eB, eW, g2 0 (by decide) (by decide), g2 36 (by decide) (by decide), g2 2 (by decide) (by decide), g1 2 (by decide) (by decide), g2 37 (by decide) (by decide), g2 3 (by decide) (by decide), g4 14 (by decide) (by decide), g2 10 (by decide) (by decide), g2 12 (by decide) (by decide), g1 20 (by decide) (by decide), g4 20 (by decide) (by decide), g2 1 (by decide) (by decide), g4 1 (by decide) (by decide), g4 6 (by decide) (by decide), g1 6 (by decide) (by decide), g2 7 (by decide) (by decide), g1 7 (by decide) (by decide), g2 9 (by decide) (by decide), g2 11 (by decide) (by decide), g1 10 (by decide) (by decide), n30,
    on 77 (by decide) (by decide), on 19 (by decide) (by decide), on 39 (by decide) (by decide), on 46 (by decide) (by decide), on 52 (by decide) (by decide), on 70 (by decide) (by decide), o 37 (by decide) (by decide), o 17 (by decide) (by decide), o 18 (by decide) (by decide), o 65 (by decide) (by decide), o 1 (by decide) (by decide), o 2 (by decide) (by decide), o 5 (by decide) (by decide), o 6 (by decide) (by decide), o 69 (by decide) (by decide), o 0 (by decide) (by decide), o 60 (by decide) (by decide), o 64 (by decide) (by decide), o 67 (by decide) (by decide), o 57 (by decide) (by decide), o 54 (by decide) (by decide), o 74 (by decide) (by decide), o 4 (by decide) (by decide), o 9 (by decide) (by decide), o 10 (by decide) (by decide), o 11 (by decide) (by decide), o 12 (by decide) (by decide), o 13 (by decide) (by decide), o 14 (by decide) (by decide), o 15 (by decide) (by decide), o 23 (by decide) (by decide), o 24 (by decide) (by decide), o 29 (by decide) (by decide), o 20 (by decide) (by decide), o 40 (by decide) (by decide), o 45 (by decide) (by decide), o 71 (by decide) (by decide), o 76 (by decide) (by decide), o 47 (by decide) (by decide), o 41 (by decide) (by decide), o 42 (by decide) (by decide), o 43 (by decide) (by decide), o 48 (by decide) (by decide), o 49 (by decide) (by decide), o 51 (by decide) (by decide), o 62 (by decide) (by decide)]
  refine ⟨?_, hSt, hPe, hSe, ?_, ?_, ?_, hL4, hL5, hL6, hL7, hL8, ?_, hDv, hTo, hPu, hCa, hAu, hPp, hOw, hWr, hUn, gFl.ue (by decide) hFl, gAt.ue (by decide) hAt, ?_, ?_, ?_, hR70, ?_, ?_, hR90, hR95, hRt, hRr, hRa, hT7, ?_, hT10, hT12, ?_, hN10, hFa, hTu, ?_, hLa⟩
  · refine gF.new hF (K := 8) (n := nn m 30) (Fc := 30) (by decide) rfl (by omega) (fun K' i f hmem hne => ?_) (fun F i hc hne hmem => ?_) (fun F hc => ?_) (fun f F ht => ?_)
    · by_cases q : K' = 8
      · subst q
        rw [(f5 i (fun r => hne ⟨rfl, r⟩)).1]
      · have hK32 : K' ≠ 32 := by
          have : ∀ x, x ∈ ftab.map (fun x => (x.1, x.2.1)) → x.1 ≠ 32 := by decide +kernel
          exact this _ hmem
        rw [g1 K' q hK32]
    · by_cases q : F = 32 ∨ F = 33 ∨ F = 35
      · have hi : i ≠ nn m 30 := fun r => hne ⟨r, by rcases q with q | q | q <;> subst q <;> first | exact ⟨3, by decide⟩ | exact ⟨4, by decide⟩ | exact ⟨5, by decide⟩⟩
        rcases q with q | q | q <;> subst q
        · rw [r32, up1_n hi]
        · rw [r33, up1_n hi]
        · rw [r35, up1_n hi]
      · have h30 : F ≠ 30 := fun r => by rw [r] at hc; cases hc
        have hoth : F ≠ 31 ∧ F ≠ 34 ∧ F ≠ 36 := by
          have : ∀ x, x ∈ ftab.map (fun x => x.2.2) → x ≠ 31 ∧ x ≠ 34 ∧ x ≠ 36 := by decide +kernel
          exact this _ hmem
        rw [o F ⟨h30, hoth.1, fun r => q (Or.inl r), fun r => q (Or.inr (Or.inl r)), hoth.2.1⟩ ⟨fun r => q (Or.inr (Or.inr r)), hoth.2.2⟩]
    · by_cases q : F = 30
      · subst q; rw [if_pos rfl]; exact r30
      · rw [if_neg q]
        have : F = 77 ∨ F = 19 ∨ F = 39 ∨ F = 46 ∨ F = 52 ∨ F = 70 := by
          simp only [cF, Bool.or_eq_true, beq_iff_eq] at hc
          omega
        rcases this with e | e | e | e | e | e <;> subst e <;> rw [o _ (by decide) (by decide)]
    · have hf2 : (f = 3 ∧ F = 32) ∨ (f = 4 ∧ F = 33) ∨ (f = 5 ∧ F = 35) := by
        have : ∀ x, x ∈ ftab → x.1 = 8 → (x.2.1 = 3 ∧ x.2.2 = 32) ∨ (x.2.1 = 4 ∧ x.2.2 = 33) ∨ (x.2.1 = 5 ∧ x.2.2 = 35) := by decide +kernel
        exact this _ ht rfl
      rcases hf2 with ⟨e1, e2⟩ | ⟨e1, e2⟩ | ⟨e1, e2⟩ <;> subst e1 <;> subst e2
      · rw [r32, up1_s]; exact f6.2.1
      · rw [r33, up1_s]; exact f6.2.2.1
      · rw [r35, up1_s]; exact f6.2.2.2.1
  · exact hLn.cg (g3 36 (by decide) (by decide)) (g3 37 (by decide) (by decide)) fun z hz => (f2 z (by omega)).2
  · obtain ⟨c1, c2, c3, c4, c5, c6, c7, c8, c9, c10, c11, c12⟩ := hCt
    refine ⟨by rw [g4 5 (by decide) (by decide)]; exact c1, by rw [g4 7 (by decide) (by decide)]; exact c2, f8, by rw [g4 9 (by decide) (by decide)]; exact c4, by rw [g4 10 (by decide) (by decide)]; exact c5, by rw [g4 11 (by decide) (by decide)]; exact c6, by rw [g4 12 (by decide) (by decide)]; exact c7, by rw [g4 13 (by decide) (by decide), g4 1 (by decide) (by decide)]; exact c8, by rw [g4 1 (by decide) (by decide)]; exact c9, by rw [g4 14 (by decide) (by decide)]; exact c10, by rw [g4 15 (by decide) (by decide)]; exact c11, by omega⟩
  · have := hL3.add
    exact this
  · exact hAr.cg fun z hz => (f2 z (by omega)).1
  · exact hSa.cg (by omega) (fun _ _ => rfl) (fun _ _ => rfl) (fun z hz => (f2 z hz).1) (fun z hz => (f2 z hz).2)
  · intro i hi
    by_cases q : i = nn m 30
    · subst q
      have e6 : vN V 8 (nn m 30) 6 / 64 = vK v 32 := by rw [f7.2.2.2, idc_div (by decide)]
      refine ⟨?_, ?_, ?_, ?_, ?_, ?_⟩
      · show vN V 8 (nn m 30) 6 = idc 32 (vN V 8 (nn m 30) 6 / 64)
        rw [e6]; exact f7.2.2.2
      · show 79 ≤ vN V 8 (nn m 30) 6 / 64
        rw [e6]; exact h79
      · show vN V 8 (nn m 30) 6 / 64 < vK V 32
        rw [e6, f9]; omega
      · show vL V 32 (vN V 8 (nn m 30) 6 / 64) = 3
        rw [e6, f4]; exact ha3
      · show vM V 8 (nn m 30) 7 = _
        rw [f6.2.2.2.2, r36, up1_n (by omega), up1_n (by omega), up1_s, up1_n (by omega), up1_s, up1_s]
      · intro f hf hm
        show vM V 32 (vN V 8 (nn m 30) 6 / 64) f = _
        rw [e6, f3]
        rw [r36] at hm ⊢
        rcases (by omega : f = 0 ∨ f = 1 ∨ f = 2) with q | q | q <;> subst q
        · rw [up1_n (by omega), up1_n (by omega), Nat.add_zero, up1_s] at hm ⊢
          exact ha.1 hm
        · rw [up1_n (by omega), up1_s] at hm ⊢
          exact ha.2.1 hm
        · rw [up1_s] at hm ⊢
          exact ha.2.2 hm
    · have hi2 : i < nn m 30 := by omega
      obtain ⟨a1, a2, a3', a4, a5, a6⟩ := hSs i hi2
      have e1 := (f5 i q).1
      have e2 := (f5 i q).2
      have e36 : ∀ f, f < 3 → M 36 (3 * i + f) = m 36 (3 * i + f) := fun f hf => by rw [r36, up1_n (by omega), up1_n (by omega), up1_n (by omega)]
      refine ⟨?_, ?_, ?_, ?_, ?_, ?_⟩
      · show vN V 8 i 6 = idc 32 (vN V 8 i 6 / 64)
        rw [e2]; exact a1
      · show 79 ≤ vN V 8 i 6 / 64
        rw [e2]; exact a2
      · show vN V 8 i 6 / 64 < vK V 32
        rw [e2, f9]
        have : vN v 8 i 6 / 64 < vK v 32 := a3'
        omega
      · show vL V 32 (vN V 8 i 6 / 64) = 3
        rw [e2, (f2 _ a3').2]; exact a4
      · show vM V 8 i 7 = _
        have x0 := e36 0 (by decide)
        have x1 := e36 1 (by decide)
        have x2 := e36 2 (by decide)
        rw [Nat.add_zero] at x0
        rw [e1, x0, x1, x2]; exact a5
      · intro f hf hm
        show vM V 32 (vN V 8 i 6 / 64) f = _
        rw [e36 f hf] at hm ⊢
        rw [e2, (f2 _ a3').1]; exact a6 f hf hm
  · obtain ⟨oo, o1, o2⟩ := hOs
    refine ⟨up1 oo (vK v 32) (2 * nn m 30 + 1), fun i hi => ?_, fun i hi => ?_⟩
    · rw [up1_n (by have := (hSa i hi).2.2.1; omega)]; exact o1 i hi
    · by_cases q : i = nn m 30
      · subst q
        show up1 oo (vK v 32) _ (vN V 8 (nn m 30) 6 / 64) = _
        rw [f7.2.2.2, idc_div (by decide), up1_s]
      · have hi2 : i < nn m 30 := by omega
        show up1 oo (vK v 32) _ (vN V 8 i 6 / 64) = _
        have h3 : vN v 8 i 6 / 64 < vK v 32 := (hSs i hi2).2.2.1
        rw [(f5 i q).2, up1_n (by omega)]; exact o2 i hi2
  · refine hR81.add (fun i hi => ⟨by rw [(f5 i (by omega)).2], by rw [r31, up1_n (by omega)]⟩) ?_
    rw [r31, up1_s, f7.2.1]; exact hp
  · refine hR82.add (fun i hi => ⟨by rw [(f5 i (by omega)).2], by rw [r34, up1_n (by omega)]⟩) ?_
    rw [r34, up1_s, f7.2.2.1]; exact hw
  · exact hT8.add (fun i hi => by rw [(f5 i (by omega)).2]) f7.1
  · exact hN8.add (fun i hi => by rw [(f5 i (by omega)).1]) f6.1
  · rw [eb, r35, ]
    have := cnt_new (f := m 35) (n := nn m 30) (x := 1) (by decide)
    unfold gBu at hBu ⊢
    omega
