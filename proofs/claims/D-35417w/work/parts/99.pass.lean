/-! ===== the keys' turn; operations (27): pass ===== -/
theorem vP_eq {w w' : Vw} (h : vM w = vM w' ∧ vN w = vN w' ∧ vL w = vL w' ∧ vK w = vK w' ∧ vZ w = vZ w' ∧ vE w = vE w') (hB : ∀ z, z ≠ 0 → vB w z = vB w' z) (h2 : vW w = vW w' ∧ vQ w = vQ w' ∧ vb w = vb w' ∧ vo w = vo w') {B : Nat → Bool} (hb : B = vB w' 0) : vP w B = w' := by
  obtain ⟨a1, a2, a3, a4, a5, a6⟩ := h
  obtain ⟨b1, b2, b3, b4⟩ := h2
  have e : up1 (vB w) 0 B = vB w' := by
    funext z
    by_cases q : z = 0
    · subst q; rw [up1_s, hb]
    · rw [up1_n q, hB z q]
  unfold vP
  rw [a1, a2, a3, a4, a5, a6, e, b1, b2, b3, b4]
  rfl
theorem vP_uM {v : Vw} {B : Nat → Bool} {K i j : Nat} {x : Int32} : vP (uM v K i j x) B = uM (vP v B) K i j x := rfl
theorem vP_uK {v : Vw} {B : Nat → Bool} {K n : Nat} : vP (uK v K n) B = uK (vP v B) K n := rfl
theorem vP_uA {v : Vw} {B : Nat → Bool} {y x : Nat} : vP (uA v y x) B = uA (vP v B) y x := rfl
theorem CRh.eqv {U : (Nat → List Nat) → Prop} {nL : Nat} {v v' : Vw} {m m' : Mst} {b T : Nat} (h : CRh U nL v m b T) (e : v' = v) (e2 : m' = m) : CRh U nL v' m' b T := by
  subst e
  subst e2
  exact h
theorem c_writeP {v : Vw} {B : Nat → Bool} {m m0 : Mst} {o : Nat × Int64} {b T : Nat} (h : CC (vP v B) m m0 o (b + 260) T) (w : wOK m) {k n : Int32} (hk : sml k 6) (hn : sml n 65535) {P : Unit → Vw → Prop} {X : String → Vw → Prop} (hP : ∀ v', vB v' 0 = vB v 0 → CC (vP v' B) (mW m k n) m0 o b T → P () v') : h_X1_write 0 k n P X v := by
  obtain ⟨h, hm, ho⟩ := h
  have hb : b + 260 ≤ vb v := h.bud
  have h8 : vZ v 8 = nn m 77 := h.hL8.1
  obtain ⟨w1, w2, ⟨sa, w3, w4⟩, ⟨sc, w5, w6⟩⟩ := w
  obtain ⟨kk, k1, k2⟩ := hk
  obtain ⟨kn, n1, n2⟩ := hn
  have ev := h.entry k n (sumq (m 81 0) k n (m 0 0)) (by omega)
  have e5 : vK v 5 = nn m 77 := h.hCt.1
  have c13 : 8 < vK v 13 := h.lt13 (by decide)
  have g16 : vM v 0 0 16 = m 0 0 := h.g16
  have g15 : vM v 0 0 15 = m 81 0 := h.g15
  have s14 : vN v 0 0 14 = idc 13 8 := h.s14
  have hm' : MR v m0 := MR.eqv hm rfl rfl rfl
  unfold h_X1_write
  refine hnw_i (by omega) (hgI_e (x := m 0 0) ?_ (hbn0_i ?_))
  · show row3 (vM v) 5 (vK v 5) (fun _ => 0) 0 0 16 = _
    rw [row3_o (by decide)]; exact g16
  rw [e5]
  unfold h_X6_init
  refine hpI_i (hpI_i (hpI_i (hrt_i ?_)))
  refine hgR_e (x := idc 13 8) ?_ (hisK_i (hbn0_i (J2add ?_ ?_ ?_ ?_ ?_)))
  · show row3 (vN v) 5 (vK v 5) (fun _ => nul) 0 0 14 = _
    rw [row3_o (by decide)]; exact s14
  · show 8 < up1 (vK v) 5 (vK v 5 + 1) 13
    rw [up1_n (by decide)]; exact c13
  · rw [idc_mod (by decide)]; decide
  · show vZ v 8 < 4096
    omega
  · show 2 * vZ v 8 + 12 ≤ vb v - (3 + 1)
    omega
  · refine hgI_e (x := m 81 0) ?_ (hbn0_i ?_)
    · show up3 (up3 (up3 (row3 (vM v) 5 (vK v 5) (fun _ => 0)) 5 (nn m 77) 0 k) 5 (nn m 77) 1 n) 5 (nn m 77) 2 (m 0 0) 0 0 15 = _
      rw [up3_o (by decide), up3_o (by decide), up3_o (by decide), row3_o (by decide)]; exact g15
    · unfold h_X6_after
      refine hgI_e (x := k) ?_ (hgI_e (x := n) ?_ (hgI_e (x := m 0 0) ?_ (hrt_i (hpI_i (hrt_i ?_)))))
      · show up3 (up3 (up3 (row3 (vM v) 5 (vK v 5) (fun _ => 0)) 5 (nn m 77) 0 k) 5 (nn m 77) 1 n) 5 (nn m 77) 2 (m 0 0) 5 (nn m 77) 0 = _
        rw [up3_k (by decide), up3_k (by decide), up3_s]
      · show up3 (up3 (up3 (row3 (vM v) 5 (vK v 5) (fun _ => 0)) 5 (nn m 77) 0 k) 5 (nn m 77) 1 n) 5 (nn m 77) 2 (m 0 0) 5 (nn m 77) 1 = _
        rw [up3_k (by decide), up3_s]
      · show up3 (up3 (up3 (row3 (vM v) 5 (vK v 5) (fun _ => 0)) 5 (nn m 77) 0 k) 5 (nn m 77) 1 n) 5 (nn m 77) 2 (m 0 0) 5 (nn m 77) 2 = _
        rw [up3_s]
      · have es : sumq (m 81 0) k n (m 0 0) = nI ((31 * sa + 100 * kk + kn + sc) % 65521) := by
          rw [w4, k2, n2, w6]; exact sumq_eq w3 k1 n1 w5
        rw [es] at ev
        rw [w4, k2, n2, w6, suml_eq w3 k1 n1 w5]
        rw [k2, n2, w6] at ev
        refine hP _ rfl ⟨?_, ?_, ho⟩
        · have e : mW m k n = up2 (up2 (up2 (up2 (up2 m 78 (nn m 77) (nI kk)) 79 (nn m 77) (nI kn)) 80 (nn m 77) (nI sc)) 77 0 (nI (nn m 77 + 1))) 81 0 (nI ((31 * sa + 100 * kk + kn + sc) % 65521)) := by
            unfold mW
            rw [es, k2, n2, w6]
          exact ev.eqv (by rw [vP_uM, vP_uA, vP_uM, vP_uM, vP_uM, vP_uK, ← n2, ← k2, ← w6]) e
        · exact (MR.oM (MR.oA (MR.oM (MR.oM (MR.oM (MR.oK hm' (Or.inl ⟨by decide, by decide, by decide⟩)) rfl) rfl) rfl)) rfl).eqv rfl rfl rfl
def opb (m : Mst) (j : Nat) : Bool := opn (m 0 0) (m 60 0).toNatClampNeg (m 64) (m 65) j
/-- the relation but for the published keys -/
abbrev CP (v : Vw) (m m0 : Mst) (o : Nat × Int64) (b T : Nat) : Prop := CC (vP v (opb m)) m m0 o b T
theorem CP.of {v : Vw} {m m0 : Mst} {o : Nat × Int64} {b T : Nat} (h : CP v m m0 o b T) (hB : ∀ j, vB v 0 j = opb m j) : CC v m m0 o b T := by
  have e : vP v (opb m) = v := vP_eq ⟨rfl, rfl, rfl, rfl, rfl, rfl⟩ (fun _ _ => rfl) ⟨rfl, rfl, rfl, rfl⟩ (funext fun j => (hB j).symm)
  unfold CP at h
  rw [e] at h
  exact h
def ktF : (Int32 → PV Unit) → Int32 → PV Unit := (fun r3 => fun u2 => hgI 0 0 19 fun v4 => hcnd (v4 ≤ u2) (hrt ()) (hgR 0 0 17 fun v6 => hgR 0 0 17 fun v7 => hisK 14 v7 fun i8 => hbn0 (h_J18_get i8 u2) (fun v10 => hbnd (ρ := _) (α := Int32) (hjo (σ := Unit) (fun _ => hrt (0 : Int32)) fun j17 => hcnd (v10 = 0) (j17 ()) (hgR 0 0 18 fun v19 => hisK 32 v19 fun i20 => haI 32 i20 u2 fun v22 => hgI 0 0 16 fun v23 => hcnd (v22 = v23) (j17 ()) (hrt (1 : Int32)))) (fun u11 => hisK 14 v6 fun i12 => hbn0 (h_J18_set_2 i12 u2 u11) (fun _ => r3 (u2 + (1 : Int32)))))))
theorem c_keysLoop {v : Vw} {m m0 : Mst} {o : Nat × Int64} {b T K : Nat} {old : Nat → Bool} (h : CP v m m0 o (b + 60) T) (h60 : m 60 0 = nI K) (hK : K ≤ 20) (hold : ∀ j, vB v 0 j = old j) (hB : ∀ k, k < K → opb m k = (old k && decide (m 65 k ≠ m 0 0))) (hB2 : ∀ k, K ≤ k → opb m k = old k) {P : Unit → Vw → Prop} {X : String → Vw → Prop} (hP : ∀ v', CC v' m m0 o b T → P () v') : hlp (σ := Int32) ktF (0 : Int32) P X v := by
  refine h_loop (N := K) (s := fun j => nI j) (fun k w => (∀ j, vB w 0 j = if j < k then opb m j else old j) ∧ CP w m m0 o (b + 3 * (K - k)) T) nI_0.symm (fun k w hk hw L hL => ?_) (fun w hw L => ?_) ⟨fun j => by rw [if_neg (Nat.not_lt_zero _)]; exact hold j, CCh.less h (by omega) (Nat.le_refl _)⟩
  · obtain ⟨hw1, hw2⟩ := hw
    have h14 := hw2.1.hCt.2.2.2.2.2.2.2.2.2.1
    have h14 : 21 ≤ vK w 14 := h14
    have hbd : b + 3 * (K - k) ≤ vb w := hw2.1.bud
    have bk0 : vB w 0 k = old k := by rw [hw1, if_neg (Nat.lt_irrefl _)]
    have hl3 : vL w 32 3 = 20 := hw2.1.hLn.2.2.2.2.2.2.1
    have fin : ∀ u : Int32, (u = 0 ∨ u = 1) → (¬ u = 0 ↔ opb m k = true) → (hbn0 (h_J18_set_2 0 (nI k) u) (fun _ => L (nI k + (1 : Int32)))) P X w := fun u hu hu2 => by
      refine hbn0_i ⟨k, ⟨rfl, by omega, by omega, fun _ => by omega⟩, ?_⟩
      rw [nI_1]
      refine hL _ ⟨fun j => ?_, ?_⟩
      · show up1 (vB w) 0 (up1 (vB w 0) k (decide (¬ u = 0))) 0 j = _
        rw [up1_s]
        by_cases q : j = k
        · subst q
          rw [up1_s, if_pos (by omega)]
          cases hq : opb m j
          · rw [hq] at hu2
            exact decide_eq_false (fun t => absurd (hu2.mp t) (by decide))
          · rw [hq] at hu2
            exact decide_eq_true (hu2.mpr rfl)
        · rw [up1_n q, hw1]
          by_cases r : j < k
          · rw [if_pos r, if_pos (by omega)]
          · rw [if_neg r, if_neg (by omega)]
      · have hsp : CC (ub (vP w (opb m)) (if u = 0 then 0 else 3)) m m0 o (b + 3 * (K - (k + 1))) T := ⟨(hw2.1.less (b' := b + 3 * (K - (k + 1)) + 3) (by omega) (Nat.le_refl _)).spend (by split <;> omega), hw2.2.1, hw2.2.2⟩
        have e : vP (uBs w 0 (up1 (vB w 0) k (decide (¬ u = 0))) (if u = 0 then 0 else 3)) (opb m) = ub (vP w (opb m)) (if u = 0 then 0 else 3) := by
          refine vP_eq ?_ (fun z hz => ?_) ?_ ?_
          · exact ⟨rfl, rfl, rfl, rfl, rfl, rfl⟩
          · show up1 (vB w) 0 _ z = up1 (vB w) 0 _ z
            rw [up1_n hz, up1_n hz]
          · exact ⟨rfl, rfl, rfl, rfl⟩
          · show opb m = up1 (vB w) 0 (opb m) 0
            rw [up1_s]
        show CC (vP (uBs w 0 (up1 (vB w 0) k (decide (¬ u = 0))) (if u = 0 then 0 else 3)) (opb m)) m m0 o (b + 3 * (K - (k + 1))) T
        rw [e]
        exact hsp
    show ktF L (nI k) P X w
    unfold ktF
    refine hgI_e (hw2.1.g19.trans h60) (hcnd_f (nI_ge hk (by omega)) (hgR_e (x := idc 14 0) hw2.1.s17 (hgR_e (x := idc 14 0) hw2.1.s17 (hisK_i (hbn0_i ⟨k, ⟨rfl, by omega, by omega⟩, ?_⟩)))))
    rw [bk0]
    have hBk := hB k hk
    refine hbnd_i (hjo_i (hcnd_i (fun q => hrt_i (hisK_i (fin 0 (Or.inl rfl) ?_))) fun q => hgR_e (x := idc 32 3) hw2.1.s18 (hisK_i (haI_e (n := k) (y := m 65 k) rfl (by rw [hl3]; omega) (by omega) (hw2.1.hAr.2.2.2.1 k (by omega)) (hgI_e hw2.1.g16 (hcnd_i (fun q2 => hrt_i (hisK_i (fin 0 (Or.inl rfl) ?_))) fun q2 => hrt_i (hisK_i (fin 1 (Or.inr rfl) ?_))))))))
    · have ho : old k = false := by
        cases hq : old k
        · rfl
        · rw [hq] at q; exact absurd q (by decide)
      rw [hBk, ho, Bool.false_and]
      exact ⟨fun t => absurd rfl t, fun t => absurd t (by decide)⟩
    · rw [hBk, decide_eq_false (fun t => t q2), Bool.and_false]
      exact ⟨fun t => absurd rfl t, fun t => absurd t (by decide)⟩
    · have ho : old k = true := by
        cases hq : old k
        · rw [hq] at q; exact absurd rfl q
        · rfl
      rw [hBk, ho, decide_eq_true q2]
      exact ⟨fun _ => rfl, fun _ => one_ne⟩
  · obtain ⟨hw1, hw2⟩ := hw
    show ktF L (nI K) P X w
    unfold ktF
    refine hgI_e (hw2.1.g19.trans h60) (hcnd_t (nI_le (Nat.le_refl _) (by omega)) (hrt_i (hP w ?_)))
    refine (CP.of hw2 fun j => ?_).less (by omega) (Nat.le_refl _)
    rw [hw1]
    by_cases q : j < K
    · rw [if_pos q]
    · rw [if_neg q]; exact (hB2 j (by omega)).symm
/-- a minute passes: the keys -/
def mTm (m : Mst) : Mst := if m 62 0 ≠ -1 ∧ ¬ m 0 0 + 1 < m 63 0 then mW (up2 (up2 (up2 (up2 m 0 0 (m 0 0 + 1)) 65 (nn m 61) (m 0 0 + 1 + 20)) 61 0 (m 62 0)) 62 0 (-1)) 5 (m 62 0) else up2 m 0 0 (m 0 0 + 1)
theorem opn_tick {m64 m65 : Nat → Int32} {c K k : Nat} (hc : c < 30000) (h : ixn (m65 k) 30021) : opn (nI (c + 1)) K m64 m65 k = (opn (nI c) K m64 m65 k && decide (m65 k ≠ nI (c + 1))) := by
  unfold opn
  by_cases q0 : k < K
  · rw [decide_eq_true q0]
    by_cases q1 : m64 k = 0
    · rw [decide_eq_true q1]
      rcases h with r | ⟨y, y1, y2⟩
      · rw [r, decide_eq_true (show (-1 : Int32) = -1 from rfl), decide_eq_true (show (-1 : Int32) ≠ nI (c + 1) from fun t => nI_nm (by omega) t.symm)]
        rfl
      · rw [y2, decide_eq_false (nI_nm (by omega))]
        have e1 : decide (nI (c + 1) < nI y) = decide (c + 1 < y) := decide_eq_decide.mpr (nI_ltI (by omega) (by omega))
        have e2 : decide (nI c < nI y) = decide (c < y) := decide_eq_decide.mpr (nI_ltI (by omega) (by omega))
        have e3 : decide (nI y ≠ nI (c + 1)) = decide (y ≠ c + 1) := decide_eq_decide.mpr (not_congr (nI_eq (by omega) (by omega)))
        rw [e1, e2, e3]
        by_cases q2 : c + 1 < y
        · rw [decide_eq_true q2, decide_eq_true (show c < y by omega), decide_eq_true (show y ≠ c + 1 by omega)]; rfl
        · rw [decide_eq_false q2]
          by_cases q3 : c < y
          · rw [decide_eq_true q3, decide_eq_false (show ¬ y ≠ c + 1 by omega)]; rfl
          · rw [decide_eq_false q3]; rfl
    · rw [decide_eq_false q1]; rfl
  · rw [decide_eq_false q0]; rfl
theorem Inv.tm {m : Mst} {T c : Nat} (h : Inv m T) (hT : T ≤ 24) (hc : m 0 0 = nI c) (hc2 : c < 30000) : Inv (mTm m) T := by
  have h0 := h.pPt
  have e1 : m 0 0 + 1 = nI (c + 1) := by rw [hc, nI_1]
  obtain ⟨K, s, k1, k2, k3, k4, k5, k6, k7, k8, k9⟩ := h.pKe
  unfold mTm
  by_cases q : m 62 0 ≠ -1 ∧ ¬ m 0 0 + 1 < m 63 0
  · rw [if_pos q]
    rcases k9 with r | ⟨w, w1, w2, w3, w4, w5, a, a1, a2, a3⟩
    · exact absurd r q.1
    · have n61 : nn m 61 = s := nIx k2 (by omega)
      rw [n61, e1, show nI (c + 1) + 20 = nI (c + 21) from by rw [show (20 : Int32) = nI 20 from by decide +kernel, nI_add], w1]
      have hA : Inv (up2 (up2 (up2 (up2 m 0 0 (nI (c + 1))) 65 s (nI (c + 21))) 61 0 (nI w)) 62 0 (-1)) T := by
        obtain ⟨i1, i2, i3, b5, b6, b7, b8, b35, b51, b64, b66, b69, b73, iK, iA, iS, iC, iFm, iz, iT, iR, iRz, iL, iE, iV, iAz⟩ := h
        refine ⟨⟨⟨c + 1, by omega, rfl⟩, i1.2⟩, i2, ?_, b5, b6, b7, b8, b35, b51, b64, b66, b69, b73, ?_, iA, iS, iC, iFm, iz, iT, iR, iRz, iL, iE, iV, iAz⟩
        · show nn m 77 + (cnt (m 35) (nn m 30) + cnt (m 51) (nn m 46) + (if (-1 : Int32) = -1 then 0 else 1)) ≤ 4 * T
          unfold pt at h0
          rw [if_pos rfl]
          omega
        · show iKe (nI (c + 1)) (m 60 0) (nI w) (-1) (m 63 0) (m 64) (up2 (up2 m 0 0 (nI (c + 1))) 65 s (nI (c + 21)) 65)
          rw [up2_r]
          refine ⟨K, w, k1, rfl, w2, k4, by rw [up1_n w3]; exact w4, w5, fun k hk => ?_, fun k hk hk2 => ?_, Or.inl rfl⟩
          · by_cases r : k = s
            · subst r; rw [up1_s]; exact Or.inr ⟨c + 21, by omega, rfl⟩
            · rw [up1_n r]; exact k7 k hk
          · rw [up1_n (by omega)]; exact k8 k hk hk2
      refine hA.wr hT ⟨5, by decide, by decide +kernel⟩ ⟨w, by omega, rfl⟩ ?_
      show nn m 77 + 1 + (cnt (m 35) (nn m 30) + cnt (m 51) (nn m 46) + (if (-1 : Int32) = -1 then 0 else 1)) ≤ 4 * T
      unfold pt at h0
      rw [if_neg q.1] at h0
      rw [if_pos rfl]
      omega
  · rw [if_neg q, e1]
    obtain ⟨i1, i2, i3, b5, b6, b7, b8, b35, b51, b64, b66, b69, b73, iK, rest⟩ := h
    refine ⟨⟨⟨c + 1, by omega, rfl⟩, i1.2⟩, i2, i3, b5, b6, b7, b8, b35, b51, b64, b66, b69, b73, ⟨K, s, k1, k2, k3, k4, k5, k6, k7, k8, k9.imp id fun ⟨w, w1, w2, w3, w4, w5, a, a1, a2, a3⟩ => ⟨w, w1, w2, w3, w4, w5, a, a1, a2, ?_⟩⟩, rest⟩
    show (nI (c + 1)).toNatClampNeg < a
    rw [nI_clamp (by omega)]
    have h62 : m 62 0 ≠ -1 := by rw [w1]; exact nI_nm (by omega)
    have : m 0 0 + 1 < m 63 0 := Classical.byContradiction fun t => q ⟨h62, t⟩
    rw [e1, a2] at this
    exact (nI_ltI (by omega) (by omega)).mp this
theorem mTm_0 {m : Mst} : mTm m 0 0 = m 0 0 + 1 := by
  unfold mTm
  split
  · rw [mW_o (by decide), up2_o (by decide), up2_o (by decide), up2_o (by decide), up2_s]
  · exact up2_s
theorem mTm_o {m : Mst} {F : Nat} (h : F ≠ 77 ∧ F ≠ 78 ∧ F ≠ 79 ∧ F ≠ 80 ∧ F ≠ 81) (h2 : F ≠ 0 ∧ F ≠ 61 ∧ F ≠ 62 ∧ F ≠ 65) : mTm m F = m F := by
  unfold mTm
  split
  · rw [mW_o h, up2_o h2.2.2.1, up2_o h2.2.1, up2_o h2.2.2.2, up2_o h2.1]
  · exact up2_o h2.1
theorem c_turnKeys {v : Vw} {m m0 : Mst} {o : Nat × Int64} {b T T' c : Nat} (h : CC v m m0 o (b + 60 + 260) T') (hI : Inv m T) (hT : T ≤ 24) (hc : m 0 0 = nI c) (hc2 : c < 30000) {P : Unit → Vw → Prop} {X : String → Vw → Prop} (hP : ∀ v', CC v' (mTm m) m0 o (b + 260) T' → P () v') : h_X1_turnKeys 0 P X (uM v 0 0 16 (nI (c + 1))) := by
  obtain ⟨K, s, k1, k2, k3, k4, k5, k6, k7, k8, k9⟩ := hI.pKe
  have e1 : m 0 0 + 1 = nI (c + 1) := by rw [hc, nI_1]
  have n60 : (m 60 0).toNatClampNeg = K := by rw [k1, nI_clamp (by omega)]
  have hold : ∀ j, vB v 0 j = opn (nI c) K (m 64) (m 65) j := fun j => by
    have := h.1.hPu j
    rw [n60, hc] at this
    exact this
  have ht : CP (uM v 0 0 16 (nI (c + 1))) (up2 m 0 0 (nI (c + 1))) m0 o (b + 60 + 260) T' := ⟨h.1.tick (nI (c + 1)) (by rw [hc, nI_clamp (by omega), nI_clamp (by omega)]; omega), (h.2.1.oM rfl).eqv (v' := vP _ _) rfl rfl rfl, h.2.2⟩
  have hold' : ∀ j, vB (uM v 0 0 16 (nI (c + 1))) 0 j = opn (nI c) K (m 64) (m 65) j := hold
  have hw : wOK (up2 m 0 0 (nI (c + 1))) := by
    obtain ⟨w1, w2, w3, -⟩ := hI.w24 hT
    exact ⟨w1, w2, w3, c + 1, by omega, rfl⟩
  generalize uM v 0 0 16 (nI (c + 1)) = v1 at ht hold' ⊢
  have g62 : up2 m 0 0 (nI (c + 1)) 62 0 = m 62 0 := rfl
  have g21 : vM v1 0 0 21 = m 62 0 := ht.1.g21
  have g16 : vM v1 0 0 16 = nI (c + 1) := ht.1.g16
  have g22 : vM v1 0 0 22 = m 63 0 := ht.1.g22
  have g20 : vM v1 0 0 20 = nI s := ht.1.g20.trans k2
  have nosign : ¬ (m 62 0 ≠ -1 ∧ ¬ m 0 0 + 1 < m 63 0) → hlp (σ := Int32) ktF (0 : Int32) P X v1 := fun q => by
    have em : mTm m = up2 m 0 0 (nI (c + 1)) := by
      unfold mTm
      rw [if_neg q, e1]
    rw [em] at hP
    refine c_keysLoop (K := K) (old := opn (nI c) K (m 64) (m 65)) (b := b + 260) (ht.less (by omega) (Nat.le_refl _)) k1 k4 hold' (fun k hk => ?_) (fun k hk => ?_) hP
    · show opn (nI (c + 1)) (m 60 0).toNatClampNeg (m 64) (m 65) k = _
      rw [n60]
      exact opn_tick hc2 (k7 k (by omega))
    · show opn (nI (c + 1)) (m 60 0).toNatClampNeg (m 64) (m 65) k = _
      rw [n60]
      unfold opn
      rw [decide_eq_false (by omega), Bool.false_and, Bool.false_and]
  unfold h_X1_turnKeys
  refine hgI_e g21 (hbnd_i (hcnd_i (fun q => hrt_i (nosign fun t => t.1 q)) fun q1 => hgI_e g16 (hgI_e g22 (hcnd_i (fun q2 => ?_) fun q2 => hrt_i (nosign fun t => ?_)))))
  · rcases k9 with r | ⟨w, w1, w2, w3, w4, w5, a, a1, a2, a3⟩
    · exact absurd r q1
    · have hsg : m 62 0 ≠ -1 ∧ ¬ m 0 0 + 1 < m 63 0 := ⟨q1, by rw [e1, q2]; exact Int32.lt_irrefl⟩
      have n61 : nn m 61 = s := nIx k2 (by omega)
      have e20 : nI (c + 1) + 20 = nI (c + 21) := by rw [show (20 : Int32) = nI 20 from by decide +kernel, nI_add]
      have em : mTm m = mW (up2 (up2 (up2 (up2 m 0 0 (nI (c + 1))) 65 s (nI (c + 21))) 61 0 (nI w)) 62 0 (-1)) 5 (nI w) := by
        unfold mTm
        rw [if_pos hsg, n61, e1, e20, w1]
      rw [em] at hP
      have hl3 : vL v1 32 3 = 20 := ht.1.hLn.2.2.2.2.2.2.1
      have hop : ∀ j, opn (nI (c + 1)) K (m 64) (up1 (m 65) s (nI (c + 21))) j = opn (nI (c + 1)) K (m 64) (m 65) j := fun j => by
        unfold opn
        by_cases r : j = s
        · subst r
          rw [up1_s, k5, decide_eq_true (show nI (c + 1) < nI (c + 21) from nI_lt (by omega) (by omega))]
          simp
        · rw [up1_n r]
      have hr : CP (uM v1 32 3 s (nI (c + 21))) (up2 (up2 m 0 0 (nI (c + 1))) 65 s (nI (c + 21))) m0 o (b + 60 + 260) T' := by
        have eo : opb (up2 (up2 m 0 0 (nI (c + 1))) 65 s (nI (c + 21))) = opb (up2 m 0 0 (nI (c + 1))) := by
          funext j
          show opn (nI (c + 1)) (m 60 0).toNatClampNeg (m 64) (up2 (up2 m 0 0 (nI (c + 1))) 65 s (nI (c + 21)) 65) j = opn (nI (c + 1)) (m 60 0).toNatClampNeg (m 64) (m 65) j
          rw [up2_r, n60]
          exact hop j
        unfold CP
        rw [eo]
        exact ⟨ht.1.arRetires s (nI (c + 21)) (fun j => by
          show opn (nI (c + 1)) (m 60 0).toNatClampNeg (m 64) (up1 (m 65) s (nI (c + 21))) j = opn (nI (c + 1)) (m 60 0).toNatClampNeg (m 64) (m 65) j
          rw [n60]
          exact hop j), ht.2.1.oM rfl, ht.2.2⟩
      refine hgR_e (x := idc 32 3) ht.1.s18 (hgI_e g20 (hgI_e g16 (hisK_i (hbI_e rfl (by rw [hl3]; omega) (by omega) ?_))))
      rw [e20]
      have hold2 : ∀ j, vB (uM v1 32 3 s (nI (c + 21))) 0 j = opn (nI c) K (m 64) (m 65) j := hold'
      have hw2 : wOK (up2 (up2 m 0 0 (nI (c + 1))) 65 s (nI (c + 21))) := hw.o (by decide)
      have f64 : up2 (up2 m 0 0 (nI (c + 1))) 65 s (nI (c + 21)) 64 = m 64 := rfl
      have f60 : up2 (up2 m 0 0 (nI (c + 1))) 65 s (nI (c + 21)) 60 0 = nI K := k1
      have f0 : up2 (up2 m 0 0 (nI (c + 1))) 65 s (nI (c + 21)) 0 0 = nI (c + 1) := rfl
      have f65 : up2 (up2 m 0 0 (nI (c + 1))) 65 s (nI (c + 21)) 65 = up1 (m 65) s (nI (c + 21)) := by rw [up2_r]; rfl
      have f62 : up2 (up2 m 0 0 (nI (c + 1))) 65 s (nI (c + 21)) 62 0 = nI w := w1
      generalize uM v1 32 3 s (nI (c + 21)) = v2 at hr hold2 ⊢
      generalize up2 (up2 m 0 0 (nI (c + 1))) 65 s (nI (c + 21)) = M2 at hr hw2 f64 f60 f0 f65 f62 hP
      refine hgI_e (x := nI w) (hr.1.g21.trans f62) (hbn0_i ?_)
      unfold h_X1_sign
      have h3 : CP (uM v2 0 0 20 (nI w)) (up2 M2 61 0 (nI w)) m0 o (b + 60 + 260) T' := ⟨hr.1.signing (nI w), hr.2.1.oM rfl, hr.2.2⟩
      have hold3 : ∀ j, vB (uM v2 0 0 20 (nI w)) 0 j = opn (nI c) K (m 64) (m 65) j := hold2
      refine hpI_i ?_
      generalize uM v2 0 0 20 (nI w) = v3 at h3 hold3 ⊢
      refine (hbn0_i (c_writeP (k := (5 : Int32)) (n := nI w) h3 (hw2.o (by decide)) ⟨5, by decide, by decide +kernel⟩ ⟨w, by omega, rfl⟩ fun v4 e4 h5 => hrt_i ?_))
      have h6 : CC (vP (uM v4 0 0 21 (-1)) (opb (up2 M2 61 0 (nI w)))) (up2 (mW (up2 M2 61 0 (nI w)) 5 (nI w)) 62 0 (-1)) m0 o (b + 60 + 300) T' := ⟨h5.1.unwait3 (by rw [mW_o (by decide), up2_o (by decide), f62]; exact nI_nm (by omega)), (MR.oM (K := 0) (i := 0) (f := 21) (x := -1) h5.2.1 rfl).eqv rfl rfl rfl, h5.2.2⟩
      have eB : ∀ j, opb (up2 M2 61 0 (nI w)) j = opn (nI (c + 1)) K (m 64) (up1 (m 65) s (nI (c + 21))) j := fun j => by
        show opn (M2 0 0) (M2 60 0).toNatClampNeg (M2 64) (M2 65) j = _
        rw [f0, f60, nI_clamp (by omega), f64, f65]
      rw [← mW_cm (by decide) (by decide)] at h6
      have y65 : mW (up2 (up2 M2 61 0 (nI w)) 62 0 (-1)) 5 (nI w) 65 = up1 (m 65) s (nI (c + 21)) := by rw [mW_o (by decide), up2_o (by decide), up2_o (by decide)]; exact f65
      have y64 : mW (up2 (up2 M2 61 0 (nI w)) 62 0 (-1)) 5 (nI w) 64 = m 64 := by rw [mW_o (by decide), up2_o (by decide), up2_o (by decide)]; exact f64
      have y60 : mW (up2 (up2 M2 61 0 (nI w)) 62 0 (-1)) 5 (nI w) 60 0 = nI K := by rw [mW_o (by decide), up2_o (by decide), up2_o (by decide)]; exact f60
      have y0 : mW (up2 (up2 M2 61 0 (nI w)) 62 0 (-1)) 5 (nI w) 0 0 = nI (c + 1) := by rw [mW_o (by decide), up2_o (by decide), up2_o (by decide)]; exact f0
      generalize mW (up2 (up2 M2 61 0 (nI w)) 62 0 (-1)) 5 (nI w) = M at h6 y65 y64 y60 y0 hP
      have eob : ∀ j, opb M j = opn (nI (c + 1)) K (m 64) (up1 (m 65) s (nI (c + 21))) j := fun j => by
        unfold opb
        rw [y0, y60, nI_clamp (by omega), y64, y65]
      have h7 : CP (uM v4 0 0 21 (-1)) M m0 o (b + 60 + 300) T' := by
        have e : opb M = opb (up2 M2 61 0 (nI w)) := funext fun j => (eob j).trans (eB j).symm
        unfold CP
        rw [e]
        exact h6
      refine hpI_i (hrt_i ?_)
      refine c_keysLoop (K := K) (old := opn (nI c) K (m 64) (m 65)) (b := b + 260) (h7.less (by omega) (Nat.le_refl _)) y60 k4 (fun j => ?_) (fun k hk => ?_) (fun k hk => ?_) hP
      · show vB v4 0 j = _
        rw [e4]
        exact hold3 j
      · rw [eob, y65, y0, hop, opn_tick hc2 (k7 k (by omega))]
        by_cases r : k = s
        · subst r
          rw [up1_s, k5, decide_eq_true (show (-1 : Int32) ≠ nI (c + 1) from fun t => nI_nm (by omega) t.symm), decide_eq_true (show nI (c + 21) ≠ nI (c + 1) from fun t => by have := (nI_eq (by omega) (by omega)).mp t; omega)]
        · rw [up1_n r]
      · rw [eob]
        unfold opn
        rw [decide_eq_false (by omega), Bool.false_and, Bool.false_and]
  · rcases k9 with r | ⟨w, w1, w2, w3, w4, w5, a, a1, a2, a3⟩
    · exact absurd r q1
    · refine q2 ?_
      rw [hc, nI_clamp (by omega)] at a3
      have t2 := t.2
      rw [e1, a2] at t2
      rw [a2]
      have : ¬ c + 1 < a := fun u => t2 (nI_lt u (by omega))
      rw [show a = c + 1 by omega]
