/-! ===== a copy of a bit set ===== -/
/-- a bit set more -/
def uBn (v : Vw) (f : Nat → Bool) (c : Nat) : Vw := (vM v, vN v, vL v, up1 (vK v) 14 (vK v 14 + 1), vZ v, vE v, up1 (vB v) (vK v 14) f, vW v, vQ v, vb v - c, vo v)
theorem WF.bn {C C' : St} {v : Vw} {c d : Nat} {f : Nat → Bool} {o5 o4 o6 : Nat → Nat} (w : WF C v) (j : JWo C v o5 o4 o6) (hm : ∀ K, K ≠ 14 → K ≠ 34 → sM C' K = sM C K ∧ sN C' K = sN C K ∧ sG C' K = sG C K ∧ sL C' K = sL C K ∧ sK C' K = sK C K) (h14 : ∀ y', y' ≠ sK C 14 → sM C' 14 y' = sM C 14 y' ∧ sN C' 14 y' = sN C 14 y' ∧ sL C' 14 y' = sL C 14 y')
    (hk14 : sK C' 14 = sK C 14 + 1) (hk34 : sK C' 34 = sK C 34 + 1) (h34 : ∀ z, z < sK C 34 → sG C' 34 z = sG C 34 z ∧ sL C' 34 z = sL C 34 z) (hn : BS C' (up1 o4 (sK C 34) (2 * sK C 14)) (sK C 14) f) (hc : sC C ≤ sC C' + c ∧ sS C ≤ sS C' + c) (hd : c ≤ d) : WF C' (uBn v f d) := by
  obtain ⟨w1, w2, w3, -⟩ := w
  obtain ⟨j1, j2, j3, j4, j5⟩ := j
  have hk : sK C 14 = vK v 14 := w2 14 rfl
  refine ⟨fun K m => ?_, fun K m => ?_, ?_, ?_⟩
  · have n14 : K ≠ 14 := fun q => by subst q; cases m
    have n34 : K ≠ 34 := fun q => by subst q; cases m
    obtain ⟨m1, m2, m3, m4, m5⟩ := hm K n14 n34
    obtain ⟨p1, p2, p3⟩ := w1 K m
    exact ⟨m1.trans p1, m2.trans p2, m4.trans p3⟩
  · show sK C' K = up1 (vK v) 14 (vK v 14 + 1) K
    by_cases n14 : K = 14
    · subst n14; rw [up1_s, hk14, hk]
    · have n34 : K ≠ 34 := fun q => by subst q; cases m
      rw [up1_n n14, (hm K n14 n34).2.2.2.2]; exact w2 K m
  · show vb v - d ≤ _ ∧ vb v - d ≤ _
    omega
  · refine JW.bs (C := C) (v := v) (b := sK C 14) (o5 := o5) (o4 := o4) (o6 := o6) j1 j2 j3 j4 j5 (up1 o4 (sK C 34) (2 * sK C 14)) (fun z hz => up1_n (by omega)) (by omega) h14 (fun z hz _ => h34 z hz) (fun K q => ?_) (fun y' q ne => by omega) (fun y' ne => ?_) ⟨rfl, rfl, rfl, rfl, rfl⟩ (fun _ => ?_)
    · obtain ⟨n14, n34⟩ := jk_of4 q
      exact hm K n14 n34
    · exact up1_n (hk ▸ ne)
    · have z0 : vB (uBn v f d) (sK C 14) = f := by
        show up1 (vB v) (vK v 14) _ (sK C 14) = _
        rw [hk, up1_s]
      rw [z0]; exact hn
theorem p_trim {C : St} {o4 : Nat → Nat} {b : Nat} {bits : Nat → Bool} {P : Unit → St → Prop} {X : String → St → Prop} (h : BS C o4 b bits) (hc : 3 ≤ sC C ∧ 3 ≤ sS C) (k : ∀ C' o4', BR C C' o4 o4' b 3 → BS C' o4' b bits → P () C') : f_J18_trimToSize b P X C := by
  have h0 := h
  obtain ⟨z, w, z1, z2, z3, z4, z5, z6, z7, z8, z9, z10⟩ := h
  unfold f_J18_trimToSize
  refine ⟨z, z1, ?_⟩
  show cnd (sM C 14 b 1 = nI (sL C 34 z)) _ _ P X C
  rw [z4]
  refine cnd_i (fun q => ?_) fun q => ?_
  · exact k C o4 ⟨fun _ _ => rfl, Nat.le_refl _, fun _ _ => ⟨rfl, rfl, rfl⟩, fun _ _ _ => ⟨rfl, rfl⟩, fun _ _ _ => ⟨rfl, rfl, rfl, rfl, rfl⟩, rfl, by omega, by omega⟩ h0
  · have hw : w < sL C 34 z := by
      rcases Nat.lt_or_ge w (sL C 34 z) with r | r
      · exact r
      · exact absurd (by rw [show w = sL C 34 z by omega]) q
    refine ⟨z, z1, bn0_i ?_⟩
    rw [z4]
    unfold f_J13_copyOf_2
    refine cnd_i (fun q2 => absurd q2 q) fun _ => ?_
    have hcl : (nI w).toNatClampNeg = w := nI_clamp (by omega)
    have e0 : (0 : Int32).toNatClampNeg = 0 := by decide +kernel
    refine ⟨⟨nI_pos (by omega), by omega, by omega, by omega⟩, ?_⟩
    rw [hcl]
    have hne : z ≠ sK C 34 := by omega
    have el1 : sL (mk C 34 w) 34 z = sL C 34 z := up2_n (fun q => hne q.2)
    have el2 : sL (mk C 34 w) 34 (sK C 34) = w := up2_s
    have eg1 : sG (mk C 34 w) 34 z = sG C 34 z := row3_n (fun q => hne q.2)
    have eg2 : sG (mk C 34 w) 34 (sK C 34) = fun _ => 0 := row3_s
    show cpJ z 0 (sK C 34) 0 (mnI (nI (sL (mk C 34 w) 34 z)) (nI w)) _ _ _ _
    rw [el1, nI_mn (by omega) (by omega), Nat.min_eq_right (by omega)]
    refine ⟨⟨by decide, by decide, nI_pos (by omega), by rw [hcl, e0, el1]; omega, by rw [hcl, e0, el2]; omega⟩, ?_⟩
    rw [hcl, e0, eg1, eg2]
    have br := BR.mk C o4 b w (va_cpy (sG C 34 z) (fun _ => 0) 0 0 w)
    generalize hC1 : rG (mk C 34 w) 34 (sK C 34) (va_cpy (sG C 34 z) (fun _ => 0) 0 0 w) = C1 at br
    have k1 : sK C1 34 = sK C 34 + 1 := by subst hC1; show up1 (sK C) 34 (sK C 34 + 1) 34 = _; exact up1_s
    have g1 : sG C1 34 (sK C 34) = va_cpy (sG C 34 z) (fun _ => 0) 0 0 w := by subst hC1; exact row3_s
    have l1 : sL C1 34 (sK C 34) = w := by subst hC1; exact up2_s
    have l2 : sL C1 14 b = 3 := by
      subst hC1
      show up2 (sL C) 34 (sK C 34) w 14 b = 3
      rw [up2_n (fun q => absurd q.1 (by decide))]; exact z8
    have m1 : sM C1 14 b = sM C 14 b := by
      subst hC1
      show row3 (sM C) 34 (sK C 34) (fun _ => 0) 14 b = _
      exact row3_n (fun q => absurd q.1 (by decide))
    have hk1 : sK (mk C 34 w) 34 = sK C1 34 := by subst hC1; rfl
    show bn0 (f_J18_checkInvariants b) _ P X (wN C1 14 b 0 (idc 34 (sK C 34)))
    simp only [f_J18_checkInvariants, bn0, bnd, cnd, rt]
    refine ⟨fun q => absurd q (by decide), fun _ => ⟨fun q => absurd q (by decide), fun _ => ⟨fun q => absurd q (by decide), fun _ => ?_⟩⟩⟩
    obtain ⟨b1, b2, b3, b4, b5, b6, b7, b8⟩ := br.tr (BR.wN C1 _ b 0 (idc 34 (sK C 34)))
    refine k _ (up1 o4 (sK C 34) (2 * b)) ⟨b1, b2, b3, b4, b5, b6, by omega, by omega⟩ ⟨sK C 34, w, up3_s, ?_, up1_s, ?_, ?_, ?_, ?_, l2, fun k hk hk2 => ?_, fun k => ?_⟩
    · show sK C 34 < sK C1 34
      omega
    · show sM C1 14 b 1 = nI w
      rw [m1]; exact z4
    · show w ≤ sL C1 34 (sK C 34)
      omega
    · show sL C1 34 (sK C 34) ≤ 2
      omega
    · show sM C1 14 b 2 = 0
      rw [m1]; exact z7
    · have hk2' : k < sL C1 34 (sK C 34) := hk2
      omega
    · show _ = (decide (k / 64 < w) && (sG C1 34 (sK C 34) (k / 64)).toBitVec.getLsbD (k % 64))
      rw [z10 k, g1]
      by_cases s : k / 64 < w
      · unfold va_cpy
        rw [if_pos (by omega), show 0 + (k / 64 - 0) = k / 64 by omega]
      · rw [decide_eq_false s]; rfl
def h_J18_clone (b : Nat) : PV Nat := fun P _ v => (b < vK v 14 ∧ 10 ≤ vb v) ∧ P (idc 14 (vK v 14)) (uBn (uBs v b (vB v b) 3) (vB v b) 7)
theorem s_J18_clone (b : Nat) : Sim (h_J18_clone b) (f_J18_clone b) := fun P' X' v P X C w hP hX h => by
  obtain ⟨⟨hb, hv⟩, h⟩ := h
  have w3 := w.2.2.1
  obtain ⟨o5, o4, o6, j⟩ := w.jo
  have hk0 : sK C 14 = vK v 14 := w.2.1 14 rfl
  have hbs := j.2.1 b (by rw [hk0]; exact hb)
  have z7 := hbs
  obtain ⟨z, u, z1, z2, z3, z4, z5, z6, z7, z8, z9, z10⟩ := z7
  unfold f_J18_clone
  show bnd (cnd (sM C 14 b 2 = 0) _ _) _ P X C
  refine bnd_i (cnd_i (fun _ => bn0_i ?_) fun q => absurd z7 q)
  refine p_trim hbs (by omega) fun C1 o4' br hbs1 => ?_
  have w1 : WF C1 (uBs v b (vB v b) 3) := w.br j br hbs1 (Nat.le_refl _)
  have hs := br.2.2.2.2.2
  have hk1 : sK C1 14 = vK v 14 := by rw [hs.1]; exact hk0
  have hvb : vB (uBs v b (vB v b) 3) = vB v := by
    funext b'
    show up1 (vB v) b (vB v b) b' = vB v b'
    by_cases q : b' = b
    · subst q; exact up1_s
    · exact up1_n q
  obtain ⟨o5, o4, o6, j⟩ := w1.jo
  have hbs2 := j.2.1 b (by rw [hk1]; exact hb)
  rw [hvb] at hbs2
  obtain ⟨z, u, z1, z2, z3, z4, z5, z6, z7, z8, z9, z10⟩ := hbs2
  refine ⟨⟨z8, Or.inl z7⟩, ⟨by omega, by rw [z8]; omega⟩, ?_⟩
  rw [z8]
  generalize hC2 : rG (rN (rM (mk C1 14 3) 14 (sK C1 14) (sM C1 14 b)) 14 (sK C1 14) (sN C1 14 b)) 14 (sK C1 14) (sG C1 14 b) = C2
  have hbn : b ≠ sK C1 14 := by omega
  have a1 : ∀ K, K ≠ 14 → sM C2 K = sM C1 K ∧ sN C2 K = sN C1 K ∧ sG C2 K = sG C1 K ∧ sL C2 K = sL C1 K ∧ sK C2 K = sK C1 K := fun K hK => by
    subst hC2
    refine ⟨?_, ?_, ?_, up2_o hK, up1_n hK⟩
    · show row3 (row3 (sM C1) 14 (sK C1 14) (fun _ => 0)) 14 (sK C1 14) _ K = _
      rw [row3_o hK, row3_o hK]
    · show row3 (row3 (sN C1) 14 (sK C1 14) (fun _ => nul)) 14 (sK C1 14) _ K = _
      rw [row3_o hK, row3_o hK]
    · show row3 (row3 (sG C1) 14 (sK C1 14) (fun _ => 0)) 14 (sK C1 14) _ K = _
      rw [row3_o hK, row3_o hK]
  have a2 : ∀ y, y ≠ sK C1 14 → sM C2 14 y = sM C1 14 y ∧ sN C2 14 y = sN C1 14 y ∧ sL C2 14 y = sL C1 14 y := fun y hy => by
    subst hC2
    refine ⟨?_, ?_, up2_n (fun q => hy q.2)⟩
    · show row3 (row3 (sM C1) 14 (sK C1 14) (fun _ => 0)) 14 (sK C1 14) _ 14 y = _
      rw [row3_n (fun q => hy q.2), row3_n (fun q => hy q.2)]
    · show row3 (row3 (sN C1) 14 (sK C1 14) (fun _ => nul)) 14 (sK C1 14) _ 14 y = _
      rw [row3_n (fun q => hy q.2), row3_n (fun q => hy q.2)]
  have a3 : sM C2 14 (sK C1 14) = sM C1 14 b ∧ sL C2 14 (sK C1 14) = 3 ∧ sK C2 14 = sK C1 14 + 1 ∧ sC C2 = sC C1 - 1 ∧ sS C2 = sS C1 - 3 := by
    subst hC2
    refine ⟨row3_s, up2_s, ?_, rfl, rfl⟩
    show up1 (sK C1) 14 (sK C1 14 + 1) 14 = _
    exact up1_s
  obtain ⟨a3, a4, a5, a6, a7⟩ := a3
  show ∃ i, sN C2 14 b 0 = idc 34 i ∧ _
  rw [(a2 b hbn).2.1]
  refine ⟨z, z1, ?_⟩
  obtain ⟨c1, c2, c3, c4, c5⟩ := a1 34 (by decide)
  show (1 ≤ sC C2 ∧ sL C2 34 z ≤ sS C2) ∧ _
  rw [c4, c1, c2, c3, c5]
  refine ⟨⟨by omega, by omega⟩, ?_⟩
  generalize hC3 : rG (rN (rM (mk C2 34 (sL C1 34 z)) 34 (sK C1 34) (sM C1 34 z)) 34 (sK C1 34) (sN C1 34 z)) 34 (sK C1 34) (sG C1 34 z) = C3
  have d1 : ∀ K, K ≠ 34 → sM C3 K = sM C2 K ∧ sN C3 K = sN C2 K ∧ sG C3 K = sG C2 K ∧ sL C3 K = sL C2 K ∧ sK C3 K = sK C2 K := fun K hK => by
    subst hC3
    rw [← c5]
    refine ⟨?_, ?_, ?_, up2_o hK, up1_n hK⟩
    · show row3 (row3 (sM C2) 34 (sK C2 34) (fun _ => 0)) 34 (sK C2 34) _ K = _
      rw [row3_o hK, row3_o hK]
    · show row3 (row3 (sN C2) 34 (sK C2 34) (fun _ => nul)) 34 (sK C2 34) _ K = _
      rw [row3_o hK, row3_o hK]
    · show row3 (row3 (sG C2) 34 (sK C2 34) (fun _ => 0)) 34 (sK C2 34) _ K = _
      rw [row3_o hK, row3_o hK]
  have d2 : (∀ y, y ≠ sK C1 34 → sG C3 34 y = sG C1 34 y ∧ sL C3 34 y = sL C1 34 y) ∧ sG C3 34 (sK C1 34) = sG C1 34 z ∧ sL C3 34 (sK C1 34) = sL C1 34 z ∧ sK C3 34 = sK C1 34 + 1 ∧ sC C3 = sC C2 - 1 ∧ sS C3 = sS C2 - sL C1 34 z := by
    subst hC3
    refine ⟨fun y hy => ⟨?_, ?_⟩, row3_s, ?_, ?_, rfl, rfl⟩
    · show row3 (row3 (sG C2) 34 (sK C2 34) (fun _ => 0)) 34 (sK C1 34) _ 34 y = _
      rw [c5, row3_n (fun q => hy q.2), row3_n (fun q => hy q.2), c3]
    · show up2 (sL C2) 34 (sK C2 34) _ 34 y = _
      rw [c5, up2_n (fun q => hy q.2), c4]
    · show up2 (sL C2) 34 (sK C2 34) _ 34 (sK C1 34) = _
      rw [c5, up2_s]
    · show up1 (sK C2) 34 (sK C2 34 + 1) 34 = _
      rw [up1_s, c5]
  obtain ⟨d2, d3, d4, d5, d6, d7⟩ := d2
  show bn0 (f_J18_checkInvariants (sK C1 14)) _ P X (wN C3 14 (sK C1 14) 0 (idc 34 (sK C1 34)))
  simp only [f_J18_checkInvariants, bn0, bnd, cnd, rt]
  refine ⟨fun q => absurd q (by decide), fun _ => ⟨fun q => absurd q (by decide), fun _ => ⟨fun q => absurd q (by decide), fun _ => ?_⟩⟩⟩
  rw [hk1]
  refine hP _ _ _ ?_ h
  rw [hk1] at a2 a3 a4 a5 hbn
  obtain ⟨e1, e2, e3, e4, e5⟩ := d1 14 (by decide)
  refine w1.bn (c := 7) j (fun K k1 k2 => ?_) (fun y hy => ?_) ?_ ?_ (fun z hz => ?_) ?_ ⟨?_, ?_⟩ (Nat.le_refl _)
  · obtain ⟨x1, x2, x3, x4, x5⟩ := a1 K k1
    obtain ⟨y1, y2, y3, y4, y5⟩ := d1 K k2
    exact ⟨y1.trans x1, (up3_o k1).trans (y2.trans x2), y3.trans x3, y4.trans x4, y5.trans x5⟩
  · rw [hk1] at hy
    obtain ⟨x1, x2, x3⟩ := a2 y hy
    refine ⟨?_, ?_, ?_⟩
    · show sM C3 14 y = _
      rw [e1, x1]
    · show up3 (sN C3) 14 (vK v 14) 0 _ 14 y = _
      funext t
      rw [up3_n (fun q => hy q.2), e2, x2]
    · show sL C3 14 y = _
      rw [e4, x3]
  · show sK C3 14 = _
    rw [e5, a5, hk1]
  · exact d5
  · exact d2 z (by omega)
  · rw [hk1]
    refine ⟨sK C1 34, u, up3_s, ?_, up1_s, ?_, ?_, ?_, ?_, ?_, fun k hk hk2 => ?_, fun k => ?_⟩
    · show sK C1 34 < sK C3 34
      omega
    · show sM C3 14 (vK v 14) 1 = nI u
      rw [e1, a3]; exact z4
    · show u ≤ sL C3 34 (sK C1 34)
      omega
    · show sL C3 34 (sK C1 34) ≤ 2
      omega
    · show sM C3 14 (vK v 14) 2 = 0
      rw [e1, a3]; exact z7
    · show sL C3 14 (vK v 14) = 3
      rw [e4]; exact a4
    · show sG C3 34 (sK C1 34) k = 0
      rw [d3]
      have hk2' : k < sL C3 34 (sK C1 34) := hk2
      exact z9 k hk (by omega)
    · show _ = (decide (k / 64 < u) && (sG C3 34 (sK C1 34) (k / 64)).toBitVec.getLsbD (k % 64))
      rw [d3]; exact z10 k
  · show sC C1 ≤ sC C3 + 7; omega
  · show sS C1 ≤ sS C3 + 7; omega
