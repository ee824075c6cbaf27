/-! ===== bit sets over views ===== -/
theorem JW.bs {C C' : St} {v v' : Vw} {b : Nat} {o5 o4 o6 : Nat → Nat} (h1 : ∀ y, y < sK C 13 → AL C o5 y (vZ v y) (vE v y)) (h2 : ∀ b, b < sK C 14 → BS C o4 b (vB v b)) (h3 : ∀ i, i < sK C 15 → LL C o6 i (vW v i)) (h4 : ∀ i, i < sK C 17 → AD C o5 i (vQ v i)) (h5 : ∀ z, (vo v).1 = z + 1 → z < sK C 34 ∧ o4 z = 1 ∧ sL C 34 z = 1 ∧ sG C 34 z 0 = (vo v).2)
    (o4' : Nat → Nat) (ho : ∀ z, z < sK C 34 → o4' z = o4 z) (hk : sK C 34 ≤ sK C' 34) (e14 : ∀ b', b' ≠ b → sM C' 14 b' = sM C 14 b' ∧ sN C' 14 b' = sN C 14 b' ∧ sL C' 14 b' = sL C 14 b') (e34 : ∀ z, z < sK C 34 → o4 z ≠ 2 * b → sG C' 34 z = sG C 34 z ∧ sL C' 34 z = sL C 34 z)
    (es : ∀ K, (jk K && !(K == 14) && !(K == 34)) = true → sM C' K = sM C K ∧ sN C' K = sN C K ∧ sG C' K = sG C K ∧ sL C' K = sL C K ∧ sK C' K = sK C K) (ek : ∀ b', b' < sK C' 14 → b' ≠ b → b' < sK C 14)
    (eB : ∀ b', b' ≠ b → vB v' b' = vB v b') (ev : vZ v' = vZ v ∧ vE v' = vE v ∧ vW v' = vW v ∧ vQ v' = vQ v ∧ vo v' = vo v) (hn : b < sK C' 14 → BS C' o4' b (vB v' b)) : JW C' v' := by
  obtain ⟨a1, a2, a3, a4, a5⟩ := es 13 rfl
  obtain ⟨c1, c2, c3, c4, c5⟩ := es 15 rfl
  obtain ⟨d1, d2, d3, d4, d5⟩ := es 16 rfl
  obtain ⟨f1, f2, f3, f4, f5⟩ := es 17 rfl
  obtain ⟨k1, k2, k3, k4, k5⟩ := es 35 rfl
  obtain ⟨e1, e2, e4, e5, e6⟩ := ev
  refine ⟨o5, o4', o6, fun y hy => ?_, fun b' hb => ?_, fun i hi => ?_, fun i hi => ?_, fun z hz => ?_⟩
  · rw [a5] at hy
    have := h1 y hy
    unfold AL at this ⊢
    rw [a1, a2, k2, k4, k5, e1, e2]; exact this
  · by_cases e : b' = b
    · subst e; exact hn hb
    · have hb := ek b' hb e
      obtain ⟨m1, m2, m3⟩ := e14 b' e
      obtain ⟨z, w, z1, z2, z3, z4⟩ := h2 b' hb
      obtain ⟨t1, t2⟩ := e34 z z2 (by omega)
      refine ⟨z, w, by rw [m2]; exact z1, by omega, by rw [ho z z2]; exact z3, ?_⟩
      rw [m1, m3, t1, t2, eB b' e]; exact z4
  · rw [c5] at hi
    have := h3 i hi
    unfold LL at this ⊢
    rw [c1, c2, d2, d5, e4]; exact this
  · rw [f5] at hi
    have := h4 i hi
    unfold AD at this ⊢
    rw [f1, f2, k2, k4, k5, e5]; exact this
  · rw [e6] at hz ⊢
    obtain ⟨p1, p2, p3, p4⟩ := h5 z hz
    obtain ⟨t1, t2⟩ := e34 z p1 (by omega)
    exact ⟨by omega, by rw [ho z p1]; exact p2, by rw [t2]; exact p3, by rw [t1]; exact p4⟩
theorem jk_of4 {K : Nat} (h : (jk K && !(K == 14) && !(K == 34)) = true) : K ≠ 14 ∧ K ≠ 34 := by
  simp only [Bool.and_eq_true, Bool.not_eq_true', beq_eq_false_iff_ne] at h
  exact ⟨h.1.2, h.2⟩
theorem WF.bs {C : St} {v : Vw} (w : WF C v) {b : Nat} (hb : b < vK v 14) : ∃ o4, BS C o4 b (vB v b) := by
  obtain ⟨h1, h2, h3, o5, o4, o6, j1, j2, -⟩ := w
  exact ⟨o4, j2 b (by rw [h2 14 rfl]; exact hb)⟩
/-- a new BitSet -/
def uB (v : Vw) : Vw := (vM v, vN v, vL v, up1 (vK v) 14 (vK v 14 + 1), vZ v, vE v, up1 (vB v) (vK v 14) (fun _ => false), vW v, vQ v, vb v - 6, vo v)
def hnB {ρ : Type} (k : Nat → PV ρ) : PV ρ := fun P X v => 6 ≤ vb v ∧ k (vK v 14) P X (uB v)
theorem newBS {C C' : St} {v : Vw} (w : WF C v) (hb : 6 ≤ vb v) (hm : ∀ K, K ≠ 14 → K ≠ 34 → sM C' K = sM C K ∧ sN C' K = sN C K ∧ sG C' K = sG C K ∧ sL C' K = sL C K ∧ sK C' K = sK C K) (h14 : ∀ y', y' ≠ sK C 14 → sM C' 14 y' = sM C 14 y' ∧ sN C' 14 y' = sN C 14 y' ∧ sL C' 14 y' = sL C 14 y') (hk14 : sK C' 14 = sK C 14 + 1) (hk34 : sK C' 34 = sK C 34 + 1) (h34 : ∀ z, z < sK C 34 → sG C' 34 z = sG C 34 z ∧ sL C' 34 z = sL C 34 z)
    (hs : sM C' 14 (sK C 14) 1 = 0 ∧ sM C' 14 (sK C 14) 2 = 0) (hl : sL C' 14 (sK C 14) = 3) (hs1 : sN C' 14 (sK C 14) 0 = idc 34 (sK C 34)) (hw : sL C' 34 (sK C 34) = 1 ∧ sG C' 34 (sK C 34) 0 = 0) (hc : sC C - 2 ≤ sC C' ∧ sS C - 4 ≤ sS C') : WF C' (uB v) := by
  obtain ⟨w1, w2, w3, o5, o4, o6, j1, j2, j3, j4, j5⟩ := w
  have hk : sK C 14 = vK v 14 := w2 14 rfl
  refine ⟨fun K m => ?_, fun K m => ?_, ?_, ?_⟩
  · have n14 : K ≠ 14 := fun q => by subst q; cases m
    have n34 : K ≠ 34 := fun q => by subst q; cases m
    obtain ⟨m1, m2, m3, m4, m5⟩ := hm K n14 n34
    obtain ⟨p1, p2, p3⟩ := w1 K m
    exact ⟨m1.trans p1, m2.trans p2, m4.trans p3⟩
  · show sK C' K = up1 (vK v) 14 (vK v 14 + 1) K
    by_cases n14 : K = 14
    · subst n14; rw [up1_s, hk14, hk]
    · have n34 : K ≠ 34 := fun q => by subst q; cases m
      rw [up1_n n14, (hm K n14 n34).2.2.2.2]; exact w2 K m
  · show vb v - 6 ≤ _ ∧ vb v - 6 ≤ _
    omega
  · refine JW.bs (C := C) (v := v) (b := sK C 14) (o5 := o5) (o4 := o4) (o6 := o6) j1 j2 j3 j4 j5 (up1 o4 (sK C 34) (2 * sK C 14)) (fun z hz => up1_n (by omega)) (by omega) h14 (fun z hz _ => h34 z hz) (fun K q => ?_) (fun y' q ne => by omega) (fun y' ne => ?_) ⟨rfl, rfl, rfl, rfl, rfl⟩ (fun _ => ?_)
    · obtain ⟨n14, n34⟩ := jk_of4 q
      exact hm K n14 n34
    · exact up1_n (hk ▸ ne)
    · have z0 : vB (uB v) (sK C 14) = fun _ => false := by
        show up1 (vB v) (vK v 14) _ (sK C 14) = _
        rw [hk, up1_s]
      rw [z0]
      refine ⟨sK C 34, 0, hs1, by omega, up1_s, hs.1.trans nI_0.symm, Nat.zero_le _, by omega, hs.2, hl, fun k _ hk2 => ?_, fun k => ?_⟩
      · have : k = 0 := by omega
        subst this; exact hw.2
      · simp
theorem s_nB {ρ : Type} {k : Nat → PV ρ} {k' : Nat → PT ρ} (h2 : ∀ r, Sim (k r) (k' r)) : Sim (hnB k) (nw 14 3 fun i => bn0 (f_J18_init i) fun _ => k' i) := fun P' X' v P X C w hP hX h => by
  obtain ⟨hb, h⟩ := h
  have hk : sK C 14 = vK v 14 := w.2.1 14 rfl
  have w3 := w.2.2.1
  rw [← hk] at h
  refine ⟨by omega, ?_⟩
  simp only [f_J18_init, f_J18_initWords, f_J18_wordIndex, bn0, pI, pZ, pR, rt, nwA]
  have e1 : ((64 : Int32) - 1) >>> ((6 : Int32) &&& 31) + 1 = 1 := by decide +kernel
  have e2 : (1 : Int32).toNatClampNeg = 1 := by decide +kernel
  rw [e1, e2]
  refine ⟨Or.inl trivial, ⟨by decide, by decide, by show 1 ≤ sC C - 1; omega, by show 1 ≤ sS C - 3; omega⟩, Or.inl trivial, ?_⟩
  have hk34 : sK (wM (wM (mk C 14 3) 14 (sK C 14) 1 0) 14 (sK C 14) 2 0) 34 = sK C 34 := by
    show up1 (sK C) 14 (sK C 14 + 1) 34 = _
    exact up1_n (by decide)
  generalize hC1 : wM (wM (mk C 14 3) 14 (sK C 14) 1 0) 14 (sK C 14) 2 0 = C1 at *
  have m1 : ∀ K, K ≠ 14 → sM C1 K = sM C K ∧ sN C1 K = sN C K ∧ sG C1 K = sG C K ∧ sL C1 K = sL C K ∧ sK C1 K = sK C K := fun K n => by
    subst hC1
    refine ⟨?_, row3_o n, row3_o n, up2_o n, up1_n n⟩
    show up3 (up3 (row3 (sM C) 14 (sK C 14) (fun _ => 0)) 14 (sK C 14) 1 0) 14 (sK C 14) 2 0 K = _
    rw [up3_o n, up3_o n, row3_o n]
  have m2 : ∀ y', y' ≠ sK C 14 → sM C1 14 y' = sM C 14 y' ∧ sN C1 14 y' = sN C 14 y' ∧ sL C1 14 y' = sL C 14 y' := fun y' ne => by
    subst hC1
    refine ⟨?_, row3_n (fun q => ne q.2), up2_n (fun q => ne q.2)⟩
    show up3 (up3 (row3 (sM C) 14 (sK C 14) (fun _ => 0)) 14 (sK C 14) 1 0) 14 (sK C 14) 2 0 14 y' = _
    funext j; rw [up3_n (fun q => ne q.2), up3_n (fun q => ne q.2), row3_n (fun q => ne q.2)]
  have m3 : sM C1 14 (sK C 14) 1 = 0 ∧ sL C1 14 (sK C 14) = 3 ∧ sK C1 14 = sK C 14 + 1 ∧ sC C1 = sC C - 1 ∧ sS C1 = sS C - 3 := by
    subst hC1
    refine ⟨?_, up2_s, by show up1 (sK C) 14 (sK C 14 + 1) 14 = _; exact up1_s, rfl, rfl⟩
    show up3 (up3 (row3 (sM C) 14 (sK C 14) (fun _ => 0)) 14 (sK C 14) 1 0) 14 (sK C 14) 2 0 14 (sK C 14) 1 = _
    rw [up3_k (by decide), up3_s]
  obtain ⟨m3, m4, m5, m6, m7⟩ := m3
  rw [hk34]
  refine h2 _ P' X' _ P X _ (newBS w hb (fun K n14 n34 => ?_) (fun y' ne => ?_) ?_ ?_ (fun z hz => ⟨?_, ?_⟩) ⟨?_, ?_⟩ ?_ ?_ ⟨?_, ?_⟩ ⟨?_, ?_⟩) hP hX h
  · obtain ⟨p1, p2, p3, p4, p5⟩ := m1 K n14
    refine ⟨?_, ?_, ?_, ?_, ?_⟩
    · show up3 (row3 (sM C1) 34 (sK C1 34) (fun _ => 0)) 14 (sK C 14) 2 0 K = _
      rw [up3_o n14, row3_o n34, p1]
    · show up3 (row3 (sN C1) 34 (sK C1 34) (fun _ => nul)) 14 (sK C 14) 0 (idc 34 (sK C 34)) K = _
      rw [up3_o n14, row3_o n34, p2]
    · exact (row3_o n34).trans p3
    · exact (up2_o n34).trans p4
    · exact (up1_n n34).trans p5
  · obtain ⟨p1, p2, p3⟩ := m2 y' ne
    refine ⟨?_, ?_, ?_⟩
    · show up3 (row3 (sM C1) 34 (sK C1 34) (fun _ => 0)) 14 (sK C 14) 2 0 14 y' = _
      funext j; rw [up3_n (fun q => ne q.2), row3_o (by decide), p1]
    · show up3 (row3 (sN C1) 34 (sK C1 34) (fun _ => nul)) 14 (sK C 14) 0 (idc 34 (sK C 34)) 14 y' = _
      funext j; rw [up3_n (fun q => ne q.2), row3_o (by decide), p2]
    · show up2 (sL C1) 34 (sK C1 34) 1 14 y' = _
      rw [up2_o (by decide), p3]
  · show up1 (sK C1) 34 (sK C1 34 + 1) 14 = _
    rw [up1_n (by decide), m5]
  · show up1 (sK C1) 34 (sK C1 34 + 1) 34 = _
    rw [up1_s, hk34]
  · show row3 (sG C1) 34 (sK C1 34) (fun _ => 0) 34 z = _
    rw [row3_n (fun q => by omega), (m1 34 (by decide)).2.2.1]
  · show up2 (sL C1) 34 (sK C1 34) 1 34 z = _
    rw [up2_n (fun q => by omega), (m1 34 (by decide)).2.2.2.1]
  · show up3 (row3 (sM C1) 34 (sK C1 34) (fun _ => 0)) 14 (sK C 14) 2 0 14 (sK C 14) 1 = _
    rw [up3_k (by decide), row3_o (by decide), m3]
  · show up3 (row3 (sM C1) 34 (sK C1 34) (fun _ => 0)) 14 (sK C 14) 2 0 14 (sK C 14) 2 = _
    rw [up3_s]
  · show up2 (sL C1) 34 (sK C1 34) 1 14 (sK C 14) = _
    rw [up2_o (by decide), m4]
  · exact up3_s
  · show up2 (sL C1) 34 (sK C1 34) 1 34 (sK C 34) = _
    rw [hk34, up2_s]
  · show row3 (sG C1) 34 (sK C1 34) (fun _ => 0) 34 (sK C 34) 0 = _
    rw [hk34, row3_s]
  · show _ ≤ sC C1 - 1; omega
  · show _ ≤ sS C1 - 1; omega
theorem bt_sh : ∀ n : Fin 128, (1 : Int64) <<< ((nI n.1).toInt64 &&& 63) = Int64.ofBitVec (BitVec.twoPow 64 (n.1 % 64)) := by decide +kernel
theorem bt_and (a : Int64) {n : Nat} (h : n < 128) : a &&& ((1 : Int64) <<< ((nI n).toInt64 &&& 63)) = if a.toBitVec.getLsbD (n % 64) then Int64.ofBitVec (BitVec.twoPow 64 (n % 64)) else 0 := by
  rw [bt_sh ⟨n, h⟩]
  have e : a &&& Int64.ofBitVec (BitVec.twoPow 64 (n % 64)) = Int64.ofBitVec (a.toBitVec &&& BitVec.twoPow 64 (n % 64)) := rfl
  show a &&& Int64.ofBitVec (BitVec.twoPow 64 (n % 64)) = _
  rw [e, BitVec.and_twoPow]
  split <;> rfl
theorem bt_nz : ∀ k : Fin 64, Int64.ofBitVec (BitVec.twoPow 64 k.1) ≠ 0 := by decide +kernel
theorem bt_w : ∀ n : Fin 128, nI n.1 >>> ((6 : Int32) &&& 31) = nI (n.1 / 64) := by decide +kernel
theorem lc_0 (a : Int64) : (lg_cmp a 0 = 0) ↔ a = 0 := by
  unfold lg_cmp
  by_cases h : a = 0
  · subst h; exact ⟨fun _ => rfl, fun _ => by decide +kernel⟩
  · refine ⟨fun q => ?_, fun q => absurd q h⟩
    rw [if_neg h] at q
    split at q <;> exact absurd q (by decide)
theorem bt_get (a : Int64) {n : Nat} (h : n < 128) : (lg_cmp (a &&& ((1 : Int64) <<< ((nI n).toInt64 &&& 63))) 0 = 0) ↔ a.toBitVec.getLsbD (n % 64) = false := by
  rw [lc_0, bt_and a h]
  cases a.toBitVec.getLsbD (n % 64)
  · simp
  · simp only [if_true]
    exact ⟨fun q => absurd q (bt_nz ⟨n % 64, by omega⟩), fun q => by cases q⟩
def h_J18_get (b : Nat) (x : Int32) : PV Int32 := fun P _ v => ∃ n, (x = nI n ∧ n < 128 ∧ b < vK v 14) ∧ P (if vB v b n then 1 else 0) v
theorem s_J18_get (b : Nat) (x : Int32) : Sim (h_J18_get b x) (f_J18_get b x) := fun P' X' v P X C w hP hX h => by
  obtain ⟨n, ⟨rfl, hn, hb⟩, h⟩ := h
  obtain ⟨o4, z, u, z1, z2, z3, z4, z5, z6, z7, z8, z9, z10⟩ := w.bs hb
  have e0 : (0 : Int32) ≤ nI n := by
    have : ∀ n : Fin 128, (0 : Int32) ≤ nI n.1 := by decide +kernel
    exact this ⟨n, hn⟩
  simp only [f_J18_get, f_J18_checkInvariants, f_J18_wordIndex, bn0, bnd, cnd, rt, gI, gR, isK, aJ, asr]
  have e6 : nI n >>> ((6 : Int32) &&& 31) = nI (n / 64) := bt_w ⟨n, hn⟩
  rw [e6, z4, z1]
  refine ⟨fun _ => ⟨fun q => absurd q (by decide), fun _ => ⟨fun q => absurd q (by decide), fun _ => ⟨fun q => absurd q (by decide), fun _ => ⟨fun q => ?_, fun q => ?_⟩⟩⟩⟩, fun q => absurd e0 q⟩
  · have hu : u ≤ n / 64 := by
      rcases Nat.lt_or_ge (n / 64) u with r | r
      · exact absurd q (Int32.not_le.mpr (nI_lt r (by omega)))
      · exact r
    have : vB v b n = false := by
      rw [z10 n, decide_eq_false (by omega)]; rfl
    rw [this] at h
    exact ⟨Or.inl trivial, hP _ _ _ w h⟩
  · have hu : n / 64 < u := by
      rcases Nat.lt_or_ge (n / 64) u with r | r
      · exact r
      · exact absurd (nI_le r (by omega)) q
    have hv : vB v b n = (sG C 34 z (n / 64)).toBitVec.getLsbD (n % 64) := by
      rw [z10 n, decide_eq_true hu, Bool.true_and]
    refine ⟨z, rfl, nI_in (by omega) (by omega), ?_⟩
    rw [nI_clamp (by omega)]
    refine ⟨fun q2 => ?_, fun q2 => ?_⟩
    · rw [hv, (bt_get _ hn).mp q2] at h
      exact ⟨Or.inl trivial, hP _ _ _ w h⟩
    · have : (sG C 34 z (n / 64)).toBitVec.getLsbD (n % 64) = true := by
        rcases hq : (sG C 34 z (n / 64)).toBitVec.getLsbD (n % 64) with _ | _
        · exact absurd ((bt_get _ hn).mpr hq) q2
        · rfl
      rw [hv, this] at h
      exact ⟨Or.inr trivial, hP _ _ _ w h⟩
/-! boxes -/
def hbxV {ρ : Type} (r : Nat) (k : Int32 → PV ρ) : PV ρ := fun P X v => (∃ i, r = idc 20 i ∧ k (vM v 20 i 0) P X v) ∨ ((r % 64 = 49 ∧ r / 64 < 256) ∧ k (vb_c (r / 64)) P X v)
theorem s_bxV {ρ : Type} {r : Nat} {k : Int32 → PV ρ} {k' : Int32 → PT ρ} (h2 : ∀ x, Sim (k x) (k' x)) : Sim (hbxV r k) (bxV r k') := fun P' X' v P X C w hP hX h => by
  rcases h with ⟨i, e, h⟩ | ⟨e, h⟩
  · refine Or.inl ⟨i, e, ?_⟩
    have e1 : sM C 20 i 0 = vM v 20 i 0 := by rw [(w.1 20 rfl).1]
    rw [e1]
    exact h2 _ P' X' v P X C w hP hX h
  · exact Or.inr ⟨e, h2 _ P' X' v P X C w hP hX h⟩
def h_J17_intValue (a0 : Nat) : PV Int32 := hbxV a0 fun v1 => hrt v1
theorem s_J17_intValue (a0 : Nat) : Sim (h_J17_intValue a0) (f_J17_intValue a0) := s_bxV fun x => s_rt x
def h_J16_init_20 (i0 : Nat) : PV Unit := hrt ()
theorem s_J16_init_20 (i0 : Nat) : Sim (h_J16_init_20 i0) (f_J16_init_20 i0) := s_rt ()
def h_J17_init (i0 : Nat) (a1 : Int32) : PV Unit := hbn0 (h_J16_init_20 i0) fun _ => hpI 20 i0 0 a1 <| hrt ()
theorem s_J17_init (i0 : Nat) (a1 : Int32) : Sim (h_J17_init i0 a1) (f_J17_init i0 a1) := s_bn0 (s_J16_init_20 i0) fun _ => s_pI rfl (s_rt ())
def h_J17_valueOf (a1 : Int32) : PV Nat := hjo (σ := Unit) (fun _ => hnw 20 1 fun i1 => hbn0 (h_J17_init i1 a1) fun _ => hrt (idc 20 i1)) fun j4 => hcnd (a1 < (-128 : Int32)) (j4 ()) (hcnd ((127 : Int32) < a1) (j4 ()) (hasr (vp_in (a1 + (128 : Int32)) 256) <| hrt (idc 49 ((a1 + (128 : Int32)).toNatClampNeg))))
theorem s_J17_valueOf (a1 : Int32) : Sim (h_J17_valueOf a1) (f_J17_valueOf a1) :=
  s_jo (fun _ => s_nw rfl fun i1 => s_bn0 (s_J17_init i1 a1) fun _ => s_rt _) fun _ _ hj => s_cnd (hj ()) (s_cnd (hj ()) (s_asr (s_rt _)))
/-! a copy of an int[] -/
def uC (v : Vw) (i : Nat) : Vw := (row3 (vM (uK v 32 (vL v 32 i))) 32 (vK v 32) (vM v 32 i), row3 (vN (uK v 32 (vL v 32 i))) 32 (vK v 32) (vN v 32 i), vL (uK v 32 (vL v 32 i)), vK (uK v 32 (vL v 32 i)), vZ v, vE v, vB v, vW v, vQ v, vb v - (vL v 32 i + 1), vo v)
def hcl {ρ : Type} (i : Nat) (k : Nat → PV ρ) : PV ρ := fun P X v => vL v 32 i + 1 ≤ vb v ∧ k (vK v 32) P X (uC v i)
theorem s_cl {ρ : Type} {i : Nat} {k : Nat → PV ρ} {k' : Nat → PT ρ} (h2 : ∀ i, Sim (k i) (k' i)) : Sim (hcl i k) (cln 32 i k') := fun P' X' v P X C w hP hX h => by
  obtain ⟨hb, h⟩ := h
  obtain ⟨e1, e2, e3⟩ := w.1 32 rfl
  obtain ⟨⟨q1, q2, q3, q4⟩, hk, c1, c2⟩ := w.mk (K := 32) (n := vL v 32 i) rfl hb
  have el : sL C 32 i = vL v 32 i := by rw [e3]
  have em : sM C 32 i = vM v 32 i := by rw [e1]
  have en : sN C 32 i = vN v 32 i := by rw [e2]
  unfold cln
  rw [el, em, en, hk]
  refine ⟨⟨c1, c2⟩, h2 _ P' X' (uC v i) P X _ ⟨fun K m => ?_, q2, q3, q4.same (fun K m => ⟨?_, ?_, ?_, rfl, rfl⟩) ⟨rfl, rfl, rfl, rfl, rfl, rfl⟩⟩ hP hX h⟩
  · obtain ⟨m1, m2, m3⟩ := q1 K m
    refine ⟨?_, ?_, m3⟩
    · show row3 (sM (mk C 32 (vL v 32 i))) 32 (vK v 32) (vM v 32 i) K = row3 (vM (uK v 32 (vL v 32 i))) 32 (vK v 32) (vM v 32 i) K
      funext a b; unfold row3; rw [m1]
    · show row3 (sN (mk C 32 (vL v 32 i))) 32 (vK v 32) (vN v 32 i) K = row3 (vN (uK v 32 (vL v 32 i))) 32 (vK v 32) (vN v 32 i) K
      funext a b; unfold row3; rw [m2]
  · exact row3_o (msk_ne (K := 32) rfl m)
  · exact row3_o (msk_ne (K := 32) rfl m)
  · exact row3_o (msk_ne (K := 32) rfl m)
theorem bt_or (a : Int64) {n : Nat} (h : n < 128) (k : Nat) : (a ||| ((1 : Int64) <<< ((nI n).toInt64 &&& 63))).toBitVec.getLsbD k = (a.toBitVec.getLsbD k || decide (k = n % 64)) := by
  have e := bt_sh ⟨n, h⟩
  have e : (1 : Int64) <<< ((nI n).toInt64 &&& 63) = Int64.ofBitVec (BitVec.twoPow 64 (n % 64)) := e
  rw [e]
  show (a.toBitVec ||| BitVec.twoPow 64 (n % 64)).getLsbD k = _
  rw [BitVec.getLsbD_or, BitVec.getLsbD_twoPow, decide_eq_true (show n % 64 < 64 by omega), Bool.true_and]
  congr 1
  by_cases q : k = n % 64
  · subst q; simp
  · rw [decide_eq_false q, decide_eq_false (fun r => q r.symm)]
theorem bt_clr (a : Int64) {n : Nat} (h : n < 128) {k : Nat} (hk : k < 64) : (a &&& (((1 : Int64) <<< ((nI n).toInt64 &&& 63)) ^^^ (-1 : Int64))).toBitVec.getLsbD k = (a.toBitVec.getLsbD k && !decide (k = n % 64)) := by
  have e := bt_sh ⟨n, h⟩
  have e : (1 : Int64) <<< ((nI n).toInt64 &&& 63) = Int64.ofBitVec (BitVec.twoPow 64 (n % 64)) := e
  rw [e]
  have e1 : (-1 : Int64).toBitVec = BitVec.allOnes 64 := by decide +kernel
  show (a.toBitVec &&& (BitVec.twoPow 64 (n % 64) ^^^ (-1 : Int64).toBitVec)).getLsbD k = _
  rw [e1, BitVec.getLsbD_and, BitVec.getLsbD_xor, BitVec.getLsbD_twoPow, BitVec.getLsbD_allOnes, decide_eq_true (show n % 64 < 64 by omega), decide_eq_true hk, Bool.true_and]
  congr 1
  by_cases q : k = n % 64
  · subst q; simp
  · rw [decide_eq_false q, decide_eq_false (fun r => q r.symm)]; rfl
