/-! ===== the JDK's lists over views ===== -/
theorem in_lt {a : Int32} {n : Nat} (h : vp_in a n) : ¬ a < 0 ∧ a.toNatClampNeg < n := ⟨fun q => h (Or.inl q), Nat.not_le.mp fun q => h (Or.inr q)⟩
theorem lt_nI {a : Int32} {n : Nat} (hn : n < 2 ^ 31) (h : ¬ a < 0) (h2 : a.toNatClampNeg < n) : a < nI n := by
  rw [Int32.lt_iff_toInt_lt, nI_toInt hn]
  have := nn_i32 h
  omega
theorem elOK_ok {x : Nat} (h : elOK x) : x = nul ∨ (35 = 35 ∧ (x % 64 < 21 ∨ (x % 64 = 49 ∧ x / 64 < 256))) := h.elim Or.inl fun h => Or.inr ⟨rfl, h⟩
def h_J2_size (y : Nat) : PV Int32 := fun P _ v => y < vK v 13 ∧ P (nI (vZ v y)) v
def h_J2_isEmpty (y : Nat) : PV Int32 := fun P _ v => y < vK v 13 ∧ P (if vZ v y = 0 then 1 else 0) v
def h_J2_get (y : Nat) (a : Int32) : PV Nat := fun P _ v => (y < vK v 13 ∧ vp_in a (vZ v y)) ∧ P (vE v y a.toNatClampNeg) v
/-- an element more -/
def uA (v : Vw) (y e : Nat) : Vw := (vM v, vN v, vL v, vK v, up1 (vZ v) y (vZ v y + 1), up2 (vE v) y (vZ v y) e, vB v, vW v, vQ v, vb v - (2 * vZ v y + 12), vo v)
def h_J2_add (y e : Nat) : PV Int32 := fun P _ v => (y < vK v 13 ∧ elOK e ∧ vZ v y < 4096 ∧ 2 * vZ v y + 12 ≤ vb v) ∧ P 1 (uA v y e)
theorem WF.al {C : St} {v : Vw} (w : WF C v) {y : Nat} (hy : y < vK v 13) : ∃ o5, AL C o5 y (vZ v y) (vE v y) := by
  obtain ⟨h1, h2, h3, o5, o4, o6, j1, -⟩ := w
  exact ⟨o5, j1 y (by rw [h2 13 rfl]; exact hy)⟩
theorem s_J2_size (y : Nat) : Sim (h_J2_size y) (f_J2_size y) := fun P' X' v P X C w hP hX h => by
  obtain ⟨o5, a1, a2, -⟩ := w.al h.1
  show P (sM C 13 y 2) C
  rw [a1]
  exact hP _ _ _ w h.2
theorem s_J2_isEmpty (y : Nat) : Sim (h_J2_isEmpty y) (f_J2_isEmpty y) := fun P' X' v P X C w hP hX h => by
  obtain ⟨o5, a1, a2, -⟩ := w.al h.1
  have hz := h.2
  simp only [f_J2_isEmpty, gI, cnd, asr, rt, a1]
  refine ⟨fun e => ⟨Or.inr trivial, ?_⟩, fun e => ⟨Or.inl trivial, ?_⟩⟩
  · have : vZ v y = 0 := by
      by_cases h0 : vZ v y = 0
      · exact h0
      · exact absurd e (nI_ne0 (Nat.pos_of_ne_zero h0) (by omega))
    rw [if_pos this] at hz
    exact hP _ _ _ w hz
  · have : ¬ vZ v y = 0 := fun h0 => e (by rw [h0]; exact nI_0)
    rw [if_neg this] at hz
    exact hP _ _ _ w hz
theorem s_J2_get (y : Nat) (a : Int32) : Sim (h_J2_get y a) (f_J2_get y a) := fun P' X' v P X C w hP hX h => by
  obtain ⟨o5, a1, a2, a3⟩ := w.al h.1.1
  obtain ⟨i1, i2⟩ := in_lt h.1.2
  simp only [f_J2_get, f_J24_checkIndex, f_J14_checkIndex, f_J2_elementData, gI, gR, bn0, cnd, rt, isK, aR, stk, a1]
  refine ⟨fun q => i1 q, fun _ => ⟨fun _ => ?_, fun q => q (lt_nI (by omega) i1 i2)⟩⟩
  rcases a3 with ⟨-, e0⟩ | ⟨z, z1, z2, z3, z4, z5, z6⟩
  · omega
  · refine ⟨z, z1, fun q => q.elim i1 (fun q => by omega), ?_⟩
    rw [(z6 _ i2).1]
    exact hP _ _ _ w h.2
/-- one list changed, and perhaps its array -/
theorem JW.al {C C' : St} {v v' : Vw} {y : Nat} {o5 o4 o6 : Nat → Nat} (h1 : ∀ y, y < sK C 13 → AL C o5 y (vZ v y) (vE v y)) (h2 : ∀ b, b < sK C 14 → BS C o4 b (vB v b)) (h3 : ∀ i, i < sK C 15 → LL C o6 i (vW v i)) (h4 : ∀ i, i < sK C 17 → AD C o5 i (vQ v i)) (h5 : ∀ z, (vo v).1 = z + 1 → z < sK C 34 ∧ o4 z = 1 ∧ sL C 34 z = 1 ∧ sG C 34 z 0 = (vo v).2)
    (o5' : Nat → Nat) (ho : ∀ z, z < sK C 35 → o5' z = o5 z) (hk : sK C 35 ≤ sK C' 35) (e13 : ∀ y', y' ≠ y → sM C' 13 y' = sM C 13 y' ∧ sN C' 13 y' = sN C 13 y') (e35 : ∀ z, z < sK C 35 → o5 z ≠ 2 * y → sN C' 35 z = sN C 35 z ∧ sL C' 35 z = sL C 35 z)
    (es : ∀ K, (jk K && !(K == 13) && !(K == 35)) = true → sM C' K = sM C K ∧ sN C' K = sN C K ∧ sG C' K = sG C K ∧ sL C' K = sL C K ∧ sK C' K = sK C K) (ek : ∀ y', y' < sK C' 13 → y' ≠ y → y' < sK C 13)
    (eZ : ∀ y', y' ≠ y → vZ v' y' = vZ v y' ∧ vE v' y' = vE v y') (ev : vB v' = vB v ∧ vW v' = vW v ∧ vQ v' = vQ v ∧ vo v' = vo v) (hn : y < sK C' 13 → AL C' o5' y (vZ v' y) (vE v' y)) : JW C' v' := by
  obtain ⟨b1, b2, b3, b4, b5⟩ := es 14 rfl
  obtain ⟨c1, c2, c3, c4, c5⟩ := es 15 rfl
  obtain ⟨d1, d2, d3, d4, d5⟩ := es 16 rfl
  obtain ⟨f1, f2, f3, f4, f5⟩ := es 17 rfl
  obtain ⟨g1, g2, g3, g4, g5⟩ := es 34 rfl
  obtain ⟨e3, e4, e5, e6⟩ := ev
  refine ⟨o5', o4, o6, fun y' hy => ?_, fun b hb => ?_, fun i hi => ?_, fun i hi => ?_, fun z hz => ?_⟩
  · by_cases e : y' = y
    · subst e; exact hn hy
    · have hy := ek y' hy e
      obtain ⟨m1, m2⟩ := e13 y' e
      obtain ⟨q1, q2⟩ := eZ y' e
      obtain ⟨r1, r2, r3⟩ := h1 y' hy
      refine ⟨by rw [m1, q1]; exact r1, by rw [q1]; exact r2, ?_⟩
      rcases r3 with ⟨r3, r4⟩ | ⟨z, z1, z2, z3, z4, z5, z6⟩
      · exact Or.inl ⟨by rw [m2]; exact r3, by rw [q1]; exact r4⟩
      · obtain ⟨t1, t2⟩ := e35 z z2 (by omega)
        exact Or.inr ⟨z, by rw [m2]; exact z1, by omega, by rw [ho z z2]; exact z3, by rw [q1, t2]; exact z4, by rw [t2]; exact z5, fun k hk => by rw [q1] at hk; rw [t1, q2]; exact z6 k hk⟩
  · rw [b5] at hb
    have := h2 b hb
    unfold BS at this ⊢
    rw [b1, b2, b4, g3, g4, g5, e3]; exact this
  · rw [c5] at hi
    have := h3 i hi
    unfold LL at this ⊢
    rw [c1, c2, d2, d5, e4]; exact this
  · rw [f5] at hi
    obtain ⟨z, hh, z1, z2, z3, z4, z5, z6, z7, z8, z9, z10⟩ := h4 i hi
    obtain ⟨t1, t2⟩ := e35 z z2 (by omega)
    exact ⟨z, hh, by rw [f2]; exact z1, by omega, by rw [ho z z2]; exact z3, by rw [t2]; exact z4, by rw [t2, e5]; exact z5, by rw [t2]; exact z6, by rw [f1]; exact z7, by rw [f1, t2, e5]; exact z8, fun k hk => by rw [e5] at hk ⊢; rw [t1, t2]; exact z9 k hk, fun k hk hk2 => by rw [e5] at hk; rw [t2] at hk2; rw [t1, t2]; exact z10 k hk hk2⟩
  · rw [e6] at hz
    rw [g3, g4, g5, e6]; exact h5 z hz
theorem nI_subN {a b : Nat} (h : b ≤ a) : nI a - nI b = nI (a - b) := by
  have e : nI a = nI (a - b) + nI b := by rw [nI_add]; congr 1; omega
  rw [e]
  apply Int32.toBitVec_inj.mp
  rw [Int32.toBitVec_sub, Int32.toBitVec_add, BitVec.add_sub_cancel]
theorem nI_mx {a b : Nat} (ha : a < 2 ^ 31) (hb : b < 2 ^ 31) : mxI (nI a) (nI b) = nI (max a b) := by
  unfold mxI
  by_cases h : a < b
  · rw [if_pos (nI_lt h hb), Nat.max_eq_right (by omega)]
  · rw [if_neg (nI_nlt (by omega) ha), Nat.max_eq_left (by omega)]
theorem nI_mn {a b : Nat} (ha : a < 2 ^ 31) (hb : b < 2 ^ 31) : mnI (nI a) (nI b) = nI (min a b) := by
  unfold mnI
  by_cases h : b < a
  · rw [if_pos (nI_lt h ha), Nat.min_eq_right (by omega)]
  · rw [if_neg (nI_nlt (by omega) hb), Nat.min_eq_left (by omega)]
theorem nI_half {n : Nat} (h : n < 2 ^ 31) : nI n >>> ((1 : Int32) &&& 31) = nI (n / 2) := pk_shrN h _ 1 (by decide +kernel)
/-- a list's array grown -/
def Gr (C C' : St) (y n : Nat) (el : Nat → Nat) : Prop := ∃ nl, (n < nl ∧ nl ≤ 8192 ∧ nl ≤ 2 * n + 11) ∧ sK C' = up1 (sK C) 35 (sK C 35 + 1) ∧ (∀ K, K ≠ 35 → sM C' K = sM C K ∧ sG C' K = sG C K ∧ sL C' K = sL C K) ∧ (∀ K, K ≠ 35 → K ≠ 13 → sN C' K = sN C K) ∧ (∀ y', y' ≠ y → sN C' 13 y' = sN C 13 y') ∧ sN C' 13 y 1 = idc 35 (sK C 35) ∧
  (∀ z, z < sK C 35 → sN C' 35 z = sN C 35 z ∧ sL C' 35 z = sL C 35 z) ∧ sL C' 35 (sK C 35) = nl ∧ (∀ k, k < n → sN C' 35 (sK C 35) k = el k) ∧ sC C - 1 ≤ sC C' ∧ sS C - nl ≤ sS C'
theorem gr_of {C : St} {y n nl : Nat} {el f : Nat → Nat} (h : n < nl ∧ nl ≤ 8192 ∧ nl ≤ 2 * n + 11) (hf : ∀ k, k < n → f k = el k) : Gr C (wN (rN (mk C 35 nl) 35 (sK C 35) f) 13 y 1 (idc 35 (sK C 35))) y n el := by
  refine ⟨nl, h, rfl, fun K hK => ⟨row3_o hK, row3_o hK, up2_o hK⟩, fun K h1 h2 => ?_, fun y' hy => ?_, ?_, fun z hz => ⟨?_, ?_⟩, ?_, fun k hk => ?_, Nat.le_refl _, Nat.le_refl _⟩
  · show up3 (row3 (row3 (sN C) 35 (sK C 35) (fun _ => nul)) 35 (sK C 35) f) 13 y 1 (idc 35 (sK C 35)) K = _
    rw [up3_o h2, row3_o h1, row3_o h1]
  · show up3 (row3 (row3 (sN C) 35 (sK C 35) (fun _ => nul)) 35 (sK C 35) f) 13 y 1 (idc 35 (sK C 35)) 13 y' = _
    funext j
    rw [up3_n (fun q => hy q.2), row3_o (by decide), row3_o (by decide)]
  · exact up3_s
  · show up3 (row3 (row3 (sN C) 35 (sK C 35) (fun _ => nul)) 35 (sK C 35) f) 13 y 1 (idc 35 (sK C 35)) 35 z = _
    rw [up3_o (by decide), row3_n (fun q => by omega), row3_n (fun q => by omega)]
  · show up2 (sL C) 35 (sK C 35) nl 35 z = _
    rw [up2_n (fun q => by omega)]
  · show up2 (sL C) 35 (sK C 35) nl 35 (sK C 35) = _
    rw [up2_s]
  · show up3 (row3 (row3 (sN C) 35 (sK C 35) (fun _ => nul)) 35 (sK C 35) f) 13 y 1 (idc 35 (sK C 35)) 35 (sK C 35) k = _
    rw [up3_o (by decide), row3_s]
    exact hf k hk
theorem gr_of0 {C : St} {y : Nat} {el : Nat → Nat} : Gr C (wN (mk C 35 10) 13 y 1 (idc 35 (sK C 35))) y 0 el := by
  refine ⟨10, by omega, rfl, fun K hK => ⟨row3_o hK, row3_o hK, up2_o hK⟩, fun K h1 h2 => ?_, fun y' hy => ?_, ?_, fun z hz => ⟨?_, ?_⟩, ?_, fun k hk => absurd hk (Nat.not_lt_zero k), Nat.le_refl _, Nat.le_refl _⟩
  · show up3 (row3 (sN C) 35 (sK C 35) (fun _ => nul)) 13 y 1 (idc 35 (sK C 35)) K = _
    rw [up3_o h2, row3_o h1]
  · show up3 (row3 (sN C) 35 (sK C 35) (fun _ => nul)) 13 y 1 (idc 35 (sK C 35)) 13 y' = _
    funext j
    rw [up3_n (fun q => hy q.2), row3_o (by decide)]
  · exact up3_s
  · show up3 (row3 (sN C) 35 (sK C 35) (fun _ => nul)) 13 y 1 (idc 35 (sK C 35)) 35 z = _
    rw [up3_o (by decide), row3_n (fun q => by omega)]
  · show up2 (sL C) 35 (sK C 35) 10 35 z = _
    rw [up2_n (fun q => by omega)]
  · show up2 (sL C) 35 (sK C 35) 10 35 (sK C 35) = _
    rw [up2_s]
/-- ArrayList.grow, where the array is full -/
theorem p_grow {C : St} {o5 : Nat → Nat} {y n : Nat} {el : Nat → Nat} {P : Nat → St → Prop} {X : String → St → Prop} (a : AL C o5 y n el) (hn : n < 4096) (hfull : ∀ z, sN C 13 y 1 = idc 35 z → sL C 35 z = n) (hc : 1 ≤ sC C) (hs : 2 * n + 11 ≤ sS C) (k : ∀ C', Gr C C' y n el → P (idc 35 (sK C 35)) C') : f_J2_grow y P X C := by
  obtain ⟨a1, a2, a3⟩ := a
  simp only [f_J2_grow, f_J2_grow_2, gI, gR, bn0, a1]
  rcases a3 with ⟨b1, rfl⟩ | ⟨z, z1, z2, z3, z4, ⟨z5, z7⟩, z6⟩
  · rw [b1]
    refine Or.inr ⟨rfl, fun h => absurd h (by decide), fun _ => ?_⟩
    simp only [gR, b1]
    refine ⟨⟨Or.inr (Or.inr rfl), Or.inr (Or.inr rfl)⟩, fun _ => ?_, fun h => absurd trivial h⟩
    have e10 : mxI (10 : Int32) (nI 0 + 1) = 10 := by decide +kernel
    rw [e10]
    refine ⟨⟨by decide, by decide, hc, by have : (10 : Int32).toNatClampNeg = 10 := by decide +kernel
                                          omega⟩, ?_⟩
    have e11 : (10 : Int32).toNatClampNeg = 10 := by decide +kernel
    rw [e11]
    exact k _ gr_of0
  · have hl := hfull z z1
    rw [z1]
    have hnpos : 0 < n := by omega
    refine Or.inl ⟨z, rfl, ?_⟩
    rw [hl]
    refine ⟨fun _ => ?_, fun h => absurd (nI_lt (a := 0) hnpos (by omega)) (by rw [nI_0]; exact h)⟩
    simp only [f_J11_newLength, bn0, cnd, rt, stk, gR, isK, f_J13_copyOf_3, f_J13_copyOf_4, nwA, aLen, cpR, pR]
    have e1 : nI n + (1 : Int32) - nI n = nI 1 := by rw [show nI n + (1 : Int32) = nI (n + 1) from nI_1 n, nI_subN (by omega)]; congr 1; omega
    rw [e1, nI_half (by omega), nI_mx (by omega) (by omega), nI_add]
    have hnl : n < n + max 1 (n / 2) ∧ n + max 1 (n / 2) ≤ 8192 ∧ n + max 1 (n / 2) ≤ 2 * n + 11 := by omega
    generalize n + max 1 (n / 2) = nl at hnl
    refine ⟨fun q => absurd q (nI_nle (by omega) (by omega)), fun _ => ⟨fun q => ?_, fun _ => ?_⟩⟩
    · exfalso
      have : (2147483639 : Int32) = nI 2147483639 := by decide +kernel
      rw [this] at q
      exact nI_nlt (by omega) (by omega) q
    · refine ⟨z, z1, ⟨nI_pos (by omega), by rw [nI_clamp (by omega)]; omega, hc, by rw [nI_clamp (by omega)]; omega⟩, ?_⟩
      have hne : z ≠ sK C 35 := by omega
      have el1 : sL (mk C 35 nl) 35 z = n := by
        show up2 (sL C) 35 (sK C 35) nl 35 z = n
        rw [up2_n (fun q => hne q.2)]; exact hl
      have el2 : sL (mk C 35 nl) 35 (sK C 35) = nl := up2_s
      have en1 : sN (mk C 35 nl) 35 z = sN C 35 z := row3_n (fun q => hne q.2)
      rw [nI_clamp (by omega), el1, nI_mn (by omega) (by omega), Nat.min_eq_left (by omega)]
      have e0 : (0 : Int32).toNatClampNeg = 0 := by decide +kernel
      rw [e0, nI_clamp (by omega), el2, en1]
      refine ⟨⟨by decide, by decide, nI_pos (by omega), by omega, by omega, fun j hj => ?_⟩, ?_⟩
      · rw [Nat.zero_add, (z6 j hj).1]; exact (z6 j hj).2
      · refine k _ (gr_of hnl fun k hk => ?_)
        unfold va_cpy
        rw [if_pos (by omega), show 0 + (k - 0) = k by omega]
        exact (z6 k hk).1
theorem jk_of {K : Nat} (h : (jk K && !(K == 13) && !(K == 35)) = true) : K ≠ 13 ∧ K ≠ 35 := by
  simp only [Bool.and_eq_true, Bool.not_eq_true', beq_eq_false_iff_ne] at h
  exact ⟨h.1.2, h.2⟩
/-- the last writes of an add -/
theorem add_fin {C C2 : St} {v : Vw} {y e z : Nat} (w : WF C v) (hy : y < vK v 13) (he : elOK e) (hn : vZ v y < 4096) {o5 o4 o6 : Nat → Nat} (j1 : ∀ y, y < sK C 13 → AL C o5 y (vZ v y) (vE v y)) (j2 : ∀ b, b < sK C 14 → BS C o4 b (vB v b)) (j3 : ∀ i, i < sK C 15 → LL C o6 i (vW v i)) (j4 : ∀ i, i < sK C 17 → AD C o5 i (vQ v i)) (j5 : ∀ z, (vo v).1 = z + 1 → z < sK C 34 ∧ o4 z = 1 ∧ sL C 34 z = 1 ∧ sG C 34 z 0 = (vo v).2)
    (hm : ∀ K, K ≠ 13 → K ≠ 35 → sM C2 K = sM C K ∧ sN C2 K = sN C K ∧ sG C2 K = sG C K ∧ sL C2 K = sL C K ∧ sK C2 K = sK C K) (hk13 : sK C2 13 = sK C 13) (hk35 : sK C 35 ≤ sK C2 35) (hy' : ∀ y', y' ≠ y → sM C2 13 y' = sM C 13 y' ∧ sN C2 13 y' = sN C 13 y') (h35 : ∀ z', z' < sK C 35 → sN C2 35 z' = sN C 35 z' ∧ sL C2 35 z' = sL C 35 z')
    (o5' : Nat → Nat) (ho : ∀ z, z < sK C 35 → o5' z = o5 z) (hz0 : z < sK C 35 → o5 z = 2 * y) (hs2 : sM C2 13 y 2 = nI (vZ v y)) (hs1 : sN C2 13 y 1 = idc 35 z) (hz : z < sK C2 35) (hoz : o5' z = 2 * y) (hl : vZ v y < sL C2 35 z ∧ sL C2 35 z ≤ 8192) (hc : ∀ k, k < vZ v y → sN C2 35 z k = vE v y k ∧ elOK (vE v y k)) (hb : vb v - (2 * vZ v y + 12) ≤ sC C2 ∧ vb v - (2 * vZ v y + 12) ≤ sS C2) :
    WF (wM (wN C2 35 z (vZ v y) e) 13 y 2 (nI (vZ v y) + 1)) (uA v y e) := by
  obtain ⟨w1, w2, -, -⟩ := w
  have hk : sK C 13 = vK v 13 := w2 13 rfl
  refine ⟨fun K m => ?_, fun K m => ?_, hb, ?_⟩
  · have n13 : K ≠ 13 := fun q => by subst q; cases m
    have n35 : K ≠ 35 := fun q => by subst q; cases m
    obtain ⟨m1, m2, m3, m4, m5⟩ := hm K n13 n35
    obtain ⟨p1, p2, p3⟩ := w1 K m
    refine ⟨?_, ?_, ?_⟩
    · show up3 (sM C2) 13 y 2 _ K = vM v K
      rw [up3_o n13, m1, p1]
    · show up3 (sN C2) 35 z (vZ v y) e K = vN v K
      rw [up3_o n35, m2, p2]
    · exact m4.trans p3
  · show sK C2 K = vK v K
    by_cases n13 : K = 13
    · subst n13; rw [hk13]; exact hk
    · have n35 : K ≠ 35 := fun q => by subst q; cases m
      rw [(hm K n13 n35).2.2.2.2]; exact w2 K m
  · refine JW.al (C := C) (v := v) (y := y) (o5 := o5) (o4 := o4) (o6 := o6) j1 j2 j3 j4 j5 o5' ho hk35 (fun y' ne => ⟨?_, ?_⟩) (fun z' hz' ne => ⟨?_, (h35 z' hz').2⟩) (fun K q => ?_) (fun y' q _ => hk13 ▸ q) (fun y' ne => ⟨up1_n ne, ?_⟩) ⟨rfl, rfl, rfl, rfl⟩ (fun _ => ⟨?_, ?_, Or.inr ⟨z, ?_, hz, hoz, ?_, ⟨?_, hl.2⟩, fun k hk2 => ?_⟩⟩)
    · show up3 (sM C2) 13 y 2 (nI (vZ v y) + 1) 13 y' = _
      funext j; rw [up3_n (fun q => ne q.2), (hy' y' ne).1]
    · show up3 (sN C2) 35 z (vZ v y) e 13 y' = _
      rw [up3_o (by decide), (hy' y' ne).2]
    · show up3 (sN C2) 35 z (vZ v y) e 35 z' = _
      have : z' ≠ z := fun q => ne (by rw [q]; exact hz0 (q ▸ hz'))
      funext j; rw [up3_n (fun q => this q.2), (h35 z' hz').1]
    · obtain ⟨n13, n35⟩ := jk_of q
      obtain ⟨m1, m2, m3, m4, m5⟩ := hm K n13 n35
      refine ⟨?_, ?_, m3, m4, m5⟩
      · show up3 (sM C2) 13 y 2 _ K = _
        rw [up3_o n13, m1]
      · show up3 (sN C2) 35 z (vZ v y) e K = _
        rw [up3_o n35, m2]
    · funext k
      exact up2_n (fun q => ne q.1)
    · show up3 (sM C2) 13 y 2 (nI (vZ v y) + 1) 13 y 2 = nI (up1 (vZ v) y (vZ v y + 1) y)
      rw [up3_s, up1_s]; exact (nI_succ _).symm
    · show up1 (vZ v) y (vZ v y + 1) y ≤ 4096
      rw [up1_s]; omega
    · show up3 (sN C2) 35 z (vZ v y) e 13 y 1 = idc 35 z
      rw [up3_o (by decide)]; exact hs1
    · show up1 (vZ v) y (vZ v y + 1) y ≤ sL C2 35 z
      rw [up1_s]; exact hl.1
    · show 0 < sL C2 35 z
      omega
    · have hk3 : k < vZ v y + 1 := by
        have : up1 (vZ v) y (vZ v y + 1) y = vZ v y + 1 := up1_s
        exact this ▸ hk2
      show up3 (sN C2) 35 z (vZ v y) e 35 z k = up2 (vE v) y (vZ v y) e y k ∧ elOK (up2 (vE v) y (vZ v y) e y k)
      by_cases q : k = vZ v y
      · subst q
        rw [up3_s, up2_s]; exact ⟨rfl, he⟩
      · rw [up3_k q, up2_n (fun r => q r.2)]
        exact hc k (by omega)
/-- the same, behind a grown array -/
theorem add_gr {C C1 : St} {v : Vw} {y e : Nat} (w : WF C v) (hy : y < vK v 13) (he : elOK e) (hn : vZ v y < 4096) (hb0 : 2 * vZ v y + 12 ≤ vb v) {o5 o4 o6 : Nat → Nat} (j1 : ∀ y, y < sK C 13 → AL C o5 y (vZ v y) (vE v y)) (j2 : ∀ b, b < sK C 14 → BS C o4 b (vB v b)) (j3 : ∀ i, i < sK C 15 → LL C o6 i (vW v i)) (j4 : ∀ i, i < sK C 17 → AD C o5 i (vQ v i)) (j5 : ∀ z, (vo v).1 = z + 1 → z < sK C 34 ∧ o4 z = 1 ∧ sL C 34 z = 1 ∧ sG C 34 z 0 = (vo v).2)
    (hm1 : ∀ K, K ≠ 13 → sM C1 K = sM C K ∧ sN C1 K = sN C K ∧ sG C1 K = sG C K ∧ sL C1 K = sL C K) (hk1 : sK C1 = sK C) (hc1 : sC C1 = sC C ∧ sS C1 = sS C) (hy1 : ∀ y', y' ≠ y → sM C1 13 y' = sM C 13 y' ∧ sN C1 13 y' = sN C 13 y') (e2 : sM C1 13 y 2 = nI (vZ v y))
    {C' : St} (hG : Gr C1 C' y (vZ v y) (vE v y)) (hel : ∀ k, k < vZ v y → elOK (vE v y k)) : WF (wM (wN C' 35 (sK C1 35) (vZ v y) e) 13 y 2 (nI (vZ v y) + 1)) (uA v y e) ∧ vZ v y < sL C' 35 (sK C1 35) := by
  obtain ⟨nl, ⟨g1, g2, g3⟩, g4, g5, g6, g7, g8, g9, g10, g11, g12, g13⟩ := hG
  have w3 := w.2.2.1
  have k13 : sK C' 13 = sK C 13 := by rw [g4, up1_n (by decide), hk1]
  have k35 : sK C' 35 = sK C1 35 + 1 := by rw [g4, up1_s]
  obtain ⟨c1, c2⟩ := hc1
  refine ⟨add_fin w hy he hn j1 j2 j3 j4 j5 (fun K n13 n35 => ?_) k13 (by rw [k35, hk1]; omega) (fun y' ne => ⟨?_, (g7 y' ne).trans (hy1 y' ne).2⟩) (fun z' hz' => ?_) (up1 o5 (sK C1 35) (2 * y)) (fun z hz => up1_n (by rw [hk1]; omega)) (fun q => absurd q (by rw [hk1]; exact Nat.lt_irrefl _)) ?_ g8 (by omega) up1_s (by rw [g10]; exact ⟨g1, g2⟩) (fun k hk => ⟨g11 k hk, hel k hk⟩) (by omega), by rw [g10]; exact g1⟩
  · obtain ⟨p1, p2, p3⟩ := g5 K n35
    obtain ⟨q1, q2, q3, q4⟩ := hm1 K n13
    exact ⟨p1.trans q1, (g6 K n35 n13).trans q2, p2.trans q3, p3.trans q4, by rw [g4, up1_n n35, hk1]⟩
  · rw [(g5 13 (by decide)).1]; exact (hy1 y' ne).1
  · obtain ⟨p1, p2⟩ := g9 z' (by rw [hk1]; exact hz')
    obtain ⟨q1, q2, q3, q4⟩ := hm1 35 (by decide)
    rw [p1, p2, q2, q4]; exact ⟨rfl, rfl⟩
  · rw [(g5 13 (by decide)).1]; exact e2
theorem bn0_i {α ρ : Type} {p : PT α} {k : α → PT ρ} {P : ρ → St → Prop} {X : String → St → Prop} {C : St} (h : p (fun r C' => k r P X C') (fun _ _ => False) C) : bn0 p k P X C := h
theorem bnd_i {α ρ : Type} {p : PT α} {k : α → PT ρ} {P : ρ → St → Prop} {X : String → St → Prop} {C : St} (h : p (fun r C' => k r P X C') X C) : bnd p k P X C := h
theorem cnd_i {ρ : Type} {c : Prop} {p q : PT ρ} {P : ρ → St → Prop} {X : String → St → Prop} {C : St} (h : c → p P X C) (h' : ¬ c → q P X C) : cnd c p q P X C := ⟨h, h'⟩
theorem s_J2_add (y e : Nat) : Sim (h_J2_add y e) (f_J2_add y e) := fun P' X' v P X C w hP hX h => by
  obtain ⟨⟨hy, he, hn, hb⟩, h⟩ := h
  have w0 := w
  obtain ⟨w1, w2, ⟨w3, w4⟩, o5, o4, o6, j1, j2, j3, j4, j5⟩ := w
  have hy13 : y < sK C 13 := by rw [w2 13 rfl]; exact hy
  obtain ⟨a1, a2, a3⟩ := j1 y hy13
  have hin : ∀ L : Nat, vZ v y < L → vp_in (nI (vZ v y)) L := fun L q r => r.elim (nI_pos (by omega)) (fun r => by rw [nI_clamp (by omega)] at r; omega)
  have hcl : (nI (vZ v y)).toNatClampNeg = vZ v y := nI_clamp (by omega)
  have main : ∀ C1 : St, (∀ K, K ≠ 13 → sM C1 K = sM C K ∧ sN C1 K = sN C K ∧ sG C1 K = sG C K ∧ sL C1 K = sL C K) → sK C1 = sK C → sC C1 = sC C ∧ sS C1 = sS C → (∀ y', y' ≠ y → sM C1 13 y' = sM C 13 y' ∧ sN C1 13 y' = sN C 13 y') → sM C1 13 y 2 = nI (vZ v y) → sN C1 13 y 1 = sN C 13 y 1 → f_J2_add_2 y e (sN C 13 y 1) (nI (vZ v y)) (fun _ C' => ((1 : Int32) = 0 ∨ (1 : Int32) = 1) ∧ P 1 C') (fun _ _ => False) C1 := by
    intro C1 hm1 hk1 hc1 hy1 e2 e1
    have gr := fun {C'} hG hel => add_gr (C' := C') w0 hy he hn hb j1 j2 j3 j4 j5 hm1 hk1 hc1 hy1 e2 hG hel
    unfold f_J2_add_2
    rcases a3 with ⟨b1, b2⟩ | ⟨z, z1, z2, z3, z4, ⟨z5, z7⟩, z6⟩
    · rw [b1]
      refine Or.inr ⟨rfl, ?_⟩
      refine bnd_i (cnd_i (fun _ => bn0_i ?_) fun q => absurd (by rw [b2]; exact nI_0) q)
      have aC1 : AL C1 o5 y (vZ v y) (vE v y) := ⟨e2, a2, Or.inl ⟨e1.trans b1, b2⟩⟩
      refine p_grow aC1 hn (fun z q => by have := (idc_inj (by decide) (by decide) (q.symm.trans (e1.trans b1))).1; omega) (by omega) (by omega) fun C' hG => ?_
      obtain ⟨hw, hl⟩ := gr hG (fun k hk => by omega)
      refine ⟨sK C1 35, rfl, he, hin _ hl, Or.inr rfl, hP _ _ _ ?_ h⟩
      rw [hcl]; exact hw
    · rw [z1]
      refine Or.inl ⟨z, rfl, ?_⟩
      obtain ⟨q1, q2, q3, q4⟩ := hm1 35 (by decide)
      rw [q4]
      refine bnd_i (cnd_i (fun q => bn0_i ?_) fun q => ?_)
      · have hfull : vZ v y = sL C 35 z := (nI_eq (by omega) (by omega)).mp q
        have aC1 : AL C1 o5 y (vZ v y) (vE v y) := ⟨e2, a2, Or.inr ⟨z, e1.trans z1, by rw [hk1]; exact z2, z3, by rw [q4]; exact z4, by rw [q4]; exact ⟨z5, z7⟩, by rw [q2]; exact z6⟩⟩
        refine p_grow aC1 hn (fun z' q' => ?_) (by omega) (by omega) fun C' hG => ?_
        · have := (idc_inj (by decide) (by decide) (z1.symm.trans (e1.symm.trans q'))).2
          subst this
          rw [q4]; exact hfull.symm
        · obtain ⟨hw, hl⟩ := gr hG (fun k hk => (z6 k hk).2)
          refine ⟨sK C1 35, rfl, he, hin _ hl, Or.inr rfl, hP _ _ _ ?_ h⟩
          rw [hcl]; exact hw
      · have hlt : vZ v y < sL C 35 z := by
          rcases Nat.lt_or_ge (vZ v y) (sL C 35 z) with r | r
          · exact r
          · exact absurd (by rw [show vZ v y = sL C 35 z by omega]) q
        have hw := add_fin (C2 := C1) (e := e) (z := z) w0 hy he hn j1 j2 j3 j4 j5 (fun K n13 _ => ⟨(hm1 K n13).1, (hm1 K n13).2.1, (hm1 K n13).2.2.1, (hm1 K n13).2.2.2, by rw [hk1]⟩) (by rw [hk1]) (by rw [hk1]; exact Nat.le_refl _) hy1 (fun _ _ => by rw [q2, q4]; exact ⟨rfl, rfl⟩) o5 (fun _ _ => rfl) (fun _ => z3) e2 (e1.trans z1) (by rw [hk1]; exact z2) z3 (by rw [q4]; exact ⟨hlt, z7⟩) (by rw [q2]; exact z6) (by omega)
        refine ⟨z, rfl, he, by rw [q4]; exact hin _ hlt, Or.inr rfl, hP _ _ _ ?_ h⟩
        rw [hcl]; exact hw
  have e2 : ∀ x, sM (wM C 13 y 0 x) 13 y 2 = nI (vZ v y) := fun x => by
    show up3 (sM C) 13 y 0 x 13 y 2 = _
    rw [up3_k (by decide)]; exact a1
  unfold f_J2_add
  show (bn0 (f_J2_add_2 y e (sN (wM C 13 y 0 (sM C 13 y 0 + 1)) 13 y 1) (sM (wM C 13 y 0 (sM C 13 y 0 + 1)) 13 y 2)) fun _ => asr ((1 : Int32) = 0 ∨ (1 : Int32) = 1) (rt (1 : Int32))) P X (wM C 13 y 0 (sM C 13 y 0 + 1))
  generalize sM C 13 y 0 + 1 = mc
  rw [e2]
  exact bn0_i (main (wM C 13 y 0 mc) (fun K n13 => ⟨up3_o n13, rfl, rfl, rfl⟩) rfl ⟨rfl, rfl⟩ (fun y' ne => ⟨by
    show up3 (sM C) 13 y 0 mc 13 y' = _
    funext j; rw [up3_n (fun q => ne q.2)], rfl⟩) (e2 mc) rfl)
/-- a new ArrayList -/
def uL (v : Vw) (n : Nat) : Vw := (vM v, vN v, vL v, up1 (vK v) 13 (vK v 13 + 1), up1 (vZ v) (vK v 13) 0, vE v, vB v, vW v, vQ v, vb v - (n + 5), vo v)
def hnL {ρ : Type} (n : Nat) (k : Nat → PV ρ) : PV ρ := fun P X v => n + 5 ≤ vb v ∧ k (vK v 13) P X (uL v n)
theorem newAL {C C' : St} {v : Vw} {n r : Nat} (w : WF C v) (hb : n + 5 ≤ vb v) (hm : ∀ K, K ≠ 13 → K ≠ 35 → sM C' K = sM C K ∧ sN C' K = sN C K ∧ sG C' K = sG C K ∧ sL C' K = sL C K ∧ sK C' K = sK C K) (h13 : ∀ y', y' ≠ sK C 13 → sM C' 13 y' = sM C 13 y' ∧ sN C' 13 y' = sN C 13 y') (hk13 : sK C' 13 = sK C 13 + 1) (hk35 : sK C 35 ≤ sK C' 35) (h35 : ∀ z, z < sK C 35 → sN C' 35 z = sN C 35 z ∧ sL C' 35 z = sL C 35 z) (hs2 : sM C' 13 (sK C 13) 2 = 0) (hs1 : sN C' 13 (sK C 13) 1 = r) (hr : r = idc 48 0 ∨ (r = idc 35 (sK C 35) ∧ sK C 35 < sK C' 35 ∧ 0 < sL C' 35 (sK C 35) ∧ sL C' 35 (sK C 35) ≤ 8192)) (hc : sC C - 2 ≤ sC C' ∧ sS C - (n + 3) ≤ sS C') : WF C' (uL v n) := by
  obtain ⟨w1, w2, w3, o5, o4, o6, j1, j2, j3, j4, j5⟩ := w
  have hk : sK C 13 = vK v 13 := w2 13 rfl
  refine ⟨fun K m => ?_, fun K m => ?_, ?_, ?_⟩
  · have n13 : K ≠ 13 := fun q => by subst q; cases m
    have n35 : K ≠ 35 := fun q => by subst q; cases m
    obtain ⟨m1, m2, m3, m4, m5⟩ := hm K n13 n35
    obtain ⟨p1, p2, p3⟩ := w1 K m
    exact ⟨m1.trans p1, m2.trans p2, m4.trans p3⟩
  · show sK C' K = up1 (vK v) 13 (vK v 13 + 1) K
    by_cases n13 : K = 13
    · subst n13; rw [up1_s, hk13, hk]
    · have n35 : K ≠ 35 := fun q => by subst q; cases m
      rw [up1_n n13, (hm K n13 n35).2.2.2.2]; exact w2 K m
  · show vb v - (n + 5) ≤ _ ∧ vb v - (n + 5) ≤ _
    omega
  · refine JW.al (C := C) (v := v) (y := sK C 13) (o5 := o5) (o4 := o4) (o6 := o6) j1 j2 j3 j4 j5 (up1 o5 (sK C 35) (2 * sK C 13)) (fun z hz => up1_n (by omega)) hk35 h13 (fun z hz _ => h35 z hz) (fun K q => ?_) (fun y' q ne => by omega) (fun y' ne => ⟨?_, rfl⟩) ⟨rfl, rfl, rfl, rfl⟩ (fun _ => ?_)
    · obtain ⟨n13, n35⟩ := jk_of q
      exact hm K n13 n35
    · exact up1_n (hk ▸ ne)
    · have z0 : vZ (uL v n) (sK C 13) = 0 := by
        show up1 (vZ v) (vK v 13) 0 (sK C 13) = 0
        rw [hk, up1_s]
      rw [z0]
      refine ⟨hs2.trans nI_0.symm, by omega, ?_⟩
      rcases hr with hr | ⟨hr, h1, h2, h3⟩
      · exact Or.inl ⟨hs1.trans hr, rfl⟩
      · exact Or.inr ⟨sK C 35, hs1.trans hr, h1, up1_s, Nat.zero_le _, ⟨h2, h3⟩, fun k hk => absurd hk (Nat.not_lt_zero k)⟩
theorem s_nL0 {ρ : Type} {k : Nat → PV ρ} {k' : Nat → PT ρ} (h2 : ∀ r, Sim (k r) (k' r)) : Sim (hnL 0 k) (nw 13 3 fun i => bn0 (f_J2_init_2 i) fun _ => k' i) := fun P' X' v P X C w hP hX h => by
  obtain ⟨hb, h⟩ := h
  have hk : sK C 13 = vK v 13 := w.2.1 13 rfl
  have w3 := w.2.2.1
  refine ⟨by omega, ?_⟩
  simp only [f_J2_init_2, f_J1_init_13, f_J0_init_13, bn0, pI, pR, rt]
  rw [← hk] at h
  refine h2 _ P' X' _ P X _ (newAL (r := idc 48 0) w hb (fun K n13 n35 => ⟨?_, ?_, row3_o n13, up2_o n13, up1_n n13⟩) (fun y' ne => ⟨?_, ?_⟩) ?_ ?_ (fun z hz => ⟨?_, ?_⟩) ?_ up3_s (Or.inl rfl) ⟨?_, ?_⟩) hP hX h
  · exact (up3_o n13).trans (row3_o n13)
  · exact (up3_o n13).trans (row3_o n13)
  · show up3 (row3 (sM C) 13 (sK C 13) (fun _ => 0)) 13 (sK C 13) 0 0 13 y' = _
    funext j; rw [up3_n (fun q => ne q.2), row3_n (fun q => ne q.2)]
  · show up3 (row3 (sN C) 13 (sK C 13) (fun _ => nul)) 13 (sK C 13) 1 (idc 48 0) 13 y' = _
    funext j; rw [up3_n (fun q => ne q.2), row3_n (fun q => ne q.2)]
  · show up1 (sK C) 13 (sK C 13 + 1) 13 = _
    rw [up1_s]
  · show sK C 35 ≤ up1 (sK C) 13 (sK C 13 + 1) 35
    rw [up1_n (by decide)]; exact Nat.le_refl _
  · show up3 (row3 (sN C) 13 (sK C 13) (fun _ => nul)) 13 (sK C 13) 1 (idc 48 0) 35 z = _
    rw [up3_o (by decide), row3_o (by decide)]
  · show up2 (sL C) 13 (sK C 13) 3 35 z = _
    exact up2_n (fun q => absurd q.1 (by decide))
  · show up3 (row3 (sM C) 13 (sK C 13) (fun _ => 0)) 13 (sK C 13) 0 0 13 (sK C 13) 2 = 0
    rw [up3_k (by decide), row3_s]
  · show _ ≤ sC C - 1; omega
  · show _ ≤ sS C - 3; omega
theorem s_nL {ρ : Type} {n : Nat} {x : Int32} {k : Nat → PV ρ} {k' : Nat → PT ρ} (hx : x = nI n) (hn : 0 < n ∧ n ≤ 8192) (h2 : ∀ r, Sim (k r) (k' r)) : Sim (hnL n k) (nw 13 3 fun i => bn0 (f_J2_init i x) fun _ => k' i) := fun P' X' v P X C w hP hX h => by
  obtain ⟨hb, h⟩ := h
  have hk : sK C 13 = vK v 13 := w.2.1 13 rfl
  have w3 := w.2.2.1
  subst hx
  refine ⟨by omega, ?_⟩
  have e0 : ¬ nI n ≤ 0 := by
    exact nI_nle (by omega) (by omega)
  simp only [f_J2_init, f_J1_init_13, f_J0_init_13, bn0, pI, pR, rt, cnd, nwA]
  refine ⟨fun q => absurd q e0, fun _ => ⟨⟨nI_pos (by omega), by rw [nI_clamp (by omega)]; omega, by show 1 ≤ sC C - 1; omega, by rw [nI_clamp (by omega)]; show n ≤ sS C - 3; omega⟩, ?_⟩⟩
  rw [nI_clamp (by omega)]
  rw [← hk] at h
  have hk35 : sK (wM (mk C 13 3) 13 (sK C 13) 0 0) 35 = sK C 35 := by
    show up1 (sK C) 13 (sK C 13 + 1) 35 = _
    exact up1_n (by decide)
  rw [hk35]
  refine h2 _ P' X' _ P X _ (newAL (r := idc 35 (sK C 35)) w hb (fun K n13 n35 => ⟨?_, ?_, ?_, ?_, ?_⟩) (fun y' ne => ⟨?_, ?_⟩) ?_ ?_ (fun z hz => ⟨?_, ?_⟩) ?_ up3_s (Or.inr ⟨rfl, ?_, ?_, ?_⟩) ⟨?_, ?_⟩) hP hX h
  · show row3 (up3 (row3 (sM C) 13 (sK C 13) (fun _ => 0)) 13 (sK C 13) 0 0) 35 (sK (wM (mk C 13 3) 13 (sK C 13) 0 0) 35) (fun _ => 0) K = _
    rw [row3_o n35, up3_o n13, row3_o n13]
  · show up3 (row3 (row3 (sN C) 13 (sK C 13) (fun _ => nul)) 35 (sK (wM (mk C 13 3) 13 (sK C 13) 0 0) 35) (fun _ => nul)) 13 (sK C 13) 1 (idc 35 (sK C 35)) K = _
    rw [up3_o n13, row3_o n35, row3_o n13]
  · show row3 (row3 (sG C) 13 (sK C 13) (fun _ => 0)) 35 (sK (wM (mk C 13 3) 13 (sK C 13) 0 0) 35) (fun _ => 0) K = _
    rw [row3_o n35, row3_o n13]
  · show up2 (up2 (sL C) 13 (sK C 13) 3) 35 (sK (wM (mk C 13 3) 13 (sK C 13) 0 0) 35) n K = _
    rw [up2_o n35, up2_o n13]
  · show up1 (up1 (sK C) 13 (sK C 13 + 1)) 35 (sK (wM (mk C 13 3) 13 (sK C 13) 0 0) 35 + 1) K = _
    rw [up1_n n35, up1_n n13]
  · show row3 (up3 (row3 (sM C) 13 (sK C 13) (fun _ => 0)) 13 (sK C 13) 0 0) 35 (sK (wM (mk C 13 3) 13 (sK C 13) 0 0) 35) (fun _ => 0) 13 y' = _
    rw [row3_o (by decide)]
    funext j; rw [up3_n (fun q => ne q.2), row3_n (fun q => ne q.2)]
  · show up3 (row3 (row3 (sN C) 13 (sK C 13) (fun _ => nul)) 35 (sK (wM (mk C 13 3) 13 (sK C 13) 0 0) 35) (fun _ => nul)) 13 (sK C 13) 1 (idc 35 (sK C 35)) 13 y' = _
    funext j; rw [up3_n (fun q => ne q.2), row3_o (by decide), row3_n (fun q => ne q.2)]
  · show up1 (up1 (sK C) 13 (sK C 13 + 1)) 35 (sK (wM (mk C 13 3) 13 (sK C 13) 0 0) 35 + 1) 13 = _
    rw [up1_n (by decide), up1_s]
  · show sK C 35 ≤ up1 (up1 (sK C) 13 (sK C 13 + 1)) 35 (sK (wM (mk C 13 3) 13 (sK C 13) 0 0) 35 + 1) 35
    rw [up1_s, hk35]; omega
  · show up3 (row3 (row3 (sN C) 13 (sK C 13) (fun _ => nul)) 35 (sK (wM (mk C 13 3) 13 (sK C 13) 0 0) 35) (fun _ => nul)) 13 (sK C 13) 1 (idc 35 (sK C 35)) 35 z = _
    rw [up3_o (by decide), hk35, row3_n (fun q => by omega), row3_o (by decide)]
  · show up2 (up2 (sL C) 13 (sK C 13) 3) 35 (sK (wM (mk C 13 3) 13 (sK C 13) 0 0) 35) n 35 z = _
    rw [hk35, up2_n (fun q => by omega), up2_o (by decide)]
  · show row3 (up3 (row3 (sM C) 13 (sK C 13) (fun _ => 0)) 13 (sK C 13) 0 0) 35 (sK (wM (mk C 13 3) 13 (sK C 13) 0 0) 35) (fun _ => 0) 13 (sK C 13) 2 = 0
    rw [row3_o (by decide), up3_k (by decide), row3_s]
  · show sK C 35 < up1 (up1 (sK C) 13 (sK C 13 + 1)) 35 (sK (wM (mk C 13 3) 13 (sK C 13) 0 0) 35 + 1) 35
    rw [up1_s, hk35]; omega
  · show 0 < up2 (up2 (sL C) 13 (sK C 13) 3) 35 (sK (wM (mk C 13 3) 13 (sK C 13) 0 0) 35) n 35 (sK C 35)
    rw [hk35, up2_s]; exact hn.1
  · show up2 (up2 (sL C) 13 (sK C 13) 3) 35 (sK (wM (mk C 13 3) 13 (sK C 13) 0 0) 35) n 35 (sK C 35) ≤ 8192
    rw [hk35, up2_s]; exact hn.2
  · show _ ≤ sC C - 1 - 1; omega
  · show _ ≤ sS C - 3 - n; omega
