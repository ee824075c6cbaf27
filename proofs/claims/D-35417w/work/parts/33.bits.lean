/-! ===== bit sets over views: what changes ===== -/
/-- one bit set's insides changed, at a cost of c -/
def BR (C C' : St) (o4 o4' : Nat → Nat) (b c : Nat) : Prop := (∀ z, z < sK C 34 → o4' z = o4 z) ∧ sK C 34 ≤ sK C' 34 ∧ (∀ b', b' ≠ b → sM C' 14 b' = sM C 14 b' ∧ sN C' 14 b' = sN C 14 b' ∧ sL C' 14 b' = sL C 14 b') ∧ (∀ z, z < sK C 34 → o4 z ≠ 2 * b → sG C' 34 z = sG C 34 z ∧ sL C' 34 z = sL C 34 z) ∧
  (∀ K, K ≠ 14 → K ≠ 34 → sM C' K = sM C K ∧ sN C' K = sN C K ∧ sG C' K = sG C K ∧ sL C' K = sL C K ∧ sK C' K = sK C K) ∧ sK C' 14 = sK C 14 ∧ sC C ≤ sC C' + c ∧ sS C ≤ sS C' + c
theorem BR.rf (C : St) (o4 : Nat → Nat) (b : Nat) : BR C C o4 o4 b 0 := ⟨fun _ _ => rfl, Nat.le_refl _, fun _ _ => ⟨rfl, rfl, rfl⟩, fun _ _ _ => ⟨rfl, rfl⟩, fun _ _ _ => ⟨rfl, rfl, rfl, rfl, rfl⟩, rfl, Nat.le_refl _, Nat.le_refl _⟩
theorem BR.tr {C C' C2 : St} {o o' o2 : Nat → Nat} {b c c' : Nat} (h : BR C C' o o' b c) (h' : BR C' C2 o' o2 b c') : BR C C2 o o2 b (c + c') := by
  obtain ⟨a1, a2, a3, a4, a5, a6, a7, a8⟩ := h
  obtain ⟨b1, b2, b3, b4, b5, b6, b7, b8⟩ := h'
  refine ⟨fun z hz => (b1 z (by omega)).trans (a1 z hz), by omega, fun b' hb => ?_, fun z hz ho => ?_, fun K k1 k2 => ?_, b6.trans a6, by omega, by omega⟩
  · obtain ⟨x1, x2, x3⟩ := a3 b' hb
    obtain ⟨y1, y2, y3⟩ := b3 b' hb
    exact ⟨y1.trans x1, y2.trans x2, y3.trans x3⟩
  · obtain ⟨x1, x2⟩ := a4 z hz ho
    obtain ⟨y1, y2⟩ := b4 z (by omega) (by rw [a1 z hz]; exact ho)
    exact ⟨y1.trans x1, y2.trans x2⟩
  · obtain ⟨x1, x2, x3, x4, x5⟩ := a5 K k1 k2
    obtain ⟨y1, y2, y3, y4, y5⟩ := b5 K k1 k2
    exact ⟨y1.trans x1, y2.trans x2, y3.trans x3, y4.trans x4, y5.trans x5⟩
theorem BR.wM (C : St) (o4 : Nat → Nat) (b j : Nat) (x : Int32) : BR C (wM C 14 b j x) o4 o4 b 0 := by
  refine ⟨fun _ _ => rfl, Nat.le_refl _, fun b' hb => ⟨?_, rfl, rfl⟩, fun z _ _ => ⟨rfl, rfl⟩, fun K k1 k2 => ⟨up3_o k1, rfl, rfl, rfl, rfl⟩, rfl, Nat.le_refl _, Nat.le_refl _⟩
  show up3 (sM C) 14 b j x 14 b' = _
  funext y; exact up3_n fun q => hb q.2
theorem BR.wN (C : St) (o4 : Nat → Nat) (b j : Nat) (x : Nat) : BR C (wN C 14 b j x) o4 o4 b 0 := by
  refine ⟨fun _ _ => rfl, Nat.le_refl _, fun b' hb => ⟨rfl, ?_, rfl⟩, fun z _ _ => ⟨rfl, rfl⟩, fun K k1 k2 => ⟨rfl, up3_o k1, rfl, rfl, rfl⟩, rfl, Nat.le_refl _, Nat.le_refl _⟩
  show up3 (sN C) 14 b j x 14 b' = _
  funext y; exact up3_n fun q => hb q.2
theorem BR.wG (C : St) (o4 : Nat → Nat) {b z : Nat} (k : Nat) (x : Int64) (ho : o4 z = 2 * b) : BR C (wG C 34 z k x) o4 o4 b 0 := by
  refine ⟨fun _ _ => rfl, Nat.le_refl _, fun b' hb => ⟨rfl, rfl, rfl⟩, fun z' _ hz => ⟨?_, rfl⟩, fun K k1 k2 => ⟨rfl, rfl, up3_o k2, rfl, rfl⟩, rfl, Nat.le_refl _, Nat.le_refl _⟩
  show up3 (sG C) 34 z k x 34 z' = _
  funext y; exact up3_n fun q => hz (by rw [q.2]; exact ho)
theorem BR.mk (C : St) (o4 : Nat → Nat) (b n : Nat) (f : Nat → Int64) : BR C (rG (mk C 34 n) 34 (sK C 34) f) o4 (up1 o4 (sK C 34) (2 * b)) b (n + 1) := by
  have z0 : ∀ z, z < sK C 34 → z ≠ sK C 34 := fun z h => by omega
  refine ⟨fun z hz => up1_n (z0 z hz), ?_, fun b' hb => ⟨?_, ?_, ?_⟩, fun z hz _ => ⟨?_, ?_⟩, fun K k1 k2 => ⟨row3_o k2, row3_o k2, ?_, up2_o k2, up1_n k2⟩, ?_, ?_, ?_⟩
  · show sK C 34 ≤ up1 (sK C) 34 (sK C 34 + 1) 34
    rw [up1_s]; omega
  · show row3 (sM C) 34 (sK C 34) (fun _ => 0) 14 b' = _
    exact row3_n (fun q => absurd q.1 (by decide))
  · show row3 (sN C) 34 (sK C 34) (fun _ => nul) 14 b' = _
    exact row3_n (fun q => absurd q.1 (by decide))
  · show up2 (sL C) 34 (sK C 34) n 14 b' = _
    exact up2_n (fun q => absurd q.1 (by decide))
  · show row3 (row3 (sG C) 34 (sK C 34) (fun _ => 0)) 34 (sK C 34) f 34 z = _
    rw [row3_n (fun q => z0 z hz q.2), row3_n (fun q => z0 z hz q.2)]
  · show up2 (sL C) 34 (sK C 34) n 34 z = _
    exact up2_n (fun q => z0 z hz q.2)
  · show row3 (row3 (sG C) 34 (sK C 34) (fun _ => 0)) 34 (sK C 34) f K = _
    rw [row3_o k2, row3_o k2]
  · show up1 (sK C) 34 (sK C 34 + 1) 14 = _
    exact up1_n (by decide)
  · show sC C ≤ sC C - 1 + (n + 1); omega
  · show sS C ≤ sS C - n + (n + 1); omega
/-- a bit set's bits anew -/
def uBs (v : Vw) (b : Nat) (f : Nat → Bool) (c : Nat) : Vw := (vM v, vN v, vL v, vK v, vZ v, vE v, up1 (vB v) b f, vW v, vQ v, vb v - c, vo v)
/-- the insides realise the views, with their owners -/
def JWo (C : St) (v : Vw) (o5 o4 o6 : Nat → Nat) : Prop := (∀ y, y < sK C 13 → AL C o5 y (vZ v y) (vE v y)) ∧ (∀ b, b < sK C 14 → BS C o4 b (vB v b)) ∧ (∀ i, i < sK C 15 → LL C o6 i (vW v i)) ∧ (∀ i, i < sK C 17 → AD C o5 i (vQ v i)) ∧ ∀ z, (vo v).1 = z + 1 → z < sK C 34 ∧ o4 z = 1 ∧ sL C 34 z = 1 ∧ sG C 34 z 0 = (vo v).2
theorem WF.jo {C : St} {v : Vw} (w : WF C v) : ∃ o5 o4 o6, JWo C v o5 o4 o6 := w.2.2.2
theorem WF.br {C C' : St} {v : Vw} {b c d : Nat} {f : Nat → Bool} {o5 o4 o4' o6 : Nat → Nat} (w : WF C v) (j : JWo C v o5 o4 o6) (br : BR C C' o4 o4' b c) (hn : BS C' o4' b f) (hd : c ≤ d) : WF C' (uBs v b f d) := by
  obtain ⟨w1, w2, w3, -⟩ := w
  obtain ⟨j1, j2, j3, j4, j5⟩ := j
  obtain ⟨a1, a2, a3, a4, a5, a6, a7, a8⟩ := br
  refine ⟨fun K m => ?_, fun K m => ?_, ?_, ?_⟩
  · have n14 : K ≠ 14 := fun q => by subst q; cases m
    have n34 : K ≠ 34 := fun q => by subst q; cases m
    obtain ⟨m1, m2, m3, m4, m5⟩ := a5 K n14 n34
    obtain ⟨p1, p2, p3⟩ := w1 K m
    exact ⟨m1.trans p1, m2.trans p2, m4.trans p3⟩
  · show sK C' K = vK v K
    by_cases n14 : K = 14
    · subst n14; rw [a6]; exact w2 14 rfl
    · have n34 : K ≠ 34 := fun q => by subst q; cases m
      rw [(a5 K n14 n34).2.2.2.2]; exact w2 K m
  · show vb v - d ≤ _ ∧ vb v - d ≤ _
    omega
  · refine JW.bs (C := C) (v := v) (b := b) (o5 := o5) (o4 := o4) (o6 := o6) j1 j2 j3 j4 j5 o4' a1 a2 a3 a4 (fun K q => ?_) (fun b' q _ => a6 ▸ q) (fun b' ne => up1_n ne) ⟨rfl, rfl, rfl, rfl, rfl⟩ (fun _ => ?_)
    · obtain ⟨n14, n34⟩ := jk_of4 q
      exact a5 K n14 n34
    · have z0 : vB (uBs v b f d) b = f := up1_s
      rw [z0]; exact hn
/-- room for one word more, and the number of words in use -/
theorem p_expand {C : St} {o4 : Nat → Nat} {b q : Nat} {bits : Nat → Bool} {P : Unit → St → Prop} {X : String → St → Prop} (h : BS C o4 b bits) (hq : q < 2) (hc : 3 ≤ sC C ∧ 3 ≤ sS C)
    (k : ∀ C' o4' z w, BR C C' o4 o4' b 3 → sN C' 14 b 0 = idc 34 z → z < sK C' 34 → o4' z = 2 * b → sM C' 14 b 1 = nI w → q < w → w ≤ sL C' 34 z → sL C' 34 z ≤ 2 → sM C' 14 b 2 = 0 → sL C' 14 b = 3 → (∀ k, w ≤ k → k < sL C' 34 z → sG C' 34 z k = 0) → (∀ k, bits k = (decide (k / 64 < w) && (sG C' 34 z (k / 64)).toBitVec.getLsbD (k % 64))) → P () C') : f_J18_expandTo b (nI q) P X C := by
  obtain ⟨z, w, z1, z2, z3, z4, z5, z6, z7, z8, z9, z10⟩ := h
  unfold f_J18_expandTo
  show cnd _ _ _ P X C
  rw [z4, nI_1]
  refine cnd_i (fun r => ?_) fun r => bn0_i ?_
  · have hw : q + 1 ≤ w := by
      rcases Nat.lt_or_ge w (q + 1) with s | s
      · exact absurd r (nI_ge s (by omega))
      · exact s
    exact k C o4 z w ⟨fun _ _ => rfl, Nat.le_refl _, fun _ _ => ⟨rfl, rfl, rfl⟩, fun _ _ _ => ⟨rfl, rfl⟩, fun _ _ _ => ⟨rfl, rfl, rfl, rfl, rfl⟩, rfl, by omega, by omega⟩ z1 z2 z3 z4 (by omega) z5 z6 z7 z8 z9 z10
  · have hw : w < q + 1 := by
      rcases Nat.lt_or_ge w (q + 1) with s | s
      · exact s
      · exact absurd (nI_le s (by omega)) r
    have hz : ∀ k, decide (k / 64 < w) = true → k / 64 < q + 1 := fun k r => by have := of_decide_eq_true r; omega
    unfold f_J18_ensureCapacity
    refine Exists.intro z ⟨z1, cnd_i (fun r2 => ?_) fun r2 => ?_⟩
    · have hl : q + 1 ≤ sL C 34 z := by
        rcases Nat.lt_or_ge (sL C 34 z) (q + 1) with s | s
        · exact absurd r2 (nI_ge s (by omega))
        · exact s
      have br := BR.wM C o4 b 1 (nI (q + 1))
      obtain ⟨b1, b2, b3, b4, b5, b6, b7, b8⟩ := br
      refine k _ o4 z (q + 1) ⟨b1, b2, b3, b4, b5, b6, by omega, by omega⟩ z1 z2 z3 up3_s (by omega) hl z6 ?_ z8 (fun k hk hk2 => z9 k (by omega) hk2) fun k => ?_
      · show up3 (sM C) 14 b 1 _ 14 b 2 = 0
        rw [up3_k (by decide)]; exact z7
      · rw [z10 k]
        show _ = (decide (k / 64 < q + 1) && (sG C 34 z (k / 64)).toBitVec.getLsbD (k % 64))
        by_cases s : k / 64 < w
        · rw [decide_eq_true s, decide_eq_true (by omega)]
        · rw [decide_eq_false s]
          by_cases s2 : k / 64 < q + 1
          · rw [z9 (k / 64) (by omega) (by omega)]; simp
          · rw [decide_eq_false s2]
    · have hl : sL C 34 z < q + 1 := by
        rcases Nat.lt_or_ge (sL C 34 z) (q + 1) with s | s
        · exact s
        · exact absurd (nI_le s (by omega)) r2
      refine Exists.intro z ⟨z1, Exists.intro z ⟨z1, bn0_i ?_⟩⟩
      have e2 : (2 : Int32) * nI (sL C 34 z) = nI (2 * sL C 34 z) := by
        rcases (by omega : sL C 34 z = 0 ∨ sL C 34 z = 1) with s | s <;> rw [s] <;> decide +kernel
      rw [e2, nI_mx (by omega) (by omega)]
      have hnl : q + 1 ≤ max (2 * sL C 34 z) (q + 1) ∧ max (2 * sL C 34 z) (q + 1) ≤ 2 := by omega
      generalize max (2 * sL C 34 z) (q + 1) = nl at hnl
      unfold f_J13_copyOf_2
      refine cnd_i (fun r3 => ?_) fun r3 => ?_
      · have := (nI_eq (by omega) (by omega)).mp r3
        omega
      · have hcl : (nI nl).toNatClampNeg = nl := nI_clamp (by omega)
        have e0 : (0 : Int32).toNatClampNeg = 0 := by decide +kernel
        refine ⟨⟨nI_pos (by omega), by omega, by omega, by omega⟩, ?_⟩
        rw [hcl]
        have hne : z ≠ sK C 34 := by omega
        have el1 : sL (mk C 34 nl) 34 z = sL C 34 z := up2_n (fun q => hne q.2)
        have el2 : sL (mk C 34 nl) 34 (sK C 34) = nl := up2_s
        have eg1 : sG (mk C 34 nl) 34 z = sG C 34 z := row3_n (fun q => hne q.2)
        have eg2 : sG (mk C 34 nl) 34 (sK C 34) = fun _ => 0 := row3_s
        show cpJ z 0 (sK C 34) 0 (mnI (nI (sL (mk C 34 nl) 34 z)) (nI nl)) _ _ _ _
        rw [el1, nI_mn (by omega) (by omega), Nat.min_eq_left (by omega)]
        have hcl2 : (nI (sL C 34 z)).toNatClampNeg = sL C 34 z := nI_clamp (by omega)
        refine ⟨⟨by decide, by decide, nI_pos (by omega), by rw [hcl2, e0, el1]; omega, by rw [hcl2, e0, el2]; omega⟩, ?_⟩
        rw [hcl2, e0, eg1, eg2]
        refine ⟨Or.inl rfl, ?_⟩
        have br := BR.mk C o4 b nl (va_cpy (sG C 34 z) (fun _ => 0) 0 0 (sL C 34 z))
        generalize hC1 : rG (mk C 34 nl) 34 (sK C 34) (va_cpy (sG C 34 z) (fun _ => 0) 0 0 (sL C 34 z)) = C1 at br
        have k1 : sK C1 34 = sK C 34 + 1 := by subst hC1; show up1 (sK C) 34 (sK C 34 + 1) 34 = _; exact up1_s
        have g1 : sG C1 34 (sK C 34) = va_cpy (sG C 34 z) (fun _ => 0) 0 0 (sL C 34 z) := by subst hC1; exact row3_s
        have l1 : sL C1 34 (sK C 34) = nl := by subst hC1; exact up2_s
        have l2 : sL C1 14 b = 3 := by
          subst hC1
          show up2 (sL C) 34 (sK C 34) nl 14 b = 3
          rw [up2_n (fun q => absurd q.1 (by decide))]; exact z8
        have hk1 : sK (mk C 34 nl) 34 = sK C1 34 := by subst hC1; rfl
        show P () (wM (wM (wN C1 14 b 0 (idc 34 (sK C 34))) 14 b 2 0) 14 b 1 (nI (q + 1)))
        have b2 := ((br.tr (BR.wN C1 _ b 0 (idc 34 (sK C 34)))).tr (BR.wM _ _ b 2 0)).tr (BR.wM _ _ b 1 (nI (q + 1)))
        obtain ⟨b1, b2, b3, b4, b5, b6, b7, b8⟩ := b2
        have gk : ∀ k, sG C1 34 (sK C 34) k = if k < sL C 34 z then sG C 34 z k else 0 := fun k => by
          rw [g1]; unfold va_cpy
          by_cases s : k < sL C 34 z
          · rw [if_pos (by omega), if_pos s]; congr 1; omega
          · rw [if_neg (by omega), if_neg s]
        refine k _ (up1 o4 (sK C 34) (2 * b)) (sK C 34) (q + 1) ⟨b1, b2, b3, b4, b5, b6, by omega, by omega⟩ ?_ ?_ up1_s up3_s (by omega) ?_ ?_ ?_ ?_ (fun k hk hk2 => ?_) fun k => ?_
        · exact up3_s
        · show sK C 34 < sK C1 34
          omega
        · show q + 1 ≤ sL C1 34 (sK C 34)
          omega
        · show sL C1 34 (sK C 34) ≤ 2
          omega
        · show up3 (up3 (sM C1) 14 b 2 0) 14 b 1 _ 14 b 2 = 0
          rw [up3_k (by decide), up3_s]
        · exact l2
        · show sG C1 34 (sK C 34) k = 0
          rw [gk, if_neg (by omega)]
        · show _ = (decide (k / 64 < q + 1) && (sG C1 34 (sK C 34) (k / 64)).toBitVec.getLsbD (k % 64))
          rw [z10 k, gk]
          by_cases s : k / 64 < w
          · rw [decide_eq_true s, decide_eq_true (by omega), if_pos (by omega)]
          · rw [decide_eq_false s]
            by_cases s2 : k / 64 < sL C 34 z
            · rw [if_pos s2, z9 (k / 64) (by omega) s2]; simp
            · rw [if_neg s2]; simp
theorem p_set {C : St} {o4 : Nat → Nat} {b n : Nat} {bits : Nat → Bool} {P : Unit → St → Prop} {X : String → St → Prop} (h : BS C o4 b bits) (hn : n < 128) (hc : 3 ≤ sC C ∧ 3 ≤ sS C) (k : ∀ C' o4', BR C C' o4 o4' b 3 → BS C' o4' b (up1 bits n true) → P () C') : f_J18_set b (nI n) P X C := by
  have e0 : (0 : Int32) ≤ nI n := nI_pos' (by omega)
  have e6 : nI n >>> ((6 : Int32) &&& 31) = nI (n / 64) := bt_w ⟨n, hn⟩
  unfold f_J18_set
  refine cnd_i (fun _ => ?_) (fun q => absurd e0 q)
  show (bn0 (f_J18_expandTo b (nI n >>> ((6 : Int32) &&& 31))) (fun _ => gR 14 b 0 fun v4 => isK 34 v4 fun i5 => aJ 34 i5 (nI n >>> ((6 : Int32) &&& 31)) fun v7 => bJ 34 i5 (nI n >>> ((6 : Int32) &&& 31)) (v7 ||| ((1 : Int64) <<< ((nI n).toInt64 &&& 63))) <| bn0 (f_J18_checkInvariants b) fun _ => rt ())) P X C
  rw [e6]
  refine bn0_i (p_expand h (by omega) hc fun C' o4' z u br y1 y2 y3 y4 y5 y6 y7 y8 y9 y10 y11 => ?_)
  refine ⟨z, y1, ?_⟩
  have hin : vp_in (nI (n / 64)) (sL C' 34 z) := nI_in (by omega) (by omega)
  refine ⟨hin, hin, ?_⟩
  have hcl : (nI (n / 64)).toNatClampNeg = n / 64 := nI_clamp (by omega)
  rw [hcl]
  simp only [f_J18_checkInvariants, bn0, bnd, cnd, rt]
  refine ⟨fun q => absurd q (by decide), fun _ => ⟨fun q => absurd q (by decide), fun _ => ⟨fun q => absurd q (by decide), fun _ => ?_⟩⟩⟩
  refine k _ o4' (br.tr (BR.wG C' o4' (n / 64) _ y3)) ⟨z, u, y1, y2, y3, y4, y6, y7, y8, y9, fun k hk hk2 => ?_, fun k => ?_⟩
  · show up3 (sG C') 34 z (n / 64) _ 34 z k = 0
    rw [up3_k (by omega)]; exact y10 k hk hk2
  · show up1 bits n true k = (decide (k / 64 < u) && (up3 (sG C') 34 z (n / 64) _ 34 z (k / 64)).toBitVec.getLsbD (k % 64))
    by_cases s : k / 64 = n / 64
    · rw [s, up3_s, bt_or _ hn, decide_eq_true y5, Bool.true_and]
      by_cases s2 : k = n
      · subst s2; rw [up1_s]; simp
      · rw [up1_n s2, y11 k, s, decide_eq_true y5, Bool.true_and, decide_eq_false (show ¬ k % 64 = n % 64 by omega), Bool.or_false]
    · rw [up3_k s, up1_n (fun q => s (by rw [q]))]; exact y11 k
def h_J18_set (b : Nat) (x : Int32) : PV Unit := fun P _ v => ∃ n, (x = nI n ∧ n < 128 ∧ b < vK v 14 ∧ 3 ≤ vb v) ∧ P () (uBs v b (up1 (vB v b) n true) 3)
theorem s_J18_set (b : Nat) (x : Int32) : Sim (h_J18_set b x) (f_J18_set b x) := fun P' X' v P X C w hP hX h => by
  obtain ⟨n, ⟨rfl, hn, hb, hv⟩, h⟩ := h
  have w3 := w.2.2.1
  obtain ⟨o5, o4, o6, j⟩ := w.jo
  exact p_set (j.2.1 b (by rw [w.2.1 14 rfl]; exact hb)) hn (by omega) fun C' o4' br hn => hP _ _ _ (w.br j br hn (Nat.le_refl _)) h
/-- after a clearing: the words in use are counted anew -/
theorem p_recalc {C : St} {b z w : Nat} {P : Unit → St → Prop} {X : String → St → Prop} (z1 : sN C 14 b 0 = idc 34 z) (z4 : sM C 14 b 1 = nI w) (z5 : w ≤ sL C 34 z) (z6 : sL C 34 z ≤ 2)
    (k : ∀ u, u ≤ w → (∀ k, u ≤ k → k < w → sG C 34 z k = 0) → P () (wM C 14 b 1 (nI u))) : f_J18_recalculateWordsInUse b P X C := by
  unfold f_J18_recalculateWordsInUse
  show (lp _ (sM C 14 b 1 - 1)) P X C
  rw [z4]
  have key : ∀ u, u ≤ w → (∀ k, u ≤ k → k < w → sG C 34 z k = 0) → lpN (σ := Int32) (fun r3 => fun u2 => jo (σ := Int32) (fun u4 => pI 14 b 1 (u4 + (1 : Int32)) <| rt ()) fun j6 => cnd (u2 < 0) (j6 u2) (gR 14 b 0 fun v8 => isK 34 v8 fun i9 => aJ 34 i9 u2 fun v11 => cnd ((lg_cmp v11 (0 : Int64)) = 0) (r3 (u2 + (-1 : Int32))) (j6 u2))) (u + 1) (nI u - 1) P X C := by
    intro u
    induction u with
    | zero =>
      intro hu hz
      show cnd _ _ _ P X C
      refine cnd_i (fun _ => ?_) fun q => absurd (by decide +kernel) q
      have e : nI 0 - 1 + 1 = nI 0 := by decide +kernel
      show P () (wM C 14 b 1 (nI 0 - 1 + 1))
      rw [e]
      exact k 0 hu hz
    | succ u ih =>
      intro hu hz
      have e : nI (u + 1) - 1 = nI u := by
        rw [show (1 : Int32) = nI 1 from by decide +kernel, nI_subN (by omega)]
        congr 1
      rw [e]
      refine cnd_i (fun q => absurd q (nI_pos (by omega))) fun _ => ⟨z, z1, nI_in (by omega) (by omega), ?_⟩
      rw [nI_clamp (by omega)]
      refine cnd_i (fun q => ?_) fun q => ?_
      · have q0 := (lc_0 _).mp q
        show (lpN _ (u + 1) (nI u + -1)) P X C
        have e2 : nI u + -1 = nI u - 1 := by rw [Int32.sub_eq_add_neg]
        rw [e2]
        refine ih (by omega) fun k hk hk2 => ?_
        by_cases s : k = u
        · subst s; exact q0
        · exact hz k (by omega) hk2
      · show P () (wM C 14 b 1 (nI u + 1))
        rw [nI_1]
        exact k (u + 1) hu hz
  exact ⟨w + 1, key w (Nat.le_refl _) fun k h1 h2 => by omega⟩
def h_J18_clear (b : Nat) (x : Int32) : PV Unit := fun P _ v => ∃ n, (x = nI n ∧ n < 128 ∧ b < vK v 14) ∧ P () (uBs v b (up1 (vB v b) n false) 0)
theorem s_J18_clear (b : Nat) (x : Int32) : Sim (h_J18_clear b x) (f_J18_clear b x) := fun P' X' v P X C w hP hX h => by
  obtain ⟨n, ⟨rfl, hn, hb⟩, h⟩ := h
  have e0 : (0 : Int32) ≤ nI n := by
    have : ∀ n : Fin 128, (0 : Int32) ≤ nI n.1 := by decide +kernel
    exact this ⟨n, hn⟩
  have e6 : nI n >>> ((6 : Int32) &&& 31) = nI (n / 64) := bt_w ⟨n, hn⟩
  obtain ⟨o5, o4, o6, j⟩ := w.jo
  obtain ⟨z, u, z1, z2, z3, z4, z5, z6, z7, z8, z9, z10⟩ := j.2.1 b (by rw [w.2.1 14 rfl]; exact hb)
  unfold f_J18_clear
  refine cnd_i (fun _ => ?_) (fun q => absurd e0 q)
  show cnd (nI n >>> ((6 : Int32) &&& 31) < sM C 14 b 1) _ _ P X C
  rw [e6, z4]
  refine cnd_i (fun q => ?_) fun q => ?_
  · have hu : n / 64 < u := by
      rcases Nat.lt_or_ge (n / 64) u with r | r
      · exact r
      · exact absurd q (nI_nlt r (by omega))
    refine ⟨z, z1, ?_⟩
    have hin : vp_in (nI (n / 64)) (sL C 34 z) := nI_in (by omega) (by omega)
    refine ⟨hin, hin, ?_⟩
    have hcl : (nI (n / 64)).toNatClampNeg = n / 64 := nI_clamp (by omega)
    rw [hcl]
    refine bn0_i ?_
    generalize hx : sG C 34 z (n / 64) &&& (((1 : Int64) <<< ((nI n).toInt64 &&& 63)) ^^^ (-1 : Int64)) = x
    refine p_recalc (C := wG C 34 z (n / 64) x) (z := z) (w := u) z1 z4 z5 z6 fun t ht hz => ?_
    simp only [f_J18_checkInvariants, bn0, bnd, cnd, rt]
    refine ⟨fun q => absurd q (by decide), fun _ => ⟨fun q => absurd q (by decide), fun _ => ⟨fun q => absurd q (by decide), fun _ => ?_⟩⟩⟩
    refine hP _ _ _ (w.br j ((BR.wG C o4 (n / 64) x z3).tr (BR.wM _ o4 b 1 (nI t))) ⟨z, t, z1, z2, z3, up3_s, ?_, z6, ?_, z8, fun k hk hk2 => ?_, fun k => ?_⟩ (Nat.le_refl _)) h
    · show t ≤ sL C 34 z; omega
    · show up3 (sM C) 14 b 1 (nI t) 14 b 2 = 0
      rw [up3_k (by decide)]; exact z7
    · by_cases s : k < u
      · exact hz k hk s
      · show up3 (sG C) 34 z (n / 64) x 34 z k = 0
        rw [up3_k (by omega)]; exact z9 k (by omega) hk2
    · show up1 (vB v b) n false k = (decide (k / 64 < t) && (up3 (sG C) 34 z (n / 64) x 34 z (k / 64)).toBitVec.getLsbD (k % 64))
      have m : up1 (vB v b) n false k = (decide (k / 64 < u) && (up3 (sG C) 34 z (n / 64) x 34 z (k / 64)).toBitVec.getLsbD (k % 64)) := by
        by_cases s : k / 64 = n / 64
        · rw [s, up3_s, ← hx, bt_clr _ hn (by omega), decide_eq_true hu, Bool.true_and]
          by_cases s2 : k = n
          · subst s2; rw [up1_s]; simp
          · rw [up1_n s2, z10 k, s, decide_eq_true hu, Bool.true_and, decide_eq_false (show ¬ k % 64 = n % 64 by omega)]; simp
        · rw [up3_k s, up1_n (fun q => s (by rw [q]))]; exact z10 k
      rw [m]
      by_cases s : k / 64 < t
      · rw [decide_eq_true s, decide_eq_true (by omega)]
      · rw [decide_eq_false s]
        by_cases s2 : k / 64 < u
        · have := hz (k / 64) (by omega) s2
          have e : up3 (sG C) 34 z (n / 64) x 34 z (k / 64) = 0 := this
          rw [e]; simp
        · rw [decide_eq_false s2]
  · have hu : u ≤ n / 64 := by
      rcases Nat.lt_or_ge (n / 64) u with r | r
      · exact absurd (nI_lt r (by omega)) q
      · exact r
    refine hP _ _ _ (w.br j (BR.rf C o4 b) ⟨z, u, z1, z2, z3, z4, z5, z6, z7, z8, z9, fun k => ?_⟩ (Nat.le_refl _)) h
    by_cases s2 : k = n
    · subst s2; rw [up1_s, decide_eq_false (by omega)]; rfl
    · rw [up1_n s2]; exact z10 k
def h_J18_set_2 (b : Nat) (x y : Int32) : PV Unit := fun P _ v => ∃ n, (x = nI n ∧ n < 128 ∧ b < vK v 14 ∧ (¬ y = 0 → 3 ≤ vb v)) ∧ P () (uBs v b (up1 (vB v b) n (decide (¬ y = 0))) (if y = 0 then 0 else 3))
theorem s_J18_set_2 (b : Nat) (x y : Int32) : Sim (h_J18_set_2 b x y) (f_J18_set_2 b x y) := fun P' X' v P X C w hP hX h => by
  obtain ⟨n, ⟨rfl, hn, hb, hv⟩, h⟩ := h
  refine cnd_i (fun q => bn0_i ?_) fun q => bn0_i ?_
  · rw [if_pos q, decide_eq_false (fun r => r q)] at h
    exact s_J18_clear b (nI n) P' (fun _ _ => False) v (fun r C' => P () C') (fun _ _ => False) C w (fun r v' C' w' h' => hP () v' C' w' h') (fun E v' C' w' h' => h') ⟨n, ⟨rfl, hn, hb⟩, h⟩
  · rw [if_neg q, decide_eq_true q] at h
    exact s_J18_set b (nI n) P' (fun _ _ => False) v (fun r C' => P () C') (fun _ _ => False) C w (fun r v' C' w' h' => hP () v' C' w' h') (fun E v' C' w' h' => h') ⟨n, ⟨rfl, hn, hb, hv q⟩, h⟩
