/-! ===== the two walks over linked lists ===== -/
theorem WF.it {C C' : St} {v : Vw} {d : Nat} (w : WF C v) (h : ∀ K, K ≠ 18 → K ≠ 19 → sM C' K = sM C K ∧ sN C' K = sN C K ∧ sG C' K = sG C K ∧ sL C' K = sL C K ∧ sK C' K = sK C K) (hc : sC C ≤ sC C' + d ∧ sS C ≤ sS C' + d) : WF C' (ub v d) := by
  obtain ⟨w1, w2, w3, j⟩ := w
  refine ⟨fun K m => ?_, fun K m => ?_, ?_, j.same (fun K m => ?_) ⟨rfl, rfl, rfl, rfl, rfl, rfl⟩⟩
  · have n18 : K ≠ 18 := fun q => by subst q; cases m
    have n19 : K ≠ 19 := fun q => by subst q; cases m
    obtain ⟨x1, x2, x3, x4, x5⟩ := h K n18 n19
    obtain ⟨p1, p2, p3⟩ := w1 K m
    exact ⟨x1.trans p1, x2.trans p2, x4.trans p3⟩
  · have n18 : K ≠ 18 := fun q => by subst q; cases m
    have n19 : K ≠ 19 := fun q => by subst q; cases m
    rw [(h K n18 n19).2.2.2.2]; exact w2 K m
  · show vb v - d ≤ _ ∧ vb v - d ≤ _
    omega
  · have n18 : K ≠ 18 := fun q => by subst q; cases m
    have n19 : K ≠ 19 := fun q => by subst q; cases m
    exact h K n18 n19
/-- nothing but iterators changed -/
def IT (C C' : St) : Prop := ∀ K, K ≠ 18 → K ≠ 19 → sM C' K = sM C K ∧ sN C' K = sN C K ∧ sG C' K = sG C K ∧ sL C' K = sL C K ∧ sK C' K = sK C K
theorem IT.tr {C C' C2 : St} (h : IT C C') (h' : IT C' C2) : IT C C2 := fun K k1 k2 => by
  obtain ⟨x1, x2, x3, x4, x5⟩ := h K k1 k2
  obtain ⟨y1, y2, y3, y4, y5⟩ := h' K k1 k2
  exact ⟨y1.trans x1, y2.trans x2, y3.trans x3, y4.trans x4, y5.trans x5⟩
theorem IT.pM (C : St) {K0 : Nat} (i j : Nat) (x : Int32) (h : K0 = 18 ∨ K0 = 19) : IT C (wM C K0 i j x) := fun K k1 k2 => ⟨up3_o (by omega), rfl, rfl, rfl, rfl⟩
theorem IT.pN (C : St) {K0 : Nat} (i j : Nat) (x : Nat) (h : K0 = 18 ∨ K0 = 19) : IT C (wN C K0 i j x) := fun K k1 k2 => ⟨rfl, up3_o (by omega), rfl, rfl, rfl⟩
theorem IT.pk (C : St) {K0 : Nat} (n : Nat) (h : K0 = 18 ∨ K0 = 19) : IT C (mk C K0 n) := fun K k1 k2 => ⟨row3_o (by omega), row3_o (by omega), row3_o (by omega), up2_o (by omega), up1_n (by omega)⟩
/-- a box's value -/
def bxv (v : Vw) (x : Nat) : Int32 := if x % 64 = 20 then vM v 20 (x / 64) 0 else vb_c (x / 64)
def wrc (now : Int32) : List Int32 → Nat → Nat
  | _, 0 => 0
  | [], _ + 1 => 0
  | x :: t, k + 1 => if 60 ≤ now - x then 0 else wrc now t k + 1
def h_X3_wrongsOfHour (i0 : Nat) : PV Int32 := fun P _ v => ∃ l c, (vN v 2 i0 9 = idc 15 l ∧ l < vK v 15 ∧ vN v 2 i0 10 = idc 0 c ∧ 10 ≤ vb v ∧ ∀ x, x ∈ vW v l → isB x) ∧ P (nI (wrc (vM v 0 c 16) ((vW v l).reverse.map (bxv v)) 3)) (ub v 10)
theorem rev_at {l : List Nat} {t : Nat} (h : t < l.length) : l.reverse.drop t = l.getD (l.length - 1 - t) 0 :: l.reverse.drop (t + 1) := by
  have h2 : t < l.reverse.length := by rw [List.length_reverse]; exact h
  rw [List.drop_eq_getElem_cons h2, List.getElem_reverse, List.getD_eq_getElem?_getD, List.getElem?_eq_getElem (by omega)]
  rfl
theorem sN_wM {C : St} {K i j : Nat} {x : Int32} : sN (wM C K i j x) = sN C := rfl
theorem sM_wM {C : St} {K i j : Nat} {x : Int32} : sM (wM C K i j x) = up3 (sM C) K i j x := rfl
theorem p_hasPrev {C : St} {b : Nat} {P : Int32 → St → Prop} {X : String → St → Prop} (k : P (if sM C 19 b 2 ≤ 0 then 0 else 1) C) : f_J29_hasPrevious b P X C := by
  unfold f_J29_hasPrevious
  refine gI_i (cnd_i (fun q => asr_i (Or.inl rfl) (rt_i ?_)) fun q => asr_i (Or.inr rfl) (rt_i ?_))
  · rw [if_pos q] at k; exact k
  · rw [if_neg q] at k; exact k
theorem p_prev {C : St} {l b nd x : Nat} {P : Nat → St → Prop} {X : String → St → Prop} (z2 : sN C 19 b 4 = idc 15 l) (z3 : sM C 19 b 3 = sM C 15 l 0) (z4 : ¬ sM C 19 b 2 ≤ 0) (hn : (sN C 19 b 1 = nul ∧ sN C 15 l 3 = idc 16 nd) ∨ ∃ q, sN C 19 b 1 = idc 16 q ∧ sN C 16 q 2 = idc 16 nd) (hx : sN C 16 nd 0 = x)
    (k : P x (wM (wN (wN C 19 b 1 (idc 16 nd)) 19 b 0 (idc 16 nd)) 19 b 2 (sM C 19 b 2 - 1))) : f_J29_previous b P X C := by
  unfold f_J29_previous
  refine bn0_i ?_
  unfold f_J29_checkForComodification
  refine gR_i (isK_i z2 (gI_i (gI_i (cnd_i (fun _ => rt_i (bn0_i (p_hasPrev ?_))) fun q => absurd z3.symm q))))
  rw [if_neg z4]
  refine cnd_i (fun q => absurd q (by decide)) fun _ => gR_i (bnd_i ?_)
  have rest : ∀ nx, nx = idc 16 nd → (pR 19 b 1 nx <| pR 19 b 0 nx <| gI 19 b 2 fun v6 => pI 19 b 2 (v6 - (1 : Int32)) <| gR 19 b 0 fun v7 => isK 16 v7 fun i8 => gR 16 i8 0 fun v10 => rt (ρ := Nat) v10) P X C := by
    intro nx hnx
    subst hnx
    refine pR_i (pR_i (gI_i ?_))
    rw [sM_wN, sM_wN]
    refine pI_i (gR_i (isK_i (i := nd) ?_ (gR_i (rt_i ?_))))
    · rw [sN_wM, sN_wN, up3_s]
    · rw [sN_wM, sN_wN, sN_wN, up3_o (by decide), up3_o (by decide), hx]
      exact k
  refine cnd_i (fun q2 => ?_) fun q2 => ?_
  · rcases hn with ⟨h1, h2⟩ | ⟨q, h1, h2⟩
    · exact gR_i (isK_i z2 (gR_i (rt_i (rest _ h2))))
    · rw [h1] at q2; exact absurd q2 (idc_nn (by decide))
  · rcases hn with ⟨h1, h2⟩ | ⟨q, h1, h2⟩
    · exact absurd h1 q2
    · exact gR_i (isK_i h1 (gR_i (rt_i (rest _ h2))))
def wF (i0 a : Nat) : (Int32 → PT Int32) → Int32 → PT Int32 := fun r6 => fun u5 => cnd ((3 : Int32) ≤ u5) (rt u5) (isK 18 (idc 18 a) fun i8 => bn0 (f_J28_hasNext i8) fun v10 => cnd (v10 = 0) (rt u5) (gR 2 i0 10 fun v12 => isK 0 v12 fun i13 => gI 0 i13 16 fun v15 => bn0 (f_J28_next i8) fun v16 => asr (isB v16) <| asr (isB v16) <| bn0 (f_J17_intValue v16) fun v18 => cnd ((60 : Int32) ≤ (v15 - v18)) (rt u5) (r6 (u5 + (1 : Int32)))))
/-- an iterator over a list from its end -/
theorem p_desc {C : St} {l n : Nat} {P : Nat → St → Prop} {X : String → St → Prop} (h3 : sM C 15 l 1 = nI n) (hc : 10 ≤ sC C ∧ 10 ≤ sS C) (k : ∀ a b C', IT C C' → sN C' 18 a 0 = idc 19 b → sN C' 19 b 4 = idc 15 l → sM C' 19 b 3 = sM C 15 l 0 → sM C' 19 b 2 = nI n → sN C' 19 b 1 = nul → sC C ≤ sC C' + 10 ∧ sS C ≤ sS C' + 10 → P (idc 18 a) C') : f_J20_descendingIterator l P X C := by
  unfold f_J20_descendingIterator
  refine nw_i ⟨by omega, by omega⟩ (bn0_i ?_)
  generalize ha : sK C 18 = a
  unfold f_J28_init
  refine pR_i ?_
  have t1 : IT C (wN (mk C 18 2) 18 a 1 (idc 15 l)) := (IT.pk C 2 (Or.inl rfl)).tr (IT.pN _ a 1 _ (Or.inl rfl))
  have q1 : sN (wN (mk C 18 2) 18 a 1 (idc 15 l)) 18 a 1 = idc 15 l := by rw [sN_wN, up3_s]
  have q2 : sC (wN (mk C 18 2) 18 a 1 (idc 15 l)) = sC C - 1 := rfl
  have q3 : sS (wN (mk C 18 2) 18 a 1 (idc 15 l)) = sS C - 2 := rfl
  generalize wN (mk C 18 2) 18 a 1 (idc 15 l) = C1 at t1 q1 q2 q3 ⊢
  refine nw_i ⟨by omega, by omega⟩ ?_
  generalize sK C1 19 = b
  have t2 : IT C1 (mk C1 19 5) := IT.pk C1 5 (Or.inr rfl)
  have r1 : sN (mk C1 19 5) 18 = sN C1 18 := by
    show row3 (sN C1) 19 (sK C1 19) (fun _ => nul) 18 = _
    exact row3_o (by decide)
  have r2 : sC (mk C1 19 5) = sC C1 - 1 := rfl
  have r3 : sS (mk C1 19 5) = sS C1 - 5 := rfl
  generalize mk C1 19 5 = C2 at t2 r1 r2 r3 ⊢
  have e1 : sN C2 18 a 1 = idc 15 l := by rw [r1]; exact q1
  have t12 := t1.tr t2
  obtain ⟨y1, y2, y3, y4, y5⟩ := t12 15 (by decide) (by decide)
  refine gR_i (gR_i (isK_i e1 (bn0_i ?_)))
  unfold f_J20_size
  refine gI_i (rt_i (bn0_i ?_))
  rw [e1, y1, h3]
  unfold f_J29_init
  refine pR_i (gR_i (isK_i (i := l) ?_ (gI_i (pI_i (isK_i rfl (gI_i (bnd_i ?_)))))))
  · rw [sN_wN, up3_s]
  · rw [sM_wN, y1]
    have t3 : IT C (wM (wN C2 19 b 4 (idc 15 l)) 19 b 3 (sM C 15 l 0)) := (t12.tr (IT.pN C2 b 4 _ (Or.inr rfl))).tr (IT.pM _ b 3 _ (Or.inr rfl))
    have u1 : sM (wM (wN C2 19 b 4 (idc 15 l)) 19 b 3 (sM C 15 l 0)) 19 b 3 = sM C 15 l 0 := by rw [sM_wM, up3_s]
    have u2 : sN (wM (wN C2 19 b 4 (idc 15 l)) 19 b 3 (sM C 15 l 0)) 19 b 4 = idc 15 l := by rw [sN_wM, sN_wN, up3_s]
    have u3 : sC (wM (wN C2 19 b 4 (idc 15 l)) 19 b 3 (sM C 15 l 0)) = sC C2 := rfl
    have u4 : sS (wM (wN C2 19 b 4 (idc 15 l)) 19 b 3 (sM C 15 l 0)) = sS C2 := rfl
    generalize wM (wN C2 19 b 4 (idc 15 l)) 19 b 3 (sM C 15 l 0) = C3 at t3 u1 u2 u3 u4 ⊢
    refine cnd_i (fun _ => rt_i (pR_i (pI_i (rt_i (pR_i (rt_i (rt_i ?_))))))) fun q => absurd (by rw [(t3 15 (by decide) (by decide)).1, h3]) q
    refine k a b _ (((t3.tr (IT.pN C3 b 1 nul (Or.inr rfl))).tr (IT.pM _ b 2 _ (Or.inr rfl))).tr (IT.pN _ a 0 _ (Or.inl rfl))) ?_ ?_ ?_ ?_ ?_ ⟨?_, ?_⟩
    · rw [sN_wN, up3_s]
    · rw [sN_wN, up3_o (by decide), sN_wM, sN_wN, up3_k (by decide)]; exact u2
    · rw [sM_wN, sM_wM, up3_k (by decide), sM_wN]; exact u1
    · rw [sM_wN, sM_wM, up3_s]
    · rw [sN_wN, up3_o (by decide), sN_wM, sN_wN, up3_s]
    · show sC C ≤ sC C3 + 10; omega
    · show sS C ≤ sS C3 + 10; omega
theorem s_X3_wrongsOfHour (i0 : Nat) : Sim (h_X3_wrongsOfHour i0) (f_X3_wrongsOfHour i0) := fun P' X' v P X C w hP hX h => by
  obtain ⟨l, c, ⟨hl, hl15, hc, hv, hbx⟩, h⟩ := h
  have w0 := w
  obtain ⟨w1, w2, w3, o5, o4, o6, j1, j2, j3, j4, j5⟩ := w
  obtain ⟨ns, h1, h2, h3, h4, h5, h6⟩ := LL_iff.mp (j3 l (by rw [w2 15 rfl]; exact hl15))
  obtain ⟨x1, x2, x3⟩ := w1 2 rfl
  have hl' : sN C 2 i0 9 = idc 15 l := by rw [x2]; exact hl
  have hc' : sN C 2 i0 10 = idc 0 c := by rw [x2]; exact hc
  have hnow : sM C 0 c 16 = vM v 0 c 16 := by rw [(w1 0 rfl).1]
  generalize hxs : vW v l = xs at h h1 h2 h3 h4 h5 h6 hbx
  unfold f_X3_wrongsOfHour
  refine gR_i (isK_i hl' (bn0_i (p_desc h3 (by omega) fun a b C4 t4 z1 z2 z3 z4 z5 z6 => ?_)))
  show lp (wF i0 a) (0 : Int32) P X C4
  have hg : ∀ C', IT C C' → sC C ≤ sC C' + 10 ∧ sS C ≤ sS C' + 10 → P (nI (wrc (vM v 0 c 16) (xs.reverse.map (bxv v)) 3)) C' := fun C' t hc => hP _ _ _ (w0.it t hc) h
  have key : ∀ k t C', k + t = 3 → t ≤ xs.length → IT C C' → sN C' 18 a 0 = idc 19 b → sN C' 19 b 4 = idc 15 l → sM C' 19 b 3 = sM C 15 l 0 → sM C' 19 b 2 = nI (xs.length - t) → sN C' 19 b 1 = (if t = 0 then nul else idc 16 (ns.getD (xs.length - t) 0)) → sC C ≤ sC C' + 10 ∧ sS C ≤ sS C' + 10 → wrc (vM v 0 c 16) (xs.reverse.map (bxv v)) 3 = t + wrc (vM v 0 c 16) ((xs.reverse.drop t).map (bxv v)) k →
      lpN (wF i0 a) (k + 1) (nI t) P X C' := by
    intro k
    induction k with
    | zero =>
      intro t C' hk ht it z1 z2 z3 z4 z5 z6 hw
      show wF i0 a (lpN (wF i0 a) 0) (nI t) P X C'
      unfold wF
      refine cnd_i (fun _ => rt_i ?_) fun q => absurd (by rw [show t = 3 by omega]; decide +kernel) q
      have e : wrc (vM v 0 c 16) ((xs.reverse.drop t).map (bxv v)) 0 = 0 := by cases (xs.reverse.drop t).map (bxv v) <;> rfl
      rw [e, Nat.add_zero] at hw
      rw [← hw]
      exact hg C' it z6
    | succ k ih =>
      intro t C' hk ht it z1 z2 z3 z4 z5 z6 hw
      have h3' : (3 : Int32) = nI 3 := by decide +kernel
      show wF i0 a (lpN (wF i0 a) (k + 1)) (nI t) P X C'
      generalize hL : lpN (wF i0 a) (k + 1) = L at ih ⊢
      unfold wF
      refine cnd_i (fun q => absurd q (by rw [h3']; exact nI_ge (by omega) (by decide))) fun _ => isK_i rfl (bn0_i ?_)
      unfold f_J28_hasNext
      refine gR_i (isK_i z1 (bn0_i (p_hasPrev ?_)))
      rw [z4]
      by_cases q : nI (xs.length - t) ≤ 0
      · rw [if_pos q]
        refine asr_i (Or.inl rfl) (rt_i (cnd_i (fun _ => rt_i ?_) fun q => absurd rfl q))
        have hl0 : xs.length - t = 0 := by
          rcases Nat.eq_zero_or_pos (xs.length - t) with r | r
          · exact r
          · exact absurd q (nI_nle r (by omega))
        have e : wrc (vM v 0 c 16) ((xs.reverse.drop t).map (bxv v)) (k + 1) = 0 := by
          rw [List.drop_eq_nil_of_le (by rw [List.length_reverse]; omega)]; rfl
        rw [e, Nat.add_zero] at hw
        rw [← hw]
        exact hg C' it z6
      · rw [if_neg q]
        refine asr_i (Or.inr rfl) (rt_i (cnd_i (fun q => absurd q (by decide)) fun _ => ?_))
        have hpos : 0 < xs.length - t := by
          rcases Nat.eq_zero_or_pos (xs.length - t) with r | r
          · exact absurd (by rw [r]; exact nI_le (Nat.le_refl 0) (by decide)) q
          · exact r
        obtain ⟨i1, i2, i3, i4, i5⟩ := it 2 (by decide) (by decide)
        have hnow' : sM C' 0 c 16 = vM v 0 c 16 := by rw [(it 0 (by decide) (by decide)).1]; exact hnow
        obtain ⟨k1, k2, k3, k4, k5⟩ := it 15 (by decide) (by decide)
        obtain ⟨n1, n2, n3, n4, n5⟩ := it 16 (by decide) (by decide)
        refine gR_i (isK_i (by rw [i2]; exact hc') (gI_i (bn0_i ?_)))
        rw [hnow']
        unfold f_J28_next
        refine gR_i (isK_i z1 (bn0_i ?_))
        obtain ⟨m1, m2, m3, m4, m5, m6⟩ := h6 (xs.length - 1 - t) (by omega)
        generalize hnd : ns.getD (xs.length - 1 - t) 0 = nd at m1 m2 m3 m4 m5 m6
        have hdrop : xs.reverse.drop t = xs.getD (xs.length - 1 - t) 0 :: xs.reverse.drop (t + 1) := rev_at (by omega)
        generalize hit : xs.getD (xs.length - 1 - t) 0 = x at hdrop m4
        have hmem : x ∈ xs := by
          have : x ∈ xs.reverse.drop t := by rw [hdrop]; exact List.mem_cons_self
          exact List.mem_reverse.mp (List.mem_of_mem_drop this)
        have hB := hbx x hmem
        refine p_prev (l := l) (nd := nd) (x := x) z2 (by rw [k1]; exact z3) (by rw [z4]; exact q) ?_ (by rw [n2]; exact m4) (rt_i ?_)
        · by_cases ht0 : t = 0
          · refine Or.inl ⟨by rw [z5, if_pos ht0], ?_⟩
            rw [k2, h5, if_neg (by omega), ← hnd, ht0, Nat.sub_zero]
          · obtain ⟨p1, p2, p3, p4, p5, p6⟩ := h6 (xs.length - t) (by omega)
            refine Or.inr ⟨ns.getD (xs.length - t) 0, by rw [z5, if_neg ht0], ?_⟩
            rw [n2, p6, if_neg (by omega), ← hnd, show xs.length - t - 1 = xs.length - 1 - t by omega]
        have t5 : IT C' (wM (wN (wN C' 19 b 1 (idc 16 nd)) 19 b 0 (idc 16 nd)) 19 b 2 (sM C' 19 b 2 - 1)) := ((IT.pN C' b 1 _ (Or.inr rfl)).tr (IT.pN _ b 0 _ (Or.inr rfl))).tr (IT.pM _ b 2 _ (Or.inr rfl))
        have s2 : sN (wM (wN (wN C' 19 b 1 (idc 16 nd)) 19 b 0 (idc 16 nd)) 19 b 2 (sM C' 19 b 2 - 1)) 18 a 0 = idc 19 b := by rw [sN_wM, sN_wN, sN_wN, up3_o (by decide), up3_o (by decide)]; exact z1
        have s3 : sN (wM (wN (wN C' 19 b 1 (idc 16 nd)) 19 b 0 (idc 16 nd)) 19 b 2 (sM C' 19 b 2 - 1)) 19 b 4 = idc 15 l := by rw [sN_wM, sN_wN, sN_wN, up3_k (by decide), up3_k (by decide)]; exact z2
        have s4 : sM (wM (wN (wN C' 19 b 1 (idc 16 nd)) 19 b 0 (idc 16 nd)) 19 b 2 (sM C' 19 b 2 - 1)) 19 b 3 = sM C 15 l 0 := by rw [sM_wM, up3_k (by decide), sM_wN, sM_wN]; exact z3
        have s5 : sM (wM (wN (wN C' 19 b 1 (idc 16 nd)) 19 b 0 (idc 16 nd)) 19 b 2 (sM C' 19 b 2 - 1)) 19 b 2 = nI (xs.length - (t + 1)) := by rw [sM_wM, up3_s, z4, show xs.length - t = (xs.length - (t + 1)) + 1 by omega, nI_pred]
        have s6 : sN (wM (wN (wN C' 19 b 1 (idc 16 nd)) 19 b 0 (idc 16 nd)) 19 b 2 (sM C' 19 b 2 - 1)) 19 b 1 = idc 16 nd := by rw [sN_wM, sN_wN, sN_wN, up3_k (by decide), up3_s]
        have s7 : sC (wM (wN (wN C' 19 b 1 (idc 16 nd)) 19 b 0 (idc 16 nd)) 19 b 2 (sM C' 19 b 2 - 1)) = sC C' := rfl
        have s8 : sS (wM (wN (wN C' 19 b 1 (idc 16 nd)) 19 b 0 (idc 16 nd)) 19 b 2 (sM C' 19 b 2 - 1)) = sS C' := rfl
        generalize wM (wN (wN C' 19 b 1 (idc 16 nd)) 19 b 0 (idc 16 nd)) 19 b 2 (sM C' 19 b 2 - 1) = C5 at t5 s2 s3 s4 s5 s6 s7 s8 ⊢
        refine asr_i hB (asr_i hB (bn0_i ?_))
        have fin : cnd ((60 : Int32) ≤ (vM v 0 c 16 - bxv v x)) (rt (nI t)) (L (nI t + 1)) P X C5 := by
          rw [hdrop] at hw
          refine cnd_i (fun q => rt_i ?_) fun q => ?_
          · have e : wrc (vM v 0 c 16) ((x :: xs.reverse.drop (t + 1)).map (bxv v)) (k + 1) = 0 := if_pos q
            rw [e, Nat.add_zero] at hw
            rw [← hw]
            exact hg C5 (it.tr t5) ⟨by omega, by omega⟩
          · rw [nI_1]
            have e : wrc (vM v 0 c 16) ((x :: xs.reverse.drop (t + 1)).map (bxv v)) (k + 1) = wrc (vM v 0 c 16) ((xs.reverse.drop (t + 1)).map (bxv v)) k + 1 := if_neg q
            rw [e] at hw
            exact ih (t + 1) C5 (by omega) (by omega) (it.tr t5) s2 s3 s4 s5 (by rw [if_neg (by omega), s6, ← hnd, show xs.length - (t + 1) = xs.length - 1 - t by omega]) ⟨by omega, by omega⟩ (by omega)
        have e20 : sM C5 20 = vM v 20 := by rw [((it.tr t5) 20 (by decide) (by decide)).1]; exact (w1 20 rfl).1
        unfold f_J17_intValue
        rcases hB with r | ⟨r1, r2⟩
        · refine Or.inl ⟨x / 64, by rw [← r]; exact (idc_of x).symm, rt_i ?_⟩
          have e : sM C5 20 (x / 64) 0 = bxv v x := by unfold bxv; rw [if_pos r, e20]
          rw [e]; exact fin
        · refine Or.inr ⟨⟨r1, r2⟩, rt_i ?_⟩
          have e : vb_c (x / 64) = bxv v x := by unfold bxv; rw [if_neg (by omega)]
          rw [e]; exact fin
  rw [← nI_0]
  refine ⟨4, key 3 0 C4 rfl (Nat.zero_le _) t4 z1 z2 z3 z4 (by rw [if_pos rfl]; exact z5) z6 ?_⟩
  rw [Nat.zero_add]; rfl
