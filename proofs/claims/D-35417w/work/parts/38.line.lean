/-! ===== the walk that empties a linked list ===== -/
theorem gd_s {l : List Nat} {a k d : Nat} : (a :: l).getD (k + 1) d = l.getD k d := by
  rw [List.getD_eq_getElem?_getD, List.getD_eq_getElem?_getD, List.getElem?_cons_succ]
theorem gd_0 {l : List Nat} {a d : Nat} : (a :: l).getD 0 d = a := rfl
/-- the first node taken out -/
theorem p_unlink {C : St} {o6 : Nat → Nat} {l nd x : Nat} {ns tl : List Nat} {P : Nat → St → Prop} {X : String → St → Prop} (h : LLi C o6 l (nd :: ns) (x :: tl))
    (k : ∀ C', LR C C' o6 o6 l 0 → LLi C' o6 l ns tl → sM C' 15 l 0 = sM C 15 l 0 + 1 → sN C' 19 = sN C 19 → sM C' 19 = sM C 19 → P x C') : f_J20_unlink l (idc 16 nd) P X C := by
  obtain ⟨h1, h2, h3, h4, h5, h6⟩ := h
  have h1' : ns.length = tl.length := by
    rw [List.length_cons, List.length_cons] at h1; omega
  rw [List.length_cons] at h2 h3 h6
  rw [List.length_cons, if_neg (by omega)] at h4 h5
  obtain ⟨a1, a2, a3, a4, a5, a6⟩ := h6 0 (by omega)
  rw [gd_0] at a1 a2 a4 a5 a6
  rw [gd_0] at a4
  rw [if_pos rfl] at a6
  rw [gd_s] at a5
  have nodes : ∀ k, k < tl.length → ns.getD k 0 < sK C 16 ∧ o6 (ns.getD k 0) = l ∧ (∀ k', k' < k → ns.getD k' 0 ≠ ns.getD k 0) ∧ nd ≠ ns.getD k 0 ∧ sN C 16 (ns.getD k 0) 0 = tl.getD k 0 ∧ sN C 16 (ns.getD k 0) 1 = (if k + 1 < tl.length then idc 16 (ns.getD (k + 1) 0) else nul) ∧ (k ≠ 0 → sN C 16 (ns.getD k 0) 2 = idc 16 (ns.getD (k - 1) 0)) := fun k hk => by
    obtain ⟨b1, b2, b3, b4, b5, b6⟩ := h6 (k + 1) (by omega)
    rw [gd_s] at b1 b2 b4 b5 b6
    rw [gd_s] at b4 b5
    refine ⟨b1, b2, fun k' hk' => ?_, ?_, b4, ?_, fun k0 => ?_⟩
    · have := b3 (k' + 1) (by omega)
      rw [gd_s, gd_s] at this; exact this
    · have := b3 0 (by omega)
      rw [gd_0, gd_s] at this; exact this
    · rw [b5]
      by_cases s : k + 1 < tl.length
      · rw [if_pos s, if_pos (by omega)]
      · rw [if_neg s, if_neg (by omega)]
    · obtain ⟨k2, rfl⟩ : ∃ k2, k = k2 + 1 := ⟨k - 1, by omega⟩
      rw [b6, if_neg (by omega), Nat.add_sub_cancel, gd_s, Nat.add_sub_cancel]
  unfold f_J20_unlink
  refine isK_i rfl (gR_i (gR_i (gR_i ?_)))
  rw [a4, a6]
  refine bnd_i (cnd_i (fun _ => pR_i (rt_i (bnd_i ?_))) fun q => absurd rfl q)
  have fin : ∀ C2 y mc, LR C C2 o6 o6 l 0 → sM C2 15 = sM C 15 → sN C2 15 l 2 = (if tl.length = 0 then nul else idc 16 (ns.getD 0 0)) → sN C2 15 l 3 = (if tl.length = 0 then nul else idc 16 (ns.getD (tl.length - 1) 0)) → sK C2 16 = sK C 16 → sN C2 19 = sN C 19 → sM C2 19 = sM C 19 → (∀ k, k < tl.length → (∀ j, j ≠ 2 → sN C2 16 (ns.getD k 0) j = sN C 16 (ns.getD k 0) j) ∧ sN C2 16 (ns.getD k 0) 2 = (if k = 0 then nul else sN C 16 (ns.getD k 0) 2)) →
      y = sM C 15 l 1 - 1 → mc = sM C 15 l 0 + 1 → P x (wM (wM (wN C2 16 nd 0 nul) 15 l 1 y) 15 l 0 mc) := by
    intro C2 y mc lr g1 g2 g3 g4 g5 g6 g7 hy hmc
    rw [h3, nI_pred] at hy
    refine k _ (((lr.tr (LR.pn C2 o6 0 nul a2)).tr (LR.pM _ o6 l 1 y)).tr (LR.pM _ o6 l 0 mc)) ⟨h1', by omega, ?_, ?_, ?_, fun k hk => ?_⟩ ?_ ?_ ?_
    · rw [sM_wM, up3_k (by decide), sM_wM, up3_s]; exact hy
    · rw [sN_wM, sN_wM, sN_wN, up3_o (by decide)]; exact g2
    · rw [sN_wM, sN_wM, sN_wN, up3_o (by decide)]; exact g3
    · obtain ⟨b1, b2, b3, b4, b5, b6, b7⟩ := nodes k hk
      obtain ⟨c1, c2⟩ := g7 k hk
      have hne : ∀ j, up3 (sN C2) 16 nd 0 nul 16 (ns.getD k 0) j = sN C2 16 (ns.getD k 0) j := fun j => up3_n (fun q => b4 q.2.symm)
      rw [sN_wM, sN_wM, sN_wN, hne, hne, hne, c1 0 (by decide), c1 1 (by decide), c2]
      refine ⟨?_, b2, b3, b5, b6, ?_⟩
      · show _ < sK C2 16
        rw [g4]; exact b1
      · by_cases k0 : k = 0
        · rw [if_pos k0, if_pos k0]
        · rw [if_neg k0, if_neg k0]; exact b7 k0
    · rw [sM_wM, up3_s]; exact hmc
    · rw [sN_wM, sN_wM, sN_wN, up3_o (by decide)]; exact g5
    · rw [sM_wM, up3_o (by decide), sM_wM, up3_o (by decide), sM_wN]; exact g6
  by_cases ht : tl.length = 0
  · rw [if_neg (by omega)] at a5
    rw [a5]
    refine cnd_i (fun _ => pR_i (rt_i (pR_i (gI_i (pI_i (gI_i (pI_i (rt_i ?_)))))))) fun q => absurd rfl q
    refine fin (wN (wN C 15 l 2 nul) 15 l 3 nul) _ _ ((LR.pN C o6 l 2 nul).tr (LR.pN _ o6 l 3 nul)) ?_ ?_ ?_ ?_ ?_ ?_ (fun k hk => absurd hk (by omega)) ?_ ?_
    · rw [sM_wN, sM_wN]
    · rw [if_pos ht, sN_wN, up3_k (by decide), sN_wN, up3_s]
    · rw [if_pos ht, sN_wN, up3_s]
    · rw [sK_wN, sK_wN]
    · rw [sN_wN, up3_o (by decide), sN_wN, up3_o (by decide)]
    · rw [sM_wN, sM_wN]
    · rw [sM_wN, sM_wN, sM_wN]
    · rw [sM_wM, up3_k (by decide), sM_wN, sM_wN, sM_wN]
  · rw [if_pos (by omega)] at a5
    rw [a5]
    obtain ⟨b1, b2, b3, b4, b5, b6, b7⟩ := nodes 0 (by omega)
    generalize hn1 : ns.getD 0 0 = n1 at b1 b2 b4 b5 b6
    refine cnd_i (fun q => absurd q (idc_nn (by decide))) fun _ => isK_i rfl (pR_i (pR_i (rt_i (pR_i (gI_i (pI_i (gI_i (pI_i (rt_i ?_)))))))))
    refine fin (wN (wN (wN C 15 l 2 (idc 16 n1)) 16 n1 2 nul) 16 nd 1 nul) _ _ (((LR.pN C o6 l 2 _).tr (LR.pn _ o6 2 nul b2)).tr (LR.pn _ o6 1 nul a2)) ?_ ?_ ?_ ?_ ?_ ?_ (fun k hk => ?_) ?_ ?_
    · rw [sM_wN, sM_wN, sM_wN]
    · rw [if_neg ht, sN_wN, up3_o (by decide), sN_wN, up3_o (by decide), sN_wN, up3_s, hn1]
    · rw [if_neg ht, sN_wN, up3_o (by decide), sN_wN, up3_o (by decide), sN_wN, up3_k (by decide), h5]
      obtain ⟨t, ht2⟩ : ∃ t, tl.length = t + 1 := ⟨tl.length - 1, by omega⟩
      rw [ht2, Nat.add_sub_cancel, gd_s, Nat.add_sub_cancel]
    · rw [sK_wN, sK_wN, sK_wN]
    · rw [sN_wN, up3_o (by decide), sN_wN, up3_o (by decide), sN_wN, up3_o (by decide)]
    · rw [sM_wN, sM_wN, sM_wN]
    · obtain ⟨c1, c2, c3, c4, c5, c6, c7⟩ := nodes k hk
      have e1 : ∀ j, sN (wN (wN (wN C 15 l 2 (idc 16 n1)) 16 n1 2 nul) 16 nd 1 nul) 16 (ns.getD k 0) j = up3 (sN C) 16 n1 2 nul 16 (ns.getD k 0) j := fun j => by
        rw [sN_wN, up3_n (fun q => c4 q.2.symm), sN_wN, sN_wN]
        unfold up3
        simp
      refine ⟨fun j hj => ?_, ?_⟩
      · rw [e1, up3_x (fun q => hj q.2.2)]
      · rw [e1]
        by_cases k0 : k = 0
        · subst k0
          rw [if_pos rfl, hn1, up3_s]
        · rw [if_neg k0, up3_n (fun q => c3 0 (by omega) (by rw [hn1]; exact q.2.symm))]
    · rw [sM_wN, sM_wN, sM_wN, sM_wN]
    · rw [sM_wM, up3_k (by decide), sM_wN, sM_wN, sM_wN, sM_wN]
theorem p_hasNext {C : St} {l b n : Nat} {P : Int32 → St → Prop} {X : String → St → Prop} (z2 : sN C 19 b 4 = idc 15 l) (z4 : sM C 19 b 2 = 0) (hl : sM C 15 l 1 = nI n) (k : P (if nI n ≤ 0 then 0 else 1) C) : f_J29_hasNext b P X C := by
  unfold f_J29_hasNext
  refine gI_i (gR_i (isK_i z2 (gI_i ?_)))
  rw [z4, hl]
  refine cnd_i (fun q => asr_i (Or.inl rfl) (rt_i ?_)) fun q => asr_i (Or.inr rfl) (rt_i ?_)
  · rw [if_pos q] at k; exact k
  · rw [if_neg q] at k; exact k
theorem p_next {C : St} {l b nd x nx n : Nat} {P : Nat → St → Prop} {X : String → St → Prop} (z1 : sN C 19 b 1 = idc 16 nd) (z2 : sN C 19 b 4 = idc 15 l) (z3 : sM C 19 b 3 = sM C 15 l 0) (z4 : sM C 19 b 2 = 0) (hl : sM C 15 l 1 = nI n) (hn : ¬ nI n ≤ 0) (hx : sN C 16 nd 0 = x) (hnx : sN C 16 nd 1 = nx)
    (k : P x (wM (wN (wN C 19 b 0 (idc 16 nd)) 19 b 1 nx) 19 b 2 (0 + 1))) : f_J29_next b P X C := by
  unfold f_J29_next
  refine bn0_i ?_
  unfold f_J29_checkForComodification
  refine gR_i (isK_i z2 (gI_i (gI_i (cnd_i (fun _ => rt_i (bn0_i (p_hasNext z2 z4 hl ?_))) fun q => absurd z3.symm q))))
  rw [if_neg hn]
  refine cnd_i (fun q => absurd q (by decide)) fun _ => gR_i ?_
  rw [z1]
  refine pR_i (gR_i ?_)
  rw [sN_wN, up3_k (by decide), z1]
  refine isK_i rfl (gR_i ?_)
  rw [sN_wN, up3_o (by decide), hnx]
  refine pR_i (gI_i ?_)
  rw [sM_wN, sM_wN, z4]
  refine pI_i (gR_i (isK_i (i := nd) ?_ (gR_i (rt_i ?_))))
  · rw [sN_wM, sN_wN, up3_k (by decide), sN_wN, up3_s]
  · rw [sN_wM, sN_wN, up3_o (by decide), sN_wN, up3_o (by decide), hx]
    exact k
/-- an iterator over a list from its start -/
theorem p_iter {C : St} {l n : Nat} {P : Nat → St → Prop} {X : String → St → Prop} (h3 : sM C 15 l 1 = nI n) (hn : n ≤ 4096) (h1 : n = 1 → sN C 15 l 3 = sN C 15 l 2) (h0 : n = 0 → sN C 15 l 2 = nul) (hc : 10 ≤ sC C ∧ 10 ≤ sS C) (k : ∀ b C', IT C C' → sN C' 19 b 4 = idc 15 l → sM C' 19 b 3 = sM C 15 l 0 → sM C' 19 b 2 = 0 → sN C' 19 b 1 = sN C 15 l 2 → sC C ≤ sC C' + 10 ∧ sS C ≤ sS C' + 10 → P (idc 19 b) C') : f_J19_iterator_15 l P X C := by
  unfold f_J19_iterator_15
  refine bn0_i ?_
  unfold f_J1_listIterator_15
  refine bn0_i ?_
  unfold f_J20_listIterator
  refine bn0_i ?_
  unfold f_J20_checkPositionIndex
  refine bn0_i ?_
  unfold f_J20_isPositionIndex
  refine cnd_i (fun q => absurd q (by decide)) fun _ => gI_i ?_
  rw [h3]
  refine cnd_i (fun q => absurd q (nI_pos (by omega))) fun _ => asr_i (Or.inr rfl) (rt_i (cnd_i (fun q => absurd q (by decide)) fun _ => rt_i ?_))
  refine nw_i ⟨by omega, by omega⟩ (bn0_i ?_)
  generalize sK C 19 = b
  have t2 : IT C (mk C 19 5) := IT.pk C 5 (Or.inr rfl)
  have r2 : sC (mk C 19 5) = sC C - 1 := rfl
  have r3 : sS (mk C 19 5) = sS C - 5 := rfl
  generalize mk C 19 5 = C2 at t2 r2 r3 ⊢
  obtain ⟨y1, y2, y3, y4, y5⟩ := t2 15 (by decide) (by decide)
  unfold f_J29_init
  refine pR_i (gR_i (isK_i (i := l) ?_ (gI_i (pI_i (isK_i rfl (gI_i (bnd_i ?_)))))))
  · rw [sN_wN, up3_s]
  · rw [sM_wN, y1]
    have t3 : IT C (wM (wN C2 19 b 4 (idc 15 l)) 19 b 3 (sM C 15 l 0)) := (t2.tr (IT.pN C2 b 4 _ (Or.inr rfl))).tr (IT.pM _ b 3 _ (Or.inr rfl))
    have u1 : sM (wM (wN C2 19 b 4 (idc 15 l)) 19 b 3 (sM C 15 l 0)) 19 b 3 = sM C 15 l 0 := by rw [sM_wM, up3_s]
    have u2 : sN (wM (wN C2 19 b 4 (idc 15 l)) 19 b 3 (sM C 15 l 0)) 19 b 4 = idc 15 l := by rw [sN_wM, sN_wN, up3_s]
    have u3 : sC (wM (wN C2 19 b 4 (idc 15 l)) 19 b 3 (sM C 15 l 0)) = sC C2 := rfl
    have u4 : sS (wM (wN C2 19 b 4 (idc 15 l)) 19 b 3 (sM C 15 l 0)) = sS C2 := rfl
    generalize wM (wN C2 19 b 4 (idc 15 l)) 19 b 3 (sM C 15 l 0) = C3 at t3 u1 u2 u3 u4 ⊢
    obtain ⟨v1, v2, v3, v4, v5⟩ := t3 15 (by decide) (by decide)
    have fin : ∀ nx, nx = sN C 15 l 2 → P (idc 19 b) (wM (wN C3 19 b 1 nx) 19 b 2 0) := by
      intro nx hnx
      refine k b _ ((t3.tr (IT.pN C3 b 1 nx (Or.inr rfl))).tr (IT.pM _ b 2 _ (Or.inr rfl))) ?_ ?_ ?_ ?_ ⟨?_, ?_⟩
      · rw [sN_wM, sN_wN, up3_k (by decide)]; exact u2
      · rw [sM_wM, up3_k (by decide), sM_wN]; exact u1
      · rw [sM_wM, up3_s]
      · rw [sN_wM, sN_wN, up3_s]; exact hnx
      · show sC C ≤ sC C3 + 10; omega
      · show sS C ≤ sS C3 + 10; omega
    rw [v1, h3]
    refine cnd_i (fun q => rt_i (pR_i (pI_i (rt_i (rt_i (rt_i (rt_i (fin _ ?_)))))))) fun q => bn0_i ?_
    · have : n = 0 := by
        rw [← nI_0] at q
        exact ((nI_eq (by omega) (by omega)).mp q).symm
      exact (h0 this).symm
    · unfold f_J20_node
      refine gI_i ?_
      rw [v1, h3, nI_half (by omega)]
      have hn0 : n ≠ 0 := fun s => q (by rw [s]; decide +kernel)
      refine cnd_i (fun q2 => ?_) fun q2 => ?_
      · have hn1 : n = 1 := by
          rcases Nat.eq_zero_or_pos (n / 2) with r | r
          · omega
          · exact absurd q2 (nI_nle r (by omega))
        refine gR_i (gI_i ?_)
        rw [v1, v2, h3, hn1]
        refine ⟨1, ?_⟩
        refine cnd_i (fun _ => rt_i (rt_i (pR_i (pI_i (rt_i (rt_i (rt_i (rt_i (fin _ (h1 hn1)))))))))) fun q3 => absurd (by decide +kernel) q3
      · refine gR_i ?_
        rw [v2]
        refine ⟨1, ?_⟩
        exact cnd_i (fun _ => rt_i (rt_i (pR_i (pI_i (rt_i (rt_i (rt_i (rt_i (fin _ rfl))))))))) fun q3 => absurd (by decide) q3
