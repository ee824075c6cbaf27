/-! ===== array deques over views: adding ===== -/
theorem aLen_i {ρ : Type} {K i : Nat} {k : Int32 → PT ρ} {P : ρ → St → Prop} {X : String → St → Prop} {C : St} (h : k (nI (sL C K i)) P X C) : aLen K i k P X C := h
theorem nwA_i {ρ : Type} {K : Nat} {x : Int32} {k : Nat → PT ρ} {P : ρ → St → Prop} {X : String → St → Prop} {C : St} (e : ¬ x < 0 ∧ x.toNatClampNeg ≤ 60000000 ∧ 1 ≤ sC C ∧ x.toNatClampNeg ≤ sS C) (h : k (sK C K) P X (mk C K x.toNatClampNeg)) : nwA K x k P X C := ⟨e, h⟩
theorem cap_le {a : Nat} (h : a < 8200) : nI a - (2147483639 : Int32) ≤ 0 := by
  rw [show (2147483639 : Int32) = nI 2147483639 from by decide +kernel, Int32.le_iff_toInt_le, Int32.toInt_sub, nI_toInt (by omega), nI_toInt (by decide), Int.bmod_eq_of_le (by omega) (by omega)]
  show _ ≤ (0 : Int)
  omega
theorem dq_fill {C0 : St} {o5 : Nat → Nat} {i z : Nat} (ho : o5 z = 2 * i + 1) {P : Unit → St → Prop} {X : String → St → Prop} : ∀ (m s t : Nat) (C : St), m + s = t → t ≤ sL C 35 z → sL C 35 z < 2 ^ 30 → QR C0 C o5 o5 i 0 → (∀ C', QR C0 C' o5 o5 i 0 → sM C' = sM C → sK C' = sK C → sL C' = sL C → (∀ K, K ≠ 35 → sN C' K = sN C K) → (∀ k, s ≤ k → k < t → sN C' 35 z k = nul) → (∀ k, ¬ (s ≤ k ∧ k < t) → sN C' 35 z k = sN C 35 z k) → P () C') →
    lpN (σ := Int32) (fun r21 => fun u20 => cnd (nI t ≤ u20) (rt ()) (bR 35 z u20 nul <| r21 (u20 + (1 : Int32)))) (m + 1) (nI s) P X C := by
  intro m
  induction m with
  | zero =>
    intro s t C e hL h30 qr hP
    refine cnd_i (fun _ => rt_i (hP C qr rfl rfl rfl (fun _ _ => rfl) (fun k h1 h2 => by omega) fun _ _ => rfl)) fun q => absurd (nI_le (by omega) (by omega)) q
  | succ m ih =>
    intro s t C e hL h30 qr hP
    refine cnd_i (fun q => absurd q (nI_ge (by omega) (by omega))) fun _ => ⟨nI_in (by omega) (by omega), ?_⟩
    rw [nI_clamp (by omega), nI_1]
    refine ih (s + 1) t (wN C 35 z s nul) (by omega) hL h30 (qr.tr (QR.pn C o5 s nul ho)) fun C' q1 q2 q3 q4 q5 q6 q7 => hP C' q1 (q2.trans sM_wN) (q3.trans sK_wN) (q4.trans sL_wN) (fun K hK => by rw [q5 K hK, sN_wN, up3_o hK]) (fun k h1 h2 => ?_) fun k hk => ?_
    · by_cases s' : s + 1 ≤ k
      · exact q6 k s' h2
      · rw [q7 k (by omega), show k = s by omega, sN_wN, up3_s]
    · rw [q7 k (by omega), sN_wN, up3_k (by omega)]
/-- ArrayDeque.grow, where it is full -/
theorem p_dgrow {C : St} {o5 : Nat → Nat} {i z h : Nat} {xs : List Nat} {P : Unit → St → Prop} {X : String → St → Prop} (z1 : sN C 17 i 0 = idc 35 z) (z2 : z < sK C 35) (z3 : o5 z = 2 * i + 1) (hL : xs.length = sL C 35 z) (z4 : h < sL C 35 z) (z6 : sL C 35 z ≤ 4000) (z7 : sM C 17 i 1 = nI h) (z8 : sM C 17 i 2 = nI h)
    (z9 : ∀ k, k < xs.length → sN C 35 z ((h + k) % sL C 35 z) = xs.getD k 0 ∧ xs.getD k 0 ≠ nul ∧ elOK (xs.getD k 0)) (hc : 2 * sL C 35 z + 3 ≤ sC C ∧ 2 * sL C 35 z + 3 ≤ sS C) (k : ∀ C' o5', QR C C' o5 o5' i (2 * sL C 35 z + 3) → AD C' o5' i xs → P () C') : f_J27_grow i (1 : Int32) P X C := by
  generalize hLL : sL C 35 z = L at hL z4 z6 z9 hc k
  unfold f_J27_grow
  refine gR_i (isK_i z1 ?_)
  unfold aLen
  rw [hLL]
  refine bnd_i ?_
  obtain ⟨J, hJ, hJ1, hJ2⟩ : ∃ J, (if 64 ≤ L then L / 2 else L + 2) = J ∧ 2 ≤ J ∧ J ≤ L + 2 := by
    by_cases s : 64 ≤ L
    · exact ⟨L / 2, if_pos s, by omega, by omega⟩
    · exact ⟨L + 2, if_neg s, by omega, by omega⟩
  have h64 : (64 : Int32) = nI 64 := by decide +kernel
  have main : (bnd (jo (σ := Unit) (fun _ => bn0 (f_J27_newCapacity i (1 : Int32) (nI J)) fun v35 => rt v35) fun j37 => cnd (nI J < (1 : Int32)) (j37 ()) (cnd (((nI L + nI J) - (2147483639 : Int32)) ≤ 0) (rt (nI L + nI J)) (j37 ()))) (fun u6 => gR 17 i 0 fun v7 => isK 35 v7 fun i8 => bn0 (f_J13_copyOf_3 i8 u6) fun v10 => pR 17 i 0 v10 <| gI 17 i 2 fun v11 => gI 17 i 1 fun v12 => jo (σ := Unit) (fun _ => gI 17 i 1 fun v13 => gI 17 i 1 fun v14 => gI 17 i 1 fun v15 => isK 35 v10 fun i16 => cpR i16 v13 i16 (v14 + (u6 - nI L)) (nI L - v15) <| gI 17 i 1 fun v18 => gI 17 i 1 fun v19 => pI 17 i 1 (v19 + (u6 - nI L)) <| lp (σ := Int32) (fun r21 => fun u20 => cnd ((v19 + (u6 - nI L)) ≤ u20) (rt ()) (bR 35 i16 u20 nul <| r21 (u20 + (1 : Int32)))) v18) fun j24 => cnd (v11 < v12) (j24 ()) (gI 17 i 2 fun v26 => gI 17 i 1 fun v27 => cnd (v26 = v27) (gI 17 i 1 fun v29 => isK 35 v10 fun i30 => aR 35 i30 v29 fun v32 => cnd (v32 = nul) (rt ()) (j24 ())) (rt ())))) P X C := by
    unfold jo
    have h1 : (1 : Int32) = nI 1 := by decide +kernel
    refine bnd_i (cnd_i (fun q => absurd q (by rw [h1]; exact nI_nlt (by omega) (by omega))) fun _ => ?_)
    rw [nI_add]
    refine cnd_i (fun _ => rt_i (gR_i (isK_i z1 (bn0_i ?_)))) fun q => absurd (cap_le (by omega)) q
    unfold f_J13_copyOf_3
    refine bn0_i ?_
    unfold f_J13_copyOf_4
    have hcl : (nI (L + J)).toNatClampNeg = L + J := nI_clamp (by omega)
    have hclL : (nI L).toNatClampNeg = L := nI_clamp (by omega)
    have e0 : (0 : Int32).toNatClampNeg = 0 := by decide +kernel
    refine nwA_i ⟨nI_pos (by omega), by omega, by omega, by omega⟩ ?_
    rw [hcl]
    generalize hn : sK C 35 = n at z2
    have hne : z ≠ n := by omega
    have el1 : sL (mk C 35 (L + J)) 35 z = L := by rw [sL_mk, hn, up2_n (fun q => hne q.2)]; exact hLL
    have el2 : sL (mk C 35 (L + J)) 35 n = L + J := by rw [sL_mk, hn, up2_s]
    have en1 : sN (mk C 35 (L + J)) 35 z = sN C 35 z := by rw [sN_mk, hn]; exact row3_n (fun q => hne q.2)
    have en2 : sN (mk C 35 (L + J)) 35 n = fun _ => nul := by rw [sN_mk, hn, row3_s]
    refine aLen_i ?_
    rw [el1, nI_mn (by omega) (by omega), Nat.min_eq_left (by omega)]
    have hpos : ∀ j, j < L → ∃ k, k < L ∧ (h + k) % L = j := fun j hj => by
      by_cases s : h ≤ j
      · exact ⟨j - h, by omega, by rw [md_lo (by omega)]; omega⟩
      · exact ⟨L + j - h, by omega, by rw [md_hi (by omega) (by omega)]; omega⟩
    refine ⟨⟨by decide, by decide, nI_pos (by omega), by rw [e0, hclL, el1]; omega, by rw [e0, hclL, el2]; omega, fun j hj => ?_⟩, ?_⟩
    · rw [hclL] at hj
      obtain ⟨k, hk, hk2⟩ := hpos j hj
      obtain ⟨b1, b2, b3⟩ := z9 k (by omega)
      rw [hk2] at b1
      rw [e0, Nat.zero_add, en1, b1]; exact b3
    · rw [e0, hclL, en1, en2]
      refine rt_i (rt_i (pR_i (gI_i (gI_i ?_))))
      have q0 := QR.pk C o5 i (L + J)
      rw [hn] at q0
      have q1 := (q0.tr (QR.pr _ (up1 o5 n (2 * i + 1)) (z := n) (va_cpy (sN C 35 z) (fun _ => nul) 0 0 L) up1_s)).tr (QR.pN _ _ i 0 (idc 35 n))
      have f1 : sM (wN (rN (mk C 35 (L + J)) 35 n (va_cpy (sN C 35 z) (fun _ => nul) 0 0 L)) 17 i 0 (idc 35 n)) 17 = sM C 17 := by rw [sM_wN, sM_rN, sM_mk, row3_o (by decide)]
      have f2 : sN (wN (rN (mk C 35 (L + J)) 35 n (va_cpy (sN C 35 z) (fun _ => nul) 0 0 L)) 17 i 0 (idc 35 n)) 17 i 0 = idc 35 n := by rw [sN_wN, up3_s]
      have f3 : sN (wN (rN (mk C 35 (L + J)) 35 n (va_cpy (sN C 35 z) (fun _ => nul) 0 0 L)) 17 i 0 (idc 35 n)) 35 n = va_cpy (sN C 35 z) (fun _ => nul) 0 0 L := by rw [sN_wN, up3_o (by decide), sN_rN, row3_s]
      have f4 : sL (wN (rN (mk C 35 (L + J)) 35 n (va_cpy (sN C 35 z) (fun _ => nul) 0 0 L)) 17 i 0 (idc 35 n)) 35 n = L + J := by rw [sL_wN, sL_rN]; exact el2
      have f5 : sK (wN (rN (mk C 35 (L + J)) 35 n (va_cpy (sN C 35 z) (fun _ => nul) 0 0 L)) 17 i 0 (idc 35 n)) 35 = n + 1 := by rw [sK_wN, sK_rN, sK_mk, hn, up1_s]
      generalize wN (rN (mk C 35 (L + J)) 35 n (va_cpy (sN C 35 z) (fun _ => nul) 0 0 L)) 17 i 0 (idc 35 n) = C1 at q1 f1 f2 f3 f4 f5 ⊢
      have g3 : ∀ j, j < L → sN C1 35 n j = sN C 35 z j := fun j hj => by
        rw [f3]; unfold va_cpy
        rw [if_pos (by omega), show 0 + (j - 0) = j by omega]
      rw [f1, z7, z8]
      refine cnd_i (fun q => absurd q (nI_nlt (Nat.le_refl _) (by omega))) fun _ => gI_i (gI_i ?_)
      rw [f1, z7, z8]
      refine cnd_i (fun _ => gI_i (isK_i rfl ?_)) fun q => absurd rfl q
      rw [f1, z7]
      have hclh : (nI h).toNatClampNeg = h := nI_clamp (by omega)
      refine ⟨by rw [f4]; exact nI_in (by omega) (by omega), ?_⟩
      rw [hclh, g3 h z4]
      obtain ⟨c1, c2, c3⟩ := z9 0 (by omega)
      rw [Nat.add_zero, Nat.mod_eq_of_lt z4] at c1
      refine cnd_i (fun q => absurd (c1.symm.trans q) c2) fun _ => gI_i (gI_i (gI_i (isK_i rfl ?_)))
      rw [f1, z7, show nI (L + J) - nI L = nI J by rw [nI_subN (by omega)]; congr 1; omega, nI_add, nI_subN (by omega)]
      have hcl2 : (nI (h + J)).toNatClampNeg = h + J := nI_clamp (by omega)
      have hcl3 : (nI (L - h)).toNatClampNeg = L - h := nI_clamp (by omega)
      refine ⟨⟨nI_pos (by omega), nI_pos (by omega), nI_pos (by omega), by rw [hclh, hcl3, f4]; omega, by rw [hcl2, hcl3, f4]; omega, fun j hj => ?_⟩, ?_⟩
      · rw [hcl3] at hj
        rw [hclh, g3 _ (by omega)]
        obtain ⟨k, hk, hk2⟩ := hpos (h + j) (by omega)
        obtain ⟨b1, b2, b3⟩ := z9 k (by omega)
        rw [hk2] at b1
        rw [b1]; exact b3
      · rw [hclh, hcl2, hcl3]
        refine gI_i (gI_i (pI_i ?_))
        rw [sM_rN, f1, z7, nI_add]
        have q2 := (QR.pr C1 (up1 o5 n (2 * i + 1)) (i := i) (z := n) (va_cpy (sN C1 35 n) (sN C1 35 n) h (h + J) (L - h)) up1_s).tr (QR.pM _ _ i 1 (nI (h + J)))
        have p1 : sM (wM (rN C1 35 n (va_cpy (sN C1 35 n) (sN C1 35 n) h (h + J) (L - h))) 17 i 1 (nI (h + J))) 17 i 1 = nI (h + J) := by rw [sM_wM, up3_s]
        have p2 : sM (wM (rN C1 35 n (va_cpy (sN C1 35 n) (sN C1 35 n) h (h + J) (L - h))) 17 i 1 (nI (h + J))) 17 i 2 = nI h := by rw [sM_wM, up3_k (by decide), sM_rN, f1]; exact z8
        have p3 : sN (wM (rN C1 35 n (va_cpy (sN C1 35 n) (sN C1 35 n) h (h + J) (L - h))) 17 i 1 (nI (h + J))) 35 n = va_cpy (sN C1 35 n) (sN C1 35 n) h (h + J) (L - h) := by rw [sN_wM, sN_rN, row3_s]
        have p4 : sN (wM (rN C1 35 n (va_cpy (sN C1 35 n) (sN C1 35 n) h (h + J) (L - h))) 17 i 1 (nI (h + J))) 17 i 0 = idc 35 n := by rw [sN_wM, sN_rN, row3_o (by decide)]; exact f2
        have p5 : sL (wM (rN C1 35 n (va_cpy (sN C1 35 n) (sN C1 35 n) h (h + J) (L - h))) 17 i 1 (nI (h + J))) 35 n = L + J := by rw [sL_wM, sL_rN]; exact f4
        have p6 : sK (wM (rN C1 35 n (va_cpy (sN C1 35 n) (sN C1 35 n) h (h + J) (L - h))) 17 i 1 (nI (h + J))) 35 = n + 1 := by rw [sK_wM, sK_rN]; exact f5
        generalize wM (rN C1 35 n (va_cpy (sN C1 35 n) (sN C1 35 n) h (h + J) (L - h))) 17 i 1 (nI (h + J)) = C2 at q2 p1 p2 p3 p4 p5 p6 ⊢
        refine ⟨J + 1, dq_fill (C0 := C2) (o5 := up1 o5 n (2 * i + 1)) (i := i) up1_s J h (h + J) C2 (by omega) (by omega) (by omega) ⟨fun _ _ => rfl, Nat.le_refl _, fun _ _ => ⟨rfl, rfl⟩, fun _ _ _ => ⟨rfl, rfl⟩, fun _ _ _ => ⟨rfl, rfl, rfl, rfl, rfl⟩, rfl, Nat.le_refl _, Nat.le_refl _⟩ fun C3 q3 r1 r2 r3 r4 r5 r6 => ?_⟩
        obtain ⟨b1, b2, b3, b4, b5, b6, b7, b8⟩ := (q1.tr q2).tr q3
        have lay : ∀ p, p < L + J → sN C3 35 n p = if p < h then sN C 35 z p else if p < h + J then nul else sN C 35 z (p - J) := fun p hp => by
          by_cases s1 : p < h
          · rw [if_pos s1, r6 p (by omega), p3]; unfold va_cpy
            rw [if_neg (by omega), g3 p (by omega)]
          · rw [if_neg s1]
            by_cases s2 : p < h + J
            · rw [if_pos s2]; exact r5 p (by omega) s2
            · rw [if_neg s2, r6 p (by omega), p3]; unfold va_cpy
              rw [if_pos (by omega), show h + (p - (h + J)) = p - J by omega, g3 (p - J) (by omega)]
        refine k C3 (up1 o5 n (2 * i + 1)) ⟨b1, b2, b3, b4, b5, b6, by omega, by omega⟩ ⟨n, h + J, ?_, by rw [r2, p6]; omega, up1_s, by rw [r3, p5]; omega, by rw [r3, p5]; omega, by rw [r3, p5]; omega, by rw [r1]; exact p1, ?_, fun t ht => ?_, fun t ht ht2 => ?_⟩
        · rw [r4 17 (by decide)]; exact p4
        · rw [r1, p2, r3, p5, hL, md_hi (by omega) (by omega)]
          congr 1; omega
        · obtain ⟨b1, b2, b3⟩ := z9 t ht
          refine ⟨?_, b2, b3⟩
          rw [r3, p5, ← b1]
          by_cases s : h + t < L
          · rw [md_lo s, md_lo (by omega), lay _ (by omega), if_neg (by omega), if_neg (by omega)]
            congr 1; omega
          · rw [md_hi (by omega) (by omega), md_hi (by omega) (by omega), lay _ (by omega), if_pos (by omega)]
            congr 1; omega
        · rw [r3, p5] at ht2
          rw [r3, p5]
          rw [md_hi (by omega) (by omega), lay _ (by omega), if_neg (by omega), if_pos (by omega)]
  by_cases s : 64 ≤ L
  · rw [if_pos s] at hJ
    refine cnd_i (fun _ => rt_i ?_) fun q => absurd (by rw [h64]; exact nI_le s (by omega)) q
    rw [nI_half (by omega), hJ]
    exact main
  · rw [if_neg s] at hJ
    refine cnd_i (fun q => absurd q (by rw [h64]; exact nI_ge (by omega) (by decide))) fun _ => rt_i ?_
    rw [show nI L + 2 = nI (L + 2) from nI_add L 2, hJ]
    exact main
def h_J27_add (i e : Nat) : PV Int32 := fun P _ v => (i < vK v 17 ∧ e ≠ nul ∧ elOK e ∧ (vQ v i).length < 3000 ∧ 2 * (vQ v i).length + 8 ≤ vb v) ∧ P 1 (uQl v i (vQ v i ++ [e]) (2 * (vQ v i).length + 8))
theorem s_J27_add (i e : Nat) : Sim (h_J27_add i e) (f_J27_add i e) := fun P' X' v P X C w hP hX h => by
  obtain ⟨⟨hi, he, heo, hlen, hb⟩, h⟩ := h
  have w3 := w.2.2.1
  obtain ⟨o5, o4, o6, j⟩ := w.jo
  obtain ⟨z, hh, z1, z2, z3, z4, z5, z6, z7, z8, z9, z10⟩ := j.2.2.2.1 i (by rw [w.2.1 17 rfl]; exact hi)
  have hg := fun C' => hP 1 (uQl v i (vQ v i ++ [e]) (2 * (vQ v i).length + 8)) C'
  generalize hxs : vQ v i = xs at z5 z8 z9 z10 hlen hb h hg
  have htl := md_lt (h := hh) (n := xs.length) (L := sL C 35 z) (by omega)
  unfold f_J27_add
  refine bn0_i ?_
  unfold f_J27_addLast
  refine cnd_i (fun q => absurd q he) fun _ => gR_i (gI_i (isK_i z1 (asr_i heo ?_)))
  rw [z8]
  have hcl : (nI ((hh + xs.length) % sL C 35 z)).toNatClampNeg = (hh + xs.length) % sL C 35 z := nI_clamp (by omega)
  refine ⟨nI_in htl (by omega), ?_⟩
  rw [hcl]
  refine gI_i (gI_i ?_)
  unfold aLen
  rw [sM_wN, z7, z8, sL_wN]
  have emod : ((hh + xs.length) % sL C 35 z + 1) % sL C 35 z = (hh + (xs.length + 1)) % sL C 35 z := by rw [Nat.mod_add_mod, Nat.add_assoc]
  refine bn0_i (p_inc htl (by omega) ?_)
  rw [emod]
  refine pI_i ?_
  have qr := (QR.pn C o5 ((hh + xs.length) % sL C 35 z) e z3).tr (QR.pM _ o5 i 2 (nI ((hh + (xs.length + 1)) % sL C 35 z)))
  have p1 : sN (wM (wN C 35 z ((hh + xs.length) % sL C 35 z) e) 17 i 2 (nI ((hh + (xs.length + 1)) % sL C 35 z))) 17 i 0 = idc 35 z := by rw [sN_wM, sN_wN, up3_o (by decide)]; exact z1
  have p2 : sK (wM (wN C 35 z ((hh + xs.length) % sL C 35 z) e) 17 i 2 (nI ((hh + (xs.length + 1)) % sL C 35 z))) 35 = sK C 35 := by rw [sK_wM, sK_wN]
  have p3 : sL (wM (wN C 35 z ((hh + xs.length) % sL C 35 z) e) 17 i 2 (nI ((hh + (xs.length + 1)) % sL C 35 z))) 35 z = sL C 35 z := by rw [sL_wM, sL_wN]
  have p4 : sM (wM (wN C 35 z ((hh + xs.length) % sL C 35 z) e) 17 i 2 (nI ((hh + (xs.length + 1)) % sL C 35 z))) 17 i 1 = nI hh := by rw [sM_wM, up3_k (by decide), sM_wN]; exact z7
  have p5 : sM (wM (wN C 35 z ((hh + xs.length) % sL C 35 z) e) 17 i 2 (nI ((hh + (xs.length + 1)) % sL C 35 z))) 17 i 2 = nI ((hh + (xs.length + 1)) % sL C 35 z) := by rw [sM_wM, up3_s]
  have p6 : sN (wM (wN C 35 z ((hh + xs.length) % sL C 35 z) e) 17 i 2 (nI ((hh + (xs.length + 1)) % sL C 35 z))) 35 z = (fun k => if k = (hh + xs.length) % sL C 35 z then e else sN C 35 z k) := by
    rw [sN_wM, sN_wN]
    funext k
    by_cases s : k = (hh + xs.length) % sL C 35 z
    · rw [if_pos s, s, up3_s]
    · rw [if_neg s, up3_k s]
  have p7 : sC (wM (wN C 35 z ((hh + xs.length) % sL C 35 z) e) 17 i 2 (nI ((hh + (xs.length + 1)) % sL C 35 z))) = sC C := rfl
  have p8 : sS (wM (wN C 35 z ((hh + xs.length) % sL C 35 z) e) 17 i 2 (nI ((hh + (xs.length + 1)) % sL C 35 z))) = sS C := rfl
  have p6 := fun k => congrFun p6 k
  generalize wM (wN C 35 z ((hh + xs.length) % sL C 35 z) e) 17 i 2 (nI ((hh + (xs.length + 1)) % sL C 35 z)) = C1 at qr p1 p2 p3 p4 p5 p6 p7 p8 ⊢
  have items : ∀ k, k < (xs ++ [e]).length → sN C1 35 z ((hh + k) % sL C 35 z) = (xs ++ [e]).getD k 0 ∧ (xs ++ [e]).getD k 0 ≠ nul ∧ elOK ((xs ++ [e]).getD k 0) := fun k hk => by
    rw [List.length_append] at hk
    have hk : k < xs.length + 1 := hk
    rw [p6]
    by_cases s : k < xs.length
    · rw [gd_l s]
      obtain ⟨b1, b2, b3⟩ := z9 k s
      refine ⟨?_, b2, b3⟩
      rw [if_neg (fun r => by have := md_inj (by omega) z5 z4 r; omega)]; exact b1
    · rw [show k = xs.length by omega, gd_r, if_pos rfl]
      exact ⟨rfl, he, heo⟩
  have hhlt : (hh + (xs.length + 1)) % sL C 35 z < sL C 35 z := Nat.mod_lt _ (by omega)
  refine cnd_i (fun q => bn0_i ?_) fun q => rt_i ?_
  · have e1 : (hh + (xs.length + 1)) % sL C 35 z = hh := ((nI_eq (by omega) (by omega)).mp q).symm
    have hfull : xs.length + 1 = sL C 35 z := by
      rcases Nat.lt_or_ge (xs.length + 1) (sL C 35 z) with s | s
      · have e2 : (hh + (xs.length + 1)) % sL C 35 z = (hh + 0) % sL C 35 z := by rw [e1, Nat.add_zero, Nat.mod_eq_of_lt z4]
        have := md_inj s (by omega) z4 e2
        omega
      · omega
    refine p_dgrow (xs := xs ++ [e]) (o5 := o5) (h := hh) p1 (by omega) z3 (by rw [List.length_append, p3]; exact hfull) (by omega) (by omega) p4 (by rw [p5, e1]) (fun k hk => by rw [p3]; exact items k hk) ⟨by omega, by omega⟩ fun C2 o5' qr2 had => ?_
    refine rt_i (asr_i (Or.inr rfl) (rt_i (hg _ (w.qr j (qr.tr qr2) had (by omega)) h)))
  · have hnf : xs.length + 1 < sL C 35 z := by
      rcases Nat.lt_or_ge (xs.length + 1) (sL C 35 z) with s | s
      · exact s
      · exact absurd (by rw [show xs.length + 1 = sL C 35 z by omega, Nat.add_mod_right, Nat.mod_eq_of_lt z4]) q
    refine asr_i (Or.inr rfl) (rt_i (hg _ (w.qr j qr ⟨z, hh, p1, by omega, z3, by omega, ?_, by omega, p4, ?_, fun k hk => ?_, fun k hk hk2 => ?_⟩ (by omega)) h))
    · rw [List.length_append, p3]; exact hnf
    · rw [p5, List.length_append, p3]; rfl
    · rw [p3]; exact items k hk
    · rw [List.length_append] at hk
      have hk : xs.length + 1 ≤ k := hk
      rw [p3] at hk2 ⊢
      rw [p6]
      rw [if_neg (fun r => by have := md_inj hk2 z5 z4 r; omega)]
      exact z10 k (by omega) hk2
/-- a new deque -/
def uQn (v : Vw) : Vw := (vM v, vN v, vL v, up1 (vK v) 17 (vK v 17 + 1), vZ v, vE v, vB v, vW v, up1 (vQ v) (vK v 17) [], vb v - 22, vo v)
def hnQ {ρ : Type} (k : Nat → PV ρ) : PV ρ := fun P X v => 22 ≤ vb v ∧ k (vK v 17) P X (uQn v)
theorem s_nQ {ρ : Type} {k : Nat → PV ρ} {k' : Nat → PT ρ} (h2 : ∀ r, Sim (k r) (k' r)) : Sim (hnQ k) (nw 17 3 fun i => bn0 (f_J27_init i) fun _ => k' i) := fun P' X' v P X C w hP hX h => by
  obtain ⟨hb, h⟩ := h
  have hk : sK C 17 = vK v 17 := w.2.1 17 rfl
  have w3 := w.2.2.1
  rw [← hk] at h
  refine nw_i ⟨by omega, by omega⟩ (bn0_i ?_)
  unfold f_J27_init
  refine bn0_i ?_
  unfold f_J0_init_17
  refine rt_i ?_
  have e17 : (17 : Int32).toNatClampNeg = 17 := by decide +kernel
  have c1 : sC (mk C 17 3) = sC C - 1 := rfl
  have c2 : sS (mk C 17 3) = sS C - 3 := rfl
  refine ⟨⟨by decide, by decide, by omega, by omega⟩, ?_⟩
  rw [e17]
  refine pR_i (rt_i (h2 _ P' X' _ P X _ ?_ hP hX h))
  have hk35 : sK (mk C 17 3) 35 = sK C 35 := by rw [sK_mk, up1_n (by decide)]
  rw [hk35]
  have m1 : ∀ K, K ≠ 17 → K ≠ 35 → sM (wN (mk (mk C 17 3) 35 17) 17 (sK C 17) 0 (idc 35 (sK C 35))) K = sM C K ∧ sN (wN (mk (mk C 17 3) 35 17) 17 (sK C 17) 0 (idc 35 (sK C 35))) K = sN C K ∧ sG (wN (mk (mk C 17 3) 35 17) 17 (sK C 17) 0 (idc 35 (sK C 35))) K = sG C K ∧ sL (wN (mk (mk C 17 3) 35 17) 17 (sK C 17) 0 (idc 35 (sK C 35))) K = sL C K ∧ sK (wN (mk (mk C 17 3) 35 17) 17 (sK C 17) 0 (idc 35 (sK C 35))) K = sK C K := fun K k1 k2 => by
    refine ⟨?_, ?_, ?_, ?_, ?_⟩
    · rw [sM_wN, sM_mk, row3_o k2, sM_mk, row3_o k1]
    · rw [sN_wN, up3_o k1, sN_mk, row3_o k2, sN_mk, row3_o k1]
    · show row3 (row3 (sG C) 17 (sK C 17) (fun _ => 0)) 35 (sK (mk C 17 3) 35) (fun _ => 0) K = _
      rw [row3_o k2, row3_o k1]
    · rw [sL_wN, sL_mk, up2_o k2, sL_mk, up2_o k1]
    · rw [sK_wN, sK_mk, up1_n k2, sK_mk, up1_n k1]
  have m2 : (∀ y, y ≠ sK C 17 → sM (wN (mk (mk C 17 3) 35 17) 17 (sK C 17) 0 (idc 35 (sK C 35))) 17 y = sM C 17 y ∧ sN (wN (mk (mk C 17 3) 35 17) 17 (sK C 17) 0 (idc 35 (sK C 35))) 17 y = sN C 17 y) := fun y hy => by
    refine ⟨?_, ?_⟩
    · rw [sM_wN, sM_mk, row3_o (by decide), sM_mk]; exact row3_n (fun q => hy q.2)
    · rw [sN_wN]
      funext t
      rw [up3_n (fun q => hy q.2), sN_mk, row3_o (by decide), sN_mk, row3_n (fun q => hy q.2)]
  have m3 : sM (wN (mk (mk C 17 3) 35 17) 17 (sK C 17) 0 (idc 35 (sK C 35))) 17 (sK C 17) = fun _ => 0 := by rw [sM_wN, sM_mk, row3_o (by decide), sM_mk, row3_s]
  have m4 : sN (wN (mk (mk C 17 3) 35 17) 17 (sK C 17) 0 (idc 35 (sK C 35))) 17 (sK C 17) 0 = idc 35 (sK C 35) := by rw [sN_wN, up3_s]
  have m5 : sK (wN (mk (mk C 17 3) 35 17) 17 (sK C 17) 0 (idc 35 (sK C 35))) 17 = sK C 17 + 1 := by rw [sK_wN, sK_mk, up1_n (by decide), sK_mk, up1_s]
  have m6 : sK (wN (mk (mk C 17 3) 35 17) 17 (sK C 17) 0 (idc 35 (sK C 35))) 35 = sK C 35 + 1 := by rw [sK_wN, sK_mk, up1_s, hk35]
  have m7 : ∀ z, z < sK C 35 → sN (wN (mk (mk C 17 3) 35 17) 17 (sK C 17) 0 (idc 35 (sK C 35))) 35 z = sN C 35 z ∧ sL (wN (mk (mk C 17 3) 35 17) 17 (sK C 17) 0 (idc 35 (sK C 35))) 35 z = sL C 35 z := fun z hz => by
    refine ⟨?_, ?_⟩
    · rw [sN_wN, up3_o (by decide), sN_mk, hk35, row3_n (fun q => by omega), sN_mk, row3_o (by decide)]
    · rw [sL_wN, sL_mk, hk35, up2_n (fun q => by omega), sL_mk, up2_o (by decide)]
  have m8 : sL (wN (mk (mk C 17 3) 35 17) 17 (sK C 17) 0 (idc 35 (sK C 35))) 35 (sK C 35) = 17 := by rw [sL_wN, sL_mk, hk35, up2_s]
  have m9 : sN (wN (mk (mk C 17 3) 35 17) 17 (sK C 17) 0 (idc 35 (sK C 35))) 35 (sK C 35) = fun _ => nul := by rw [sN_wN, up3_o (by decide), sN_mk, hk35, row3_s]
  have m10 : sC (wN (mk (mk C 17 3) 35 17) 17 (sK C 17) 0 (idc 35 (sK C 35))) = sC C - 1 - 1 := rfl
  have m11 : sS (wN (mk (mk C 17 3) 35 17) 17 (sK C 17) 0 (idc 35 (sK C 35))) = sS C - 3 - 17 := rfl
  generalize wN (mk (mk C 17 3) 35 17) 17 (sK C 17) 0 (idc 35 (sK C 35)) = C1 at m1 m2 m3 m4 m5 m6 m7 m8 m9 m10 m11 ⊢
  obtain ⟨w1, w2, -, o5, o4, o6, j1, j2, j3, j4, j5⟩ := w
  refine ⟨fun K m => ?_, fun K m => ?_, ?_, up1 o5 (sK C 35) (2 * sK C 17 + 1), o4, o6, fun y hy => ?_, fun b hb => ?_, fun i' hi => ?_, fun i' hi => ?_, fun z hz => ?_⟩
  · have n17 : K ≠ 17 := fun q => by subst q; cases m
    have n35 : K ≠ 35 := fun q => by subst q; cases m
    obtain ⟨x1, x2, x3, x4, x5⟩ := m1 K n17 n35
    obtain ⟨p1, p2, p3⟩ := w1 K m
    exact ⟨x1.trans p1, x2.trans p2, x4.trans p3⟩
  · show sK C1 K = up1 (vK v) 17 (vK v 17 + 1) K
    by_cases n17 : K = 17
    · subst n17; rw [up1_s, m5, hk]
    · have n35 : K ≠ 35 := fun q => by subst q; cases m
      rw [up1_n n17, (m1 K n17 n35).2.2.2.2]; exact w2 K m
  · show vb v - 22 ≤ _ ∧ vb v - 22 ≤ _
    omega
  · obtain ⟨b1, b2, b3, b4, b5⟩ := m1 13 (by decide) (by decide)
    rw [b5] at hy
    obtain ⟨t1, t2, t3⟩ := j1 y hy
    refine ⟨by rw [b1]; exact t1, t2, ?_⟩
    rw [b2]
    rcases t3 with t3 | ⟨z, z1, z2, z3, z4, z5, z6⟩
    · exact Or.inl t3
    · obtain ⟨s1, s2⟩ := m7 z z2
      exact Or.inr ⟨z, z1, by omega, by rw [up1_n (by omega)]; exact z3, by rw [s2]; exact z4, by rw [s2]; exact z5, by rw [s1]; exact z6⟩
  · obtain ⟨c1, c2, c3, c4, c5⟩ := m1 14 (by decide) (by decide)
    obtain ⟨e1, e2, e3, e4, e5⟩ := m1 34 (by decide) (by decide)
    rw [c5] at hb
    have := j2 b hb
    unfold BS at this ⊢
    rw [c1, c2, c4, e3, e4, e5]; exact this
  · obtain ⟨d1, d2, d3, d4, d5⟩ := m1 15 (by decide) (by decide)
    obtain ⟨g1, g2, g3, g4, g5⟩ := m1 16 (by decide) (by decide)
    rw [d5] at hi
    have := j3 i' hi
    unfold LL at this ⊢
    rw [d1, d2, g2, g5]; exact this
  · by_cases q : i' = sK C 17
    · have z0 : vQ (uQn v) i' = [] := by
        rw [q, hk]; exact up1_s
      rw [z0, q]
      refine ⟨sK C 35, 0, m4, by omega, up1_s, by rw [m8]; decide, by rw [m8]; decide, by rw [m8]; decide, ?_, ?_, fun k hk => absurd hk (Nat.not_lt_zero k), fun k _ _ => by rw [m9]⟩
      · rw [m3]; exact nI_0.symm
      · rw [m3, m8]; decide +kernel
    · have z0 : vQ (uQn v) i' = vQ v i' := up1_n (by rw [← hk]; exact q)
      rw [z0]
      obtain ⟨z, hh, z1, z2, z3, z4⟩ := j4 i' (by omega)
      obtain ⟨y1, y2⟩ := m2 i' q
      obtain ⟨s1, s2⟩ := m7 z z2
      refine ⟨z, hh, by rw [y2]; exact z1, by omega, by rw [up1_n (by omega)]; exact z3, ?_⟩
      rw [y1, s1, s2]; exact z4
  · obtain ⟨e1, e2, e3, e4, e5⟩ := m1 34 (by decide) (by decide)
    rw [e3, e4, e5]; exact j5 z hz
