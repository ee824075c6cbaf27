/-! ===== Service.turnLine over views ===== -/
def nmo (v : Vw) (x : Nat) : Nat := (vM v 10 (x / 64) 0).toNatClampNeg
def addb (f : Nat → Bool) (ns : List Nat) : Nat → Bool := ns.foldl (fun g n => up1 g n true) f
def h_X4_turnLine (i0 : Nat) : PV Int32 := fun P _ v => ∃ l t, (vN v 3 i0 4 = idc 15 l ∧ l < vK v 15 ∧ vN v 3 i0 3 = idc 14 t ∧ t < vK v 14 ∧ 10 + 3 * (vW v l).length ≤ vb v ∧ ∀ x, x ∈ vW v l → x % 64 = 10 ∧ ∃ n, vM v 10 (x / 64) 0 = nI n ∧ n < 128) ∧
  (vM v 3 i0 0 ≠ 0 → P (nI (vW v l).length) (uWl (uBs (ub (uM v 3 i0 0 0) 10) t (addb (vB v t) ((vW v l).map (nmo v))) (3 * (vW v l).length)) l [] 0)) ∧ (vM v 3 i0 0 = 0 → P 0 (ub (uM v 3 i0 0 1) 10))
def tF (i0 b : Nat) : (Int32 → PT Int32) → Int32 → PT Int32 := fun r8 => fun u7 => gI 3 i0 0 fun v9 => cnd (v9 = 0) (isK 19 (idc 19 b) fun i11 => bn0 (f_J29_hasNext i11) fun v13 => cnd (v13 = 0) (rt u7) (gR 3 i0 3 fun v15 => bn0 (f_J29_next i11) fun v16 => isK 10 v16 fun i17 => gI 10 i17 0 fun v19 => isK 14 v15 fun i20 => bn0 (f_J18_set i20 v19) fun _ => bn0 (f_J29_remove i11) fun _ => r8 (u7 + (1 : Int32)))) (rt u7)
theorem up1_1 {α : Type} {f : Nat → α} {a : Nat} {x y : α} : up1 (up1 f a x) a y = up1 f a y := by
  funext k
  unfold up1
  split <;> rfl
theorem up1_e {α : Type} {f : Nat → α} {a : Nat} : up1 f a (f a) = f := by
  funext k
  unfold up1
  split
  · rename_i h; rw [h]
  · rfl
/-- the first item's end -/
theorem p_remove {C : St} {o6 : Nat → Nat} {l b nd x nx : Nat} {ns tl : List Nat} {P : Unit → St → Prop} {X : String → St → Prop} (h : LLi C o6 l (nd :: ns) (x :: tl)) (z0 : sN C 19 b 0 = idc 16 nd) (z1 : sN C 19 b 1 = nx) (hnx : nx = nul ∨ ∃ q, nx = idc 16 q ∧ q ≠ nd) (z2 : sN C 19 b 4 = idc 15 l) (z3 : sM C 19 b 3 = sM C 15 l 0) (z4 : sM C 19 b 2 = 0 + 1)
    (k : ∀ C' C2, LR C C' o6 o6 l 0 → LLi C' o6 l ns tl → IT C' C2 → sN C2 19 b 4 = idc 15 l → sM C2 19 b 3 = sM C' 15 l 0 → sM C2 19 b 2 = 0 → sN C2 19 b 1 = nx → sC C2 = sC C' ∧ sS C2 = sS C' → P () C2) : f_J29_remove b P X C := by
  unfold f_J29_remove
  refine bn0_i ?_
  unfold f_J29_checkForComodification
  refine gR_i (isK_i z2 (gI_i (gI_i (cnd_i (fun _ => rt_i (gR_i ?_)) fun q => absurd z3.symm q))))
  rw [z0]
  refine cnd_i (fun q => absurd q (idc_nn (by decide))) fun _ => gR_i ?_
  rw [z0]
  refine isK_i rfl (gR_i (gR_i (gR_i ?_)))
  rw [z0, z2]
  refine isK_i rfl (bn0_i (p_unlink h fun C' lr hl hm e1 e2 => ?_))
  refine gR_i (gR_i ?_)
  rw [e1, z0, z1]
  have hne : nx ≠ idc 16 nd := by
    rcases hnx with q | ⟨q, q1, q2⟩
    · rw [q]; exact fun r => absurd r.symm (idc_nn (by decide))
    · rw [q1]; exact fun r => q2 (idc_inj (by decide) (by decide) r).2
  have hc : cmpN nx ∧ cmpN (idc 16 nd) := by
    refine ⟨?_, Or.inr (Or.inl (by rw [idc_mod (by decide)]; decide))⟩
    rcases hnx with q | ⟨q, q1, q2⟩
    · exact Or.inl q
    · exact Or.inr (Or.inl (by rw [q1, idc_mod (by decide)]; decide))
  refine bnd_i (asr_i hc (cnd_i (fun q => absurd q hne) fun _ => gI_i ?_))
  rw [e2, z4]
  refine pI_i (rt_i (pR_i (gI_i ?_)))
  rw [sM_wN, sM_wM, up3_k (by decide), e2, z3]
  refine pI_i (rt_i ?_)
  refine k C' _ lr hl (((IT.pM C' b 2 _ (Or.inr rfl)).tr (IT.pN _ b 0 _ (Or.inr rfl))).tr (IT.pM _ b 3 _ (Or.inr rfl))) ?_ ?_ ?_ ?_ ⟨rfl, rfl⟩
  · rw [sN_wM, sN_wN, up3_k (by decide), sN_wM, e1]; exact z2
  · rw [sM_wM, up3_s, hm]
  · rw [sM_wM, up3_k (by decide), sM_wN, sM_wM, up3_s]; decide +kernel
  · rw [sN_wM, sN_wN, up3_k (by decide), sN_wM, e1]; exact z1
theorem BR.oth {C C' : St} {o o' : Nat → Nat} {b c : Nat} (h : BR C C' o o' b c) {K : Nat} (k1 : K ≠ 14) (k2 : K ≠ 34) : sM C' K = sM C K ∧ sN C' K = sN C K ∧ sG C' K = sG C K ∧ sL C' K = sL C K ∧ sK C' K = sK C K := h.2.2.2.2.1 K k1 k2
theorem LLi.of {C C' : St} {o : Nat → Nat} {l : Nat} {ns xs : List Nat} (h : LLi C o l ns xs) (h5 : sM C' 15 = sM C 15 ∧ sN C' 15 = sN C 15) (h6 : sN C' 16 = sN C 16 ∧ sK C' 16 = sK C 16) : LLi C' o l ns xs := by
  unfold LLi at h ⊢
  rw [h5.1, h5.2, h6.1, h6.2]; exact h
theorem t_key {i0 b t l : Nat} {P : Int32 → St → Prop} {X : String → St → Prop} : ∀ (xs : List Nat) (v : Vw) (C : St) (j : Nat), WF C v → vW v l = xs → sN C 19 b 4 = idc 15 l → sM C 19 b 3 = sM C 15 l 0 → sM C 19 b 2 = 0 → sN C 19 b 1 = sN C 15 l 2 → vM v 3 i0 0 = 0 → vN v 3 i0 3 = idc 14 t → t < vK v 14 → l < vK v 15 → 3 * xs.length ≤ vb v → (∀ x, x ∈ xs → x % 64 = 10 ∧ ∃ n, vM v 10 (x / 64) 0 = nI n ∧ n < 128) →
    (∀ C', WF C' (uWl (uBs v t (addb (vB v t) (xs.map (nmo v))) (3 * xs.length)) l [] 0) → P (nI (j + xs.length)) C') → lpN (tF i0 b) (xs.length + 1) (nI j) P X C := by
  intro xs
  induction xs with
  | nil =>
    intro v C j w hw z2 z3 z4 z1 hd ht ht14 hl15 hb hx hP
    show tF i0 b (lpN (tF i0 b) 0) (nI j) P X C
    unfold tF
    obtain ⟨o5, o4, o6, jj⟩ := w.jo
    obtain ⟨ns, h1, h2, h3, h4, h5, h6⟩ := LL_iff.mp (jj.2.2.1 l (by rw [w.2.1 15 rfl]; exact hl15))
    rw [hw] at h3
    obtain ⟨x1, x2, x3⟩ := w.1 3 rfl
    refine gI_i (cnd_i (fun _ => isK_i rfl (bn0_i (p_hasNext z2 z4 h3 ?_))) fun q => absurd (by rw [x1]; exact hd) q)
    rw [if_pos (show nI ([] : List Nat).length ≤ 0 from by decide +kernel)]
    refine cnd_i (fun _ => rt_i ?_) fun q => absurd rfl q
    refine hP C ?_
    have e : uWl (uBs v t (addb (vB v t) (([] : List Nat).map (nmo v))) (3 * ([] : List Nat).length)) l [] 0 = v := by
      unfold uWl uBs
      show (vM v, vN v, vL v, vK v, vZ v, vE v, up1 (vB v) t (vB v t), up1 (vW v) l [], vQ v, vb v - 0 - 0, vo v) = v
      rw [up1_e, ← hw, up1_e]
      rfl
    rw [e]; exact w
  | cons x tl ih =>
    intro v C j w hw z2 z3 z4 z1 hd ht ht14 hl15 hb hx hP
    rw [List.length_cons] at hb
    show tF i0 b (lpN (tF i0 b) (tl.length + 1)) (nI j) P X C
    generalize hL : lpN (tF i0 b) (tl.length + 1) = L at ih ⊢
    unfold tF
    have w3 := w.2.2.1
    have w15 : sK C 15 = vK v 15 := w.2.1 15 rfl
    obtain ⟨o5, o4, o6, jj⟩ := w.jo
    obtain ⟨ns, hLL⟩ := LL_iff.mp (jj.2.2.1 l (by rw [w15]; exact hl15))
    rw [hw] at hLL
    have hLL0 := hLL
    obtain ⟨h1, h2, h3, h4, h5, h6⟩ := hLL
    rcases ns with _ | ⟨nd, ns⟩
    · rw [List.length_cons] at h1; cases h1
    rw [List.length_cons] at h2 h3 h6
    rw [List.length_cons, if_neg (by omega), gd_0] at h4
    obtain ⟨a1, a2, a3, a4, a5, a6⟩ := h6 0 (by omega)
    rw [gd_0] at a1 a2 a4 a5 a6
    rw [gd_0] at a4
    generalize hnx : (if 0 + 1 < tl.length + 1 then idc 16 ((nd :: ns).getD (0 + 1) 0) else nul) = nx at a5
    have hnx2 : nx = nul ∨ ∃ q, nx = idc 16 q ∧ q ≠ nd := by
      by_cases s : 0 + 1 < tl.length + 1
      · rw [if_pos s] at hnx
        refine Or.inr ⟨_, hnx.symm, fun r => ?_⟩
        exact (h6 1 (by omega)).2.2.1 0 (by omega) (by rw [gd_0]; exact r.symm)
      · rw [if_neg s] at hnx
        exact Or.inl hnx.symm
    obtain ⟨x1, x2, x3⟩ := w.1 3 rfl
    have hnn : ¬ nI (tl.length + 1) ≤ 0 := nI_nle (by omega) (by omega)
    refine gI_i (cnd_i (fun _ => isK_i rfl (bn0_i (p_hasNext z2 z4 h3 ?_))) fun q => absurd (by rw [x1]; exact hd) q)
    rw [if_neg hnn]
    refine cnd_i (fun q => absurd q (by decide)) fun _ => gR_i ?_
    rw [x2, ht]
    refine bn0_i (p_next (z1.trans h4) z2 z3 z4 h3 hnn a4 a5 ?_)
    have t2 : IT C (wM (wN (wN C 19 b 0 (idc 16 nd)) 19 b 1 nx) 19 b 2 (0 + 1)) := ((IT.pN C b 0 _ (Or.inr rfl)).tr (IT.pN _ b 1 _ (Or.inr rfl))).tr (IT.pM _ b 2 _ (Or.inr rfl))
    have s0 : sN (wM (wN (wN C 19 b 0 (idc 16 nd)) 19 b 1 nx) 19 b 2 (0 + 1)) 19 b 0 = idc 16 nd := by rw [sN_wM, sN_wN, up3_k (by decide), sN_wN, up3_s]
    have s1 : sN (wM (wN (wN C 19 b 0 (idc 16 nd)) 19 b 1 nx) 19 b 2 (0 + 1)) 19 b 1 = nx := by rw [sN_wM, sN_wN, up3_s]
    have s2 : sN (wM (wN (wN C 19 b 0 (idc 16 nd)) 19 b 1 nx) 19 b 2 (0 + 1)) 19 b 4 = idc 15 l := by rw [sN_wM, sN_wN, up3_k (by decide), sN_wN, up3_k (by decide)]; exact z2
    have s3 : sM (wM (wN (wN C 19 b 0 (idc 16 nd)) 19 b 1 nx) 19 b 2 (0 + 1)) 19 b 3 = sM C 15 l 0 := by rw [sM_wM, up3_k (by decide), sM_wN, sM_wN]; exact z3
    have s4 : sM (wM (wN (wN C 19 b 0 (idc 16 nd)) 19 b 1 nx) 19 b 2 (0 + 1)) 19 b 2 = 0 + 1 := by rw [sM_wM, up3_s]
    have s5 : sC (wM (wN (wN C 19 b 0 (idc 16 nd)) 19 b 1 nx) 19 b 2 (0 + 1)) = sC C := rfl
    have s6 : sS (wM (wN (wN C 19 b 0 (idc 16 nd)) 19 b 1 nx) 19 b 2 (0 + 1)) = sS C := rfl
    generalize wM (wN (wN C 19 b 0 (idc 16 nd)) 19 b 1 nx) 19 b 2 (0 + 1) = C2 at t2 s0 s1 s2 s3 s4 s5 s6 ⊢
    have w2 : WF C2 v := w.it (d := 0) t2 ⟨by omega, by omega⟩
    obtain ⟨hx1, n, hx2, hx3⟩ := hx x List.mem_cons_self
    refine isK_i (i := x / 64) (by rw [← hx1]; exact (idc_of x).symm) (gI_i ?_)
    have e10 : sM C2 10 (x / 64) 0 = nI n := by rw [(w2.1 10 rfl).1]; exact hx2
    rw [e10]
    refine isK_i rfl (bn0_i ?_)
    obtain ⟨p5, p4, p6, jj2⟩ := w2.jo
    obtain ⟨ns2, hLL2⟩ := LL_iff.mp (jj2.2.2.1 l (by rw [w2.2.1 15 rfl]; exact hl15))
    rw [hw] at hLL2
    obtain ⟨y1, y2, y3, y4, y5⟩ := t2 15 (by decide) (by decide)
    obtain ⟨y6, y7, y8, y9, y10⟩ := t2 16 (by decide) (by decide)
    have hns2 : ∃ ns3, ns2 = nd :: ns3 := by
      obtain ⟨g1, g2, g3, g4, g5, g6⟩ := hLL2
      rcases ns2 with _ | ⟨nd2, ns3⟩
      · rw [List.length_cons] at g1; cases g1
      · rw [List.length_cons, if_neg (by omega), gd_0, y2, h4] at g4
        exact ⟨ns3, by rw [(idc_inj (by decide) (by decide) g4).2]⟩
    obtain ⟨ns3, rfl⟩ := hns2
    refine p_set (jj2.2.1 t (by rw [w2.2.1 14 rfl]; exact ht14)) hx3 ⟨by omega, by omega⟩ fun C3 o4' br hbs => ?_
    have w4 : WF C3 (uBs v t (up1 (vB v t) n true) 3) := w2.br jj2 br hbs (Nat.le_refl _)
    obtain ⟨q1, q2, q3, q4, q5⟩ := br.oth (K := 15) (by decide) (by decide)
    obtain ⟨q6, q7, q8, q9, q10⟩ := br.oth (K := 16) (by decide) (by decide)
    obtain ⟨r1, r2, r3, r4, r5⟩ := br.oth (K := 19) (by decide) (by decide)
    have hLL3 : LLi C3 p6 l (nd :: ns3) (x :: tl) := hLL2.of ⟨q1, q2⟩ ⟨q7, q10⟩
    refine bn0_i (p_remove hLL3 (by rw [r2]; exact s0) (by rw [r2]; exact s1) hnx2 (by rw [r2]; exact s2) (by rw [r1, q1, y1]; exact s3) (by rw [r1]; exact s4) fun C4 C5 lr hl5 it5 f2 f3 f4 f1 fc => ?_)
    obtain ⟨k5, k4, k6, jj4⟩ := w4.jo
    have jj5 : JWo C3 (uBs v t (up1 (vB v t) n true) 3) k5 k4 p6 := by
      refine ⟨jj4.1, jj4.2.1, fun i hi => ?_, jj4.2.2.2.1, jj4.2.2.2.2⟩
      have := jj2.2.2.1 i (by rw [← q5]; exact hi)
      unfold LL at this ⊢
      rw [q1, q2, q7, q10]
      exact this
    have w6 : WF C4 (uWl (uBs v t (up1 (vB v t) n true) 3) l tl 0) := w4.lr jj5 lr (LL_iff.mpr ⟨ns3, hl5⟩) (Nat.le_refl _)
    have w7 : WF C5 (uWl (uBs v t (up1 (vB v t) n true) 3) l tl 0) := w6.it (d := 0) it5 ⟨by omega, by omega⟩
    rw [nI_1]
    obtain ⟨m1, m2, m3, m4, m5⟩ := it5 15 (by decide) (by decide)
    have hz1 : sN C5 19 b 1 = sN C5 15 l 2 := by
      obtain ⟨g1, g2, g3, g4, g5, g6⟩ := hLL3
      obtain ⟨b1, b2, b3, b4, b5, b6⟩ := hl5
      obtain ⟨c1, c2, c3, c4, c5, c6⟩ := g6 0 (by rw [List.length_cons]; omega)
      rw [f1, m2, b4, ← hnx]
      rw [gd_0, q7, y7, a5, ← hnx] at c5
      rw [c5, List.length_cons, gd_s]
      by_cases s : tl.length = 0
      · rw [if_pos s, if_neg (by omega)]
      · rw [if_neg s, if_pos (by omega)]
    refine ih (uWl (uBs v t (up1 (vB v t) n true) 3) l tl 0) C5 (j + 1) w7 up1_s f2 (by rw [m1]; exact f3) f4 hz1 hd ht ht14 hl15 ?_ (fun y hy => hx y (List.mem_cons_of_mem _ hy)) fun C' w8 => ?_
    · show 3 * tl.length ≤ vb v - 3 - 0
      omega
    · have := hP C' ?_
      · rw [List.length_cons, show j + (tl.length + 1) = j + 1 + tl.length by omega] at this
        exact this
      · have e : uWl (uBs (uWl (uBs v t (up1 (vB v t) n true) 3) l tl 0) t (addb (vB (uWl (uBs v t (up1 (vB v t) n true) 3) l tl 0) t) (tl.map (nmo (uWl (uBs v t (up1 (vB v t) n true) 3) l tl 0)))) (3 * tl.length)) l [] 0 = uWl (uBs v t (addb (vB v t) ((x :: tl).map (nmo v))) (3 * (x :: tl).length)) l [] 0 := by
          have hnm : nmo v x = n := by unfold nmo; rw [hx2, nI_clamp (by omega)]
          have e1 : vB (uWl (uBs v t (up1 (vB v t) n true) 3) l tl 0) = up1 (vB v) t (up1 (vB v t) n true) := rfl
          have e2 : nmo (uWl (uBs v t (up1 (vB v t) n true) 3) l tl 0) = nmo v := rfl
          rw [e1, e2, up1_s, List.map_cons, hnm]
          show (vM v, vN v, vL v, vK v, vZ v, vE v, up1 (up1 (vB v) t (up1 (vB v t) n true)) t (addb (up1 (vB v t) n true) (tl.map (nmo v))), up1 (up1 (vW v) l tl) l [], vQ v, vb v - 3 - 0 - 3 * tl.length - 0, vo v) = (vM v, vN v, vL v, vK v, vZ v, vE v, up1 (vB v) t (addb (up1 (vB v t) n true) (tl.map (nmo v))), up1 (vW v) l [], vQ v, vb v - 3 * (tl.length + 1) - 0, vo v)
          rw [up1_1, up1_1, show vb v - 3 - 0 - 3 * tl.length - 0 = vb v - 3 * (tl.length + 1) - 0 by omega]
        rw [← e]; exact w8
theorem s_X4_turnLine (i0 : Nat) : Sim (h_X4_turnLine i0) (f_X4_turnLine i0) := fun P' X' v P X C w hP hX h => by
  obtain ⟨l, t, ⟨hl, hl15, ht, ht14, hb, hx⟩, hup, hdn⟩ := h
  have w3 := w.2.2.1
  obtain ⟨x1, x2, x3⟩ := w.1 3 rfl
  unfold f_X4_turnLine
  refine gI_i (bnd_i ?_)
  rw [x1]
  have main : ∀ u : Int32, u = 0 ∨ u = 1 → (u = 0 → vM v 3 i0 0 ≠ 0) → (u ≠ 0 → vM v 3 i0 0 = 0) → (pZ 3 i0 0 u <| gR 3 i0 4 fun v3 => isK 15 v3 fun i4 => bn0 (f_J19_iterator_15 i4) fun v6 => lp (σ := Int32) (fun r8 => fun u7 => gI 3 i0 0 fun v9 => cnd (v9 = 0) (isK 19 v6 fun i11 => bn0 (f_J29_hasNext i11) fun v13 => cnd (v13 = 0) (rt u7) (gR 3 i0 3 fun v15 => bn0 (f_J29_next i11) fun v16 => isK 10 v16 fun i17 => gI 10 i17 0 fun v19 => isK 14 v15 fun i20 => bn0 (f_J18_set i20 v19) fun _ => bn0 (f_J29_remove i11) fun _ => r8 (u7 + (1 : Int32)))) (rt u7)) (0 : Int32)) P X C := by
    intro u hu hu0 hu1
    refine ⟨hu, gR_i ?_⟩
    have w1 := w.wM (K := 3) (i := i0) (j := 0) (x := u) rfl
    have c1 : sC (wM C 3 i0 0 u) = sC C := rfl
    have c2 : sS (wM C 3 i0 0 u) = sS C := rfl
    have c3 : sN (wM C 3 i0 0 u) = sN C := rfl
    generalize wM C 3 i0 0 u = C1 at w1 c1 c2 c3 ⊢
    rw [c3, x2, hl]
    obtain ⟨o5, o4, o6, jj⟩ := w1.jo
    obtain ⟨ns, h1, h2, h3, h4, h5, h6⟩ := LL_iff.mp (jj.2.2.1 l (by rw [w1.2.1 15 rfl]; exact hl15))
    have hvW : vW (uM v 3 i0 0 u) l = vW v l := rfl
    rw [hvW] at h1 h2 h3 h4 h5 h6
    refine isK_i rfl (bn0_i (p_iter h3 h2 (fun q => ?_) (fun q => by rw [h4, if_pos q]) ⟨by omega, by omega⟩ fun b C' it z2 z3 z4 z1 zc => ?_))
    · rw [h5, h4, if_neg (by omega), if_neg (by omega), q]
    · have w2 : WF C' (ub (uM v 3 i0 0 u) 10) := w1.it it zc
      obtain ⟨y1, y2, y3, y4, y5⟩ := it 15 (by decide) (by decide)
      show lp (tF i0 b) (0 : Int32) P X C'
      rw [← nI_0]
      by_cases u0 : u = 0
      · subst u0
        refine ⟨(vW v l).length + 1, t_key (t := t) (l := l) (vW v l) (ub (uM v 3 i0 0 0) 10) C' 0 w2 rfl z2 (by rw [y1]; exact z3) z4 (by rw [y2]; exact z1) up3_s ht ht14 hl15 ?_ (fun x hx' => ?_) fun C2 w4 => ?_⟩
        · show 3 * _ ≤ vb v - 10
          omega
        · obtain ⟨q1, n, q2, q3⟩ := hx x hx'
          refine ⟨q1, n, ?_, q3⟩
          show up3 (vM v) 3 i0 0 0 10 (x / 64) 0 = _
          rw [up3_o (by decide)]; exact q2
        · rw [Nat.zero_add]
          refine hP _ _ _ w4 ?_
          have e : nmo (ub (uM v 3 i0 0 0) 10) = nmo v := by
            funext x
            unfold nmo
            show (up3 (vM v) 3 i0 0 0 10 (x / 64) 0).toNatClampNeg = _
            rw [up3_o (by decide)]
          rw [e]
          exact hup (hu0 rfl)
      · refine ⟨1, ?_⟩
        show tF i0 b (lpN (tF i0 b) 0) (nI 0) P X C'
        unfold tF
        have e3 : sM C' 3 i0 0 = u := by
          rw [(w2.1 3 rfl).1]; exact up3_s
        refine gI_i (cnd_i (fun q => absurd (e3.symm.trans q) u0) fun _ => rt_i ?_)
        rw [nI_0]
        have u1 : u = 1 := hu.resolve_left u0
        subst u1
        exact hP _ _ _ w2 (hdn (hu1 u0))
  refine cnd_i (fun q => rt_i (main 1 (Or.inr rfl) (fun r => absurd r (by decide)) fun _ => q)) fun q => rt_i (main 0 (Or.inl rfl) (fun _ => q) fun r => absurd rfl r)
