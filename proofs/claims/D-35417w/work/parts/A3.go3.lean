/-! ===== an attempt goes on: both sides ===== -/
def cgR (a : Nat) (u3 : Int32) : PV Unit := hbnd (ρ := _) (α := Nat) (hcnd (u3 = (-1 : Int32)) (hrt nul) (hgR 7 a 3 fun v87 => hisK 1 v87 fun i88 => hgR 1 i88 0 fun v90 => hisK 13 v90 fun i91 => hbn0 (h_J2_get i91 u3) (fun v93 => hisK 6 v93 fun i94 => hrt (idc 6 i94)))) (fun u30 => hpR 7 a 4 u30 <| hpI 7 a 5 (0 : Int32) <| hgR 7 a 4 fun v31 => hjo (σ := Unit) (fun _ => hpI 7 a 7 (2 : Int32) <| hrt ()) fun j33 => hcnd (v31 = nul) (j33 ()) (hgR 7 a 4 fun v35 => hisK 6 v35 fun i36 => hgI 6 i36 0 fun v38 => hcnd (v38 = (6 : Int32)) (j33 ()) (hgR 7 a 4 fun v40 => hisK 6 v40 fun i41 => hgI 6 i41 0 fun v43 => hjo (σ := Unit) (fun _ => hgR 7 a 4 fun v44 => hisK 6 v44 fun i45 => hgI 6 i45 0 fun v47 => hcnd (v47 = (5 : Int32)) (hpI 7 a 7 (1 : Int32) <| hgR 7 a 11 fun v49 => hgR 7 a 0 fun v50 => hgR 7 a 8 fun v51 => hgI 7 a 9 fun v52 => hisK 0 v49 fun i53 => hisK 32 v51 fun i55 => hbn0 (h_X1_beginSession i53 v50 nul i55 v52) (fun v57 => hpI 7 a 10 v57 <| hgR 7 a 0 fun v58 => hisK 2 v58 fun i59 => hgR 2 i59 6 fun v61 => hgI 7 a 1 fun v62 => hisK 14 v61 fun i63 => hbn0 (h_J18_set i63 v62) (fun _ => hgR 7 a 0 fun v66 => hisK 2 v66 fun i67 => hgR 2 i67 7 fun v69 => hgI 7 a 2 fun v70 => hisK 14 v69 fun i71 => hbn0 (h_J18_set i71 v70) (fun _ => hrt ())))) (hrt ())) fun j75 => hcnd (v43 = (5 : Int32)) (hgR 7 a 11 fun v77 => hisK 0 v77 fun i78 => hgR 0 i78 4 fun v80 => hisK 13 v80 fun i81 => hbn0 (h_J2_size i81) (fun v83 => hcnd (v83 = (60 : Int32)) (j33 ()) (j75 ()))) (j75 ()))))
theorem CCh.astep {U : (Nat → List Nat) → Prop} {nL : Nat} {v : Vw} {m m0 : Mst} {o : Nat × Int64} {b T a : Nat} {x y : Int32} (h : CCh U nL v (up2 (up2 m 24 a x) 26 a y) m0 o b T) (ha : a < nn m 19) (S : Nat) (r : Int32) (hS : S = if r = -1 then nul else vE v (fl (vN v 7 a 3 / 64)) r.toNatClampNeg) : CCh U nL (uM (uN v 7 a 4 S) 7 a 5 0) (up2 (up2 m 24 a r) 26 a 0) m0 o b T := by
  have t := h.1.astep (a := a) (show a < nn (up2 (up2 m 24 a x) 26 a y) 19 from ha) S r hS
  rw [up2_cm (F := 26) (F' := 24) (by decide), up2_w, up2_w] at t
  exact ⟨t, (h.2.1.oN (by decide)).oM rfl, h.2.2⟩
theorem CCh.ast {U : (Nat → List Nat) → Prop} {nL : Nat} {v : Vw} {m m0 : Mst} {o : Nat × Int64} {b T : Nat} (h : CCh U nL v m m0 o b T) (a : Nat) (x : Int32) : CCh U nL (uM v 7 a 7 x) (up2 m 25 a x) m0 o b T := ⟨h.1.state a x, h.2.1.oM rfl, h.2.2⟩
/-- what the court does where the tests stopped -/
theorem c_goR {U : (Nat → List Nat) → Prop} {nL : Nat} {v : Vw} {m m0 : Mst} {o : Nat × Int64} {b T a p d l q : Nat} {k : Int32} (h : CCh U nL v m m0 o (b + 6 + 260 + 300 + 100) T) (hwk : wOK (up2 m 25 a 1)) (hS : nn m 30 ≤ 24) (ha : a < nn m 19) (hp : p < 6) (hd : d < 6) (hl : l < 6) (e20 : m 20 a = nI p) (e21 : m 21 a = nI d) (e22 : m 22 a = nI l) (N4 : vN v 7 a 4 = idc 6 q) (K0 : vM v 6 q 0 = k) (hk : k = 0 ∨ k = 5 ∨ k = 6) {P : Unit → Vw → Prop} {X : String → Vw → Prop} (h0 : k = 0 → ∀ v', CCh U nL v' m m0 o b T → P () v') (h5 : k = 5 → ∀ v', CCh U nL v' (mGr (up2 m 25 a 1) a p d l) m0 o b T → P () v') (h6 : k = 6 → ∀ v', CCh U nL v' (up2 m 25 a 2) m0 o b T → P () v') : (hgR 7 a 4 fun v31 => hjo (σ := Unit) (fun _ => hpI 7 a 7 (2 : Int32) <| hrt ()) fun j33 => hcnd (v31 = nul) (j33 ()) (hgR 7 a 4 fun v35 => hisK 6 v35 fun i36 => hgI 6 i36 0 fun v38 => hcnd (v38 = (6 : Int32)) (j33 ()) (hgR 7 a 4 fun v40 => hisK 6 v40 fun i41 => hgI 6 i41 0 fun v43 => hjo (σ := Unit) (fun _ => hgR 7 a 4 fun v44 => hisK 6 v44 fun i45 => hgI 6 i45 0 fun v47 => hcnd (v47 = (5 : Int32)) (hpI 7 a 7 (1 : Int32) <| hgR 7 a 11 fun v49 => hgR 7 a 0 fun v50 => hgR 7 a 8 fun v51 => hgI 7 a 9 fun v52 => hisK 0 v49 fun i53 => hisK 32 v51 fun i55 => hbn0 (h_X1_beginSession i53 v50 nul i55 v52) (fun v57 => hpI 7 a 10 v57 <| hgR 7 a 0 fun v58 => hisK 2 v58 fun i59 => hgR 2 i59 6 fun v61 => hgI 7 a 1 fun v62 => hisK 14 v61 fun i63 => hbn0 (h_J18_set i63 v62) (fun _ => hgR 7 a 0 fun v66 => hisK 2 v66 fun i67 => hgR 2 i67 7 fun v69 => hgI 7 a 2 fun v70 => hisK 14 v69 fun i71 => hbn0 (h_J18_set i71 v70) (fun _ => hrt ())))) (hrt ())) fun j75 => hcnd (v43 = (5 : Int32)) (hgR 7 a 11 fun v77 => hisK 0 v77 fun i78 => hgR 0 i78 4 fun v80 => hisK 13 v80 fun i81 => hbn0 (h_J2_size i81) (fun v83 => hcnd (v83 = (60 : Int32)) (j33 ()) (j75 ()))) (j75 ())))) P X v := by
  have nq : ¬ idc 6 q = nul := by unfold idc nul; omega
  have n11 : vN v 7 a 11 = idc 0 0 := h.1.hT7 a ha
  refine hgR_e N4 (hjo_i (hcnd_f nq (hgR_e N4 (hisK_i (hgI_e K0 ?_)))))
  rcases hk with e | e | e
  · refine hcnd_f (by rw [e]; decide) (hgR_e N4 (hisK_i (hgI_e K0 (hjo_i (hcnd_f (by rw [e]; decide) (hgR_e N4 (hisK_i (hgI_e K0 (hcnd_f (by rw [e]; decide) (hrt_i (h0 e v (h.less (by omega) (Nat.le_refl _)))))))))))))
  · have K1 : vM (uM v 7 a 7 1) 6 q 0 = k := by
      show up3 (vM v) 7 a 7 1 6 q 0 = k
      rw [up3_o (by decide)]; exact K0
    refine hcnd_f (by rw [e]; decide) (hgR_e N4 (hisK_i (hgI_e K0 (hjo_i (hcnd_t e (hgR_e n11 (hisK_i (hgR_e h.1.s4 (hisK_i (hbn0_i (J2sz (h.1.lt13 (by decide)) h.1.hL3.1 (hcnd_f ?_ (hgR_e N4 (hisK_i (hgI_e K0 (hcnd_t e (hpI_i ?_)))))))))))))))))
    · rw [show (60 : Int32) = nI 60 from by decide +kernel]
      exact fun t => absurd ((nI_eq (by omega) (by omega)).mp t) (by omega)
    · exact c_grant (h.ast a 1) hwk (show nn (up2 m 25 a 1) 30 ≤ 24 from hS) (show a < nn (up2 m 25 a 1) 19 from ha) hp hd hl e20 e21 e22 (h5 e)
  · exact hcnd_t e (hpI_i (hrt_i (h6 e _ ((h.less (by omega) (Nat.le_refl _)).ast a 2))))
theorem kind3 {k a b y n : Int32} (h : stO k a b y n) (ht : ¬ tst k) : k = 0 ∨ k = 5 ∨ k = 6 := by
  obtain ⟨⟨j, j1, j2⟩, -⟩ := h
  rw [j2] at ht ⊢
  rcases (by omega : j = 0 ∨ j = 1 ∨ j = 2 ∨ j = 3 ∨ j = 4 ∨ j = 5 ∨ j = 6) with q | q | q | q | q | q | q <;> subst q
  · exact Or.inl nI_0
  · exact absurd (by unfold tst; decide +kernel) ht
  · exact absurd (by unfold tst; decide +kernel) ht
  · exact absurd (by unfold tst; decide +kernel) ht
  · exact absurd (by unfold tst; decide +kernel) ht
  · exact Or.inr (Or.inl (by decide +kernel))
  · exact Or.inr (Or.inr (by decide +kernel))
theorem go_do {m m0 : Mst} {o : Nat × Int64} {T T' a : Nat} {x y u : Int32} (ha : a < nn m 19) (hI : Inv (up2 (up2 m 24 a x) 25 a 2) T) (hT : T ≤ 24) (h25 : m 25 a = 0) (h30 : nn m 30 < T) (hle : nn m 77 + pt m + 2 ≤ 4 * T) (hu : ixn u (m 10 (m 23 a).toNatClampNeg).toNatClampNeg) : ∃ M', q_go (nI a) u m = some ((), M') ∧ Inv M' T ∧ (∀ F, (F ≠ 77 ∧ F ≠ 78 ∧ F ≠ 79 ∧ F ≠ 80 ∧ F ≠ 81) → (F ≠ 30 ∧ F ≠ 31 ∧ F ≠ 32 ∧ F ≠ 33 ∧ F ≠ 34) → (F ≠ 35 ∧ F ≠ 36) → (F ≠ 5 ∧ F ≠ 6 ∧ F ≠ 28) → (F ≠ 24 ∧ F ≠ 25 ∧ F ≠ 26) → M' F = m F) ∧ ∀ (U : (Nat → List Nat) → Prop) (nL b : Nat) (v : Vw) (P : Unit → Vw → Prop) (X : String → Vw → Prop), CCh U nL v (up2 (up2 m 24 a x) 26 a y) m0 o (b + 1000) T' → (∀ v', CCh U nL v' M' m0 o b T' → P () v') → h_X8_go a u P X v := by
  have q19 : m 19 0 = nI (nn m 19) ∧ nn m 19 ≤ T := ix_nn hI.2.1.1 (by omega)
  obtain ⟨⟨p, hp, e20⟩, ⟨d, hd, e21⟩, ⟨l, hl, e22⟩, ⟨V, hV, e23⟩, -, -⟩ := hI.pAt a ha
  have e20 : m 20 a = nI p := e20
  have e21 : m 21 a = nI d := e21
  have e22 : m 22 a = nI l := e22
  have e23 : m 23 a = nI V := e23
  have hV : V < nn m 9 := hV
  obtain ⟨⟨v9, v91, v92⟩, -, -, v4⟩ := hI.pVe
  have h9 : nn m 9 = v9 := nIx v92 (by omega)
  obtain ⟨n, n1, n2, h10, hst, hpu1, rk, rk1, rk2⟩ := v4 V hV
  have h10 : m 10 V = nI n := h10
  have hst : iSt (m 11) (m 12) (m 13) (m 14) (m 15) (12 * V) n := hst
  have hc : ix (m 0 0) 30001 := hI.pTm.1
  have b5 : iBo (m 5) := hI.p5
  rw [e23, nI_clamp (by omega), h10, nI_clamp (by omega)] at hu
  obtain ⟨r, r1, r2, r3, r4⟩ := go_ex (m := m) (m0 := m0) (o := o) (T := T') (x := x) (y := y) (rk := rk) ha (by omega) hp hd hl e20 e21 e22 e23 hV (by omega) h10 n2 hst b5 hc hpu1 rk2 13 u hu (fun j hj _ _ => by have := rk1 j; omega)
  have hl2 : qlp (goF (nI a)) (u, ((12 : Int32) * nI V) + u) m = some ((r, ((12 : Int32) * nI V) + r), m) := r3 100000 (by omega)
  have hq : ∀ out, (qjo (σ := Unit) (fun _ => qw 25 60 (nI a) (2 : Int32) <| qrt ()) fun j44 => qc (r = (-1 : Int32)) (j44 ()) (qa 11 108 (((12 : Int32) * nI V) + r) fun v49 => qc (v49 = (6 : Int32)) (j44 ()) (qa 11 108 (((12 : Int32) * nI V) + r) fun v54 => qc (v54 = (5 : Int32)) (qbd (q_grant (nI a)) (fun _ => qrt ())) (qrt ())))) (up2 (up2 m 24 a r) 26 a 0) = out → q_go (nI a) u m = out := fun out ho => by
    unfold q_go
    rw [qa_e rfl (by omega) (by decide), e23]
    refine qbd_t hl2 ?_
    show qw 24 60 (nI a) r _ m = _
    rw [qw_e rfl (by omega) (by decide), qw_e rfl (by omega) (by decide)]
    exact ho
  have hcr : ∀ (U : (Nat → List Nat) → Prop) (nL b : Nat) (v : Vw) (P : Unit → Vw → Prop) (X : String → Vw → Prop), CCh U nL v (up2 (up2 m 24 a x) 26 a y) m0 o (b + 1000) T' → (∀ v1, CCh U nL v1 (up2 (up2 m 24 a x) 26 a y) m0 o (b + 6 + 260 + 300 + 100) T' → cgR a r P X v1) → h_X8_go a u P X v := fun U nL b v P X h hk => by
    unfold h_X8_go
    exact hbnd_i ⟨14, r4 U nL (b + 6 + 260 + 300 + 100) v _ X (h.less (by omega) (Nat.le_refl _)) fun v1 hv => hk v1 hv⟩
  clear r3 r4 hl2
  rcases r1 with hr | ⟨j, j1, j2⟩
  · refine ⟨up2 (up2 (up2 m 24 a r) 26 a 0) 25 a 2, hq _ ?_, hI.gs ha e23 (by omega) h10 n2 (Or.inl hr) (fun t => absurd t (by decide)), fun F _ _ _ _ q5 => by rw [up2_o q5.2.1, up2_o q5.2.2, up2_o q5.1], fun U nL b v P X h hP => hcr U nL b v P X h fun v1 hv => ?_⟩
    · show qc (r = -1) _ _ _ = _
      rw [qc_t hr, qw_e rfl (by omega) (by decide)]
      rfl
    · have h2 := (hv.less (b' := b) (by omega) (Nat.le_refl _)).astep ha nul r (by rw [if_pos hr])
      unfold cgR
      exact hbnd_i (hcnd_t hr (hrt_i (hpR_i (hpI_i (hgR_e (x := nul) up3_s (hjo_i (hcnd_t rfl (hpI_i (hrt_i (hP _ (h2.ast a 2)))))))))))
  · have hnt := r2 j j1 j2
    subst j2
    have hk := kind3 (hst j j1) hnt
    have ix12 : ((12 : Int32) * nI V) + nI j = nI (12 * V + j) := ix12p
    have K2 : up2 (up2 m 24 a (nI j)) 26 a 0 11 (12 * V + j) = m 11 (12 * V + j) := rfl
    have gs := fun s hs => hI.gs (s := s) ha e23 (by omega) h10 n2 (Or.inr ⟨j, j1, rfl⟩) hs
    have fr : ∀ F, (F ≠ 24 ∧ F ≠ 25 ∧ F ≠ 26) → up2 (up2 m 24 a (nI j)) 26 a 0 F = m F := fun F q5 => by rw [up2_o q5.2.2, up2_o q5.1]
    have hw1 : wOK (up2 (up2 (up2 m 24 a (nI j)) 26 a 0) 25 a 1) := (gs 1 (fun t => absurd t (by decide))).w24 hT
    have hrr : ∀ (U : (Nat → List Nat) → Prop) (nL b : Nat) (v : Vw) (P : Unit → Vw → Prop) (X : String → Vw → Prop), CCh U nL v (up2 (up2 m 24 a x) 26 a y) m0 o (b + 1000) T' → (m 11 (12 * V + j) = 0 → ∀ v', CCh U nL v' (up2 (up2 m 24 a (nI j)) 26 a 0) m0 o b T' → P () v') → (m 11 (12 * V + j) = 5 → ∀ v', CCh U nL v' (mGr (up2 (up2 (up2 m 24 a (nI j)) 26 a 0) 25 a 1) a p d l) m0 o b T' → P () v') → (m 11 (12 * V + j) = 6 → ∀ v', CCh U nL v' (up2 (up2 (up2 m 24 a (nI j)) 26 a 0) 25 a 2) m0 o b T' → P () v') → h_X8_go a u P X v := fun U nL b v P X h h0 h5 h6 => hcr U nL b v P X h fun v1 hv => by
      obtain ⟨w, w1, w2, w3, w4, w5⟩ := flow_of (V := V) (n := n) hv ha e23 hV h10 n2
      obtain ⟨q, q1, q2, q3, q4, q5, q6⟩ := w5 j j1
      have h2 := hv.astep ha (idc 6 q) (nI j) (by rw [if_neg (nI_nm (by omega)), w1, nI_clamp (by omega), idc_div (by decide), q1])
      have N4 : vN (uM (uN v1 7 a 4 (idc 6 q)) 7 a 5 0) 7 a 4 = idc 6 q := up3_s
      have K0 : vM (uM (uN v1 7 a 4 (idc 6 q)) 7 a 5 0) 6 q 0 = m 11 (12 * V + j) := by
        show up3 (vM v1) 7 a 5 0 6 q 0 = _
        rw [up3_o (by decide)]; exact q2
      unfold cgR
      refine hbnd_i (hcnd_f (nI_nm (by omega)) (hgR_e w1 (hisK_i (hgR_e w2 (hisK_i (hbn0_i (J2get w3 rfl (by omega) (by omega) q1 (hisK_i (hrt_i (hpR_i (hpI_i ?_))))))))))) 
      generalize uM (uN v1 7 a 4 (idc 6 q)) 7 a 5 0 = v2 at h2 N4 K0 ⊢
      exact c_goR h2 hw1 (show nn (up2 (up2 m 24 a (nI j)) 26 a 0) 30 ≤ 24 by show nn m 30 ≤ 24; omega) (show a < nn (up2 (up2 m 24 a (nI j)) 26 a 0) 19 from ha) hp hd hl e20 e21 e22 N4 K0 hk h0 h5 h6
    rcases hk with e | e | e
    · have eta : up2 (up2 (up2 m 24 a (nI j)) 26 a 0) 25 a 0 = up2 (up2 m 24 a (nI j)) 26 a 0 := by
        have t : up2 (up2 m 24 a (nI j)) 26 a 0 25 a = 0 := h25
        exact (congrArg (up2 (up2 (up2 m 24 a (nI j)) 26 a 0) 25 a) t.symm).trans up2_eta
      have g0 := gs 0 (fun _ => ⟨nI_nm (by omega), by rw [nI_clamp (by omega)]; exact e⟩)
      rw [eta] at g0
      refine ⟨up2 (up2 m 24 a (nI j)) 26 a 0, hq _ ?_, g0, fun F _ _ _ _ q5 => fr F q5, fun U nL b v P X h hP => hrr U nL b v P X h (fun _ => hP) (fun t => absurd (e.symm.trans t) (by decide)) fun t => absurd (e.symm.trans t) (by decide)⟩
      show qc (nI j = -1) _ _ _ = _
      rw [qc_f (nI_nm (by omega)), ix12, qa_e rfl (by omega) (by decide), K2, e, qc_f (by decide), qa_e rfl (by omega) (by decide), K2, e, qc_f (by decide)]
      rfl
    · refine ⟨mGr (up2 (up2 (up2 m 24 a (nI j)) 26 a 0) 25 a 1) a p d l, hq _ ?_, (gs 1 (fun t => absurd t (by decide))).gr hT h30 hle hp, fun F q1 q2 q3 q4 q5 => by rw [mGr_o q1 q2 q3 q4, up2_o q5.2.1]; exact fr F q5, fun U nL b v P X h hP => hrr U nL b v P X h (fun t => absurd (e.symm.trans t) (by decide)) (fun _ => hP) fun t => absurd (e.symm.trans t) (by decide)⟩
      have hwm : wOK (up2 (up2 m 24 a (nI j)) 26 a 0) := hw1
      have hg := q_grant_eq (m := up2 (up2 m 24 a (nI j)) 26 a 0) (a := a) (p := p) (d := d) (l := l) hwm (by omega) hp hd hl (by
        have := ix_nn hI.2.1.2.1 (by omega)
        exact this.1) (show nn m 30 < 60 by omega) e20 e21 e22
      show qc (nI j = -1) _ _ _ = _
      rw [qc_f (nI_nm (by omega)), ix12, qa_e rfl (by omega) (by decide), K2, e, qc_f (by decide), qa_e rfl (by omega) (by decide), K2, e, qc_t rfl]
      refine qbd_t hg ?_
      rfl
    · refine ⟨up2 (up2 (up2 m 24 a (nI j)) 26 a 0) 25 a 2, hq _ ?_, gs 2 (fun t => absurd t (by decide)), fun F _ _ _ _ q5 => by rw [up2_o q5.2.1]; exact fr F q5, fun U nL b v P X h hP => hrr U nL b v P X h (fun t => absurd (e.symm.trans t) (by decide)) (fun t => absurd (e.symm.trans t) (by decide)) fun _ => hP⟩
      show qc (nI j = -1) _ _ _ = _
      rw [qc_f (nI_nm (by omega)), ix12, qa_e rfl (by omega) (by decide), K2, e, qc_t rfl]
      show qw 25 60 (nI a) 2 _ _ = _
      rw [qw_e rfl (by omega) (by decide)]
      rfl
