/-! ===== Family.end ===== -/
theorem CCh.less {U : (Nat → List Nat) → Prop} {nL : Nat} {v : Vw} {m m0 : Mst} {o : Nat × Int64} {b T b' T' : Nat} (h : CCh U nL v m m0 o b T) (hb : b' ≤ b) (hT : T ≤ T') : CCh U nL v m m0 o b' T' := ⟨h.1.less hb hT, h.2.1, h.2.2⟩
theorem MR.eqv {v v' : Vw} {m : Mst} (h : MR v m) (e1 : vM v' = vM v) (e2 : vN v' = vN v) (e3 : vL v' = vL v) : MR v' m := by
  unfold MR at h ⊢
  rw [e1, e2, e3]; exact h
theorem c_endFam0 {v : Vw} {m m0 : Mst} {o : Nat × Int64} {b T f : Nat} (h : CC v m m0 o b T) (hf : f < nn m 46) (h0 : m 51 f = 0) {P : Int32 → Vw → Prop} {X : String → Vw → Prop} (hP : P 0 v) : h_X11_end f P X v := by
  unfold h_X11_end
  exact hgI_e (h.1.f 10 5 51 (by decide) hf) (hcnd_t h0 (hasr_i (Or.inl rfl) (hrt_i hP)))
def efF (f : Nat) : (Int32 → PV Int32) → Int32 → PV Int32 := fun r13 => fun u12 => hcnd (u12 < 0) (hasr (((1 : Int32) = 0) ∨ ((1 : Int32) = 1)) (hrt (1 : Int32))) (hgR 10 f 10 fun v15 => hisK 0 v15 fun i16 => hgR 0 i16 9 fun v18 => hisK 37 v18 fun i19 => haR 37 i19 u12 fun v21 => hisK 3 v21 fun i22 => hbn0 (h_X4_tell i22 (idc 10 f)) (fun _ => hgR 10 f 8 fun v25 => hisK 14 v25 fun i26 => hbn0 (h_J18_nextSetBit i26 (u12 + (1 : Int32))) (fun v28 => r13 v28)))
theorem c_endFam {v : Vw} {m m0 : Mst} {o : Nat × Int64} {b T f : Nat} (h : CC v m m0 o b T) (hf : f < nn m 46) (hF : nn m 46 ≤ 60) (hg : m 51 f ≠ 0) (hw : wOK m) (ht : ∀ s, s < 4 → m 69 (60 * s + f) = 0) {P : Int32 → Vw → Prop} {X : String → Vw → Prop} (hP : ∀ v', CC v' (mEF m f) m0 o b T → P 1 v') : h_X11_end f P X v := by
  unfold h_X11_end
  refine hgI_e (h.1.f 10 5 51 (by decide) hf) (hcnd_f hg (hpZ_i (Or.inl rfl) ?_))
  have h1 : CCh (fun W => gUn W (m 51) (m 69) (nn m 46) (m 57) (m 54) (nn m 52)) (nn m 19) (uM v 10 f 5 0) (up2 m 51 f 0) m0 o (b + 40 + 260) T := ⟨h.1.ungood hf hg, h.2.1.oM rfl, h.2.2⟩
  generalize uM v 10 f 5 0 = v1 at h1 ⊢
  refine hgR_e (h1.1.hT10 f hf) (hgI_e (h1.1.hN10 f hf) (hisK_i (hbn0_i ?_)))
  refine c_write (k := (3 : Int32)) (n := nI f) h1 (hw.o (by decide)) ⟨3, by decide, by decide +kernel⟩ ⟨f, by omega, rfl⟩ fun v2 h2 => ?_
  have o1 : ∀ F, F ≠ 77 ∧ F ≠ 78 ∧ F ≠ 79 ∧ F ≠ 80 ∧ F ≠ 81 → F ≠ 51 → mW (up2 m 51 f 0) 3 (nI f) F = m F := fun F h h2 => by rw [mW_o h, up2_o h2]
  have e51 : mW (up2 m 51 f 0) 3 (nI f) 51 = up1 (m 51) f 0 := by rw [mW_o (by decide), up2_r]
  have hPf : ∀ v', CC v' (mTl (mW (up2 m 51 f 0) 3 (nI f)) f 4) m0 o b T → P 1 v' := hP
  generalize hm2 : mW (up2 m 51 f 0) 3 (nI f) = m2 at h2 o1 e51 hPf
  have n46 : nn m2 46 = nn m 46 := by unfold nn; rw [o1 46 (by decide) (by decide)]
  have n19 : nn m2 19 = nn m 19 := by unfold nn; rw [o1 19 (by decide) (by decide)]
  have n52 : nn m2 52 = nn m 52 := by unfold nn; rw [o1 52 (by decide) (by decide)]
  have hf2 : f < nn m2 46 := by omega
  obtain ⟨a1, a2, a3, a4⟩ := h2.1.hAu f hf2
  have hct := h2.1.hCt
  have hct14 := hct.2.2.2.2.2.2.2.2.2.1
  have hct15 := hct.2.2.2.2.2.2.2.2.2.2.1
  refine hgR_e a1 (hisK_i (hbn0_i ?_))
  generalize hau : vN v2 10 f 8 / 64 = au at a1 a2 a3 a4 ⊢
  obtain ⟨hs, hhs⟩ : ∃ hs : Nat → Bool, ∀ k, hs k = (decide (k < 4) && hrs (m2 57) (m2 54) (nn m2 52) k f) := ⟨_, fun _ => rfl⟩
  have hBu : vB v2 au = hs := funext fun k => by rw [hhs]; exact a4 k
  have h4 : ∀ k, 4 ≤ k → hs k = false := fun k hk => by rw [hhs, decide_eq_false (by omega)]; rfl
  have hbud := h2.1.bud
  have hbase : h_J18_nextSetBit au (0 : Int32) (fun r v' => (fun v11 => hlp (σ := Int32) (efF f) v11) r P X v') (fun _ _ => False) v2 := by
    refine ⟨0, ⟨nI_0.symm, by decide, a3, fun k hk => by rw [hBu]; exact h4 k (by omega)⟩, ?_⟩
    rw [hBu]
    have fin : P 1 (tellV v2 f hs 4) := by
      refine hPf _ ⟨?_, ?_, ?_⟩
      · have hl := h2.1.less (b' := b + 16) (T' := T) (by omega) (Nat.le_refl _)
        rw [← n19] at hl
        exact hl.told (mo := m) hf2 (by omega) hhs e51 (o1 69 (by decide) (by decide)) n46 (o1 57 (by decide) (by decide)) (o1 54 (by decide) (by decide)) n52 hg ht
      · obtain ⟨q1, q2, q3, q4, q5, q6, q7, q8⟩ := tellV_fr (v := v2) (f := f) (hs := hs) 4
        exact h2.2.1.eqv q1 q2 q3
      · obtain ⟨q1, q2, q3, q4, q5, q6, q7, q8⟩ := tellV_fr (v := v2) (f := f) (hs := hs) 4
        rw [q7]; exact h2.2.2
    have key : ∀ d j, j ≤ 4 → 4 ≤ j + d → ∀ n, d < n → hlpN (efF f) n (nsb hs j) P X (tellV v2 f hs j) := by
      intro d
      induction d with
      | zero =>
        intro j hj4 hj n hn
        obtain ⟨n, rfl⟩ : ∃ k, n = k + 1 := ⟨n - 1, by omega⟩
        have : nsb hs j = -1 := by
          rcases nsb_at h4 j with ⟨q, -⟩ | ⟨k, k1, k2, -⟩
          · exact q
          · omega
        rw [this]
        refine hcnd_t (by decide) (hasr_i (Or.inr rfl) (hrt_i ?_))
        rw [show j = 4 by omega]; exact fin
      | succ d ih =>
        intro j hj4 hj n hn
        obtain ⟨n, rfl⟩ : ∃ k, n = k + 1 := ⟨n - 1, by omega⟩
        rcases nsb_at h4 j with ⟨q, q2⟩ | ⟨k, k1, k2, k3, k4, k5⟩
        · rw [q]
          refine hcnd_t (by decide) (hasr_i (Or.inr rfl) (hrt_i ?_))
          rw [← tellV_skip (j := j) 4 (by omega) fun i h1 _ => q2 i h1]; exact fin
        · rw [k4, ← tellV_skip (j := j) k k1 k5]
          obtain ⟨q1, q2, q3, q4, q5, q6, q7, q8⟩ := tellV_fr (v := v2) (f := f) (hs := hs) k
          obtain ⟨p1, p2, p3, p4, p5, p6, p7, p8⟩ := tellV_fr (v := v2) (f := f) (hs := hs) (k + 1)
          obtain ⟨s1, s2, s3, s4⟩ := h2.1.hSe k k2
          have hun := h2.1.hUn k k2
          refine hcnd_f (nI_pos (by omega)) (hgR_e (x := idc 0 0) (by rw [q2]; exact h2.1.hT10 f hf2) (hisK_i (hgR_e (x := idc 37 0) (by rw [q2]; exact h2.1.s9) (hisK_i (haR_e (n := k) rfl (by rw [q3, h2.1.hLn.2.2.1]; exact k2) (by omega) (by rw [q2]; exact s1) (hisK_i (hbn0_i ?_)))))))
          have hlen : (vW v2 (6 + k)).length < 4096 := by
            have hsub : ∀ x, x ∈ vW v2 (6 + k) → x ∈ (List.range 60).map (idc 10) := fun x hx => by
              obtain ⟨g, g1, g2, -⟩ := (hun.2 x).mp hx
              exact List.mem_map.mpr ⟨g, List.mem_range.mpr (by omega), g2.symm⟩
            have := List.Nodup.length_le_of_subset hun.1 hsub
            rw [List.length_map, List.length_range] at this
            omega
          refine c_tell (v := v2) (s := k) (f := f) (hs := hs) k3 s2 s3 (h2.1.hN10 f hf2) (by omega) (by omega) (by omega) rfl (by omega) hlen ?_
          refine hgR_e (x := idc 14 au) (by rw [p2]; exact a1) (hisK_i (hbn0_i ?_))
          have hau2 : vB (tellV v2 f hs (k + 1)) au = hs := by
            rw [tellV_Bo (k + 1) fun s hs' => by omega]; exact hBu
          rw [nI_1]
          refine ⟨k + 1, ⟨rfl, by omega, by rw [p4]; exact a3, fun i hi => by rw [hau2]; exact h4 i (by omega)⟩, ?_⟩
          rw [hau2]
          exact ih (k + 1) (by omega) (by omega) n (by omega)
    exact ⟨5, key 4 0 (by decide) (by decide) 5 (by decide)⟩
  exact hbase
