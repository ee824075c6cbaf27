/-! ===== a person answers: both sides ===== -/
theorem anI.an {m : Mst} {T p k : Nat} (h : Inv m T) (u : Int32) (hT : T ≤ 24) (hp : p < 6) (hk : k < 3) (hle : nn m 77 + 1 + pt m ≤ 4 * T) : anI m (mAn m p k u) T := by
  unfold mAn
  split
  · exact anI.su (M := up2 m 2 (3 * p + k) u) h rfl (fun F _ q2 => up2_o q2.2.1) hT hp hk hle
  · exact anI.id (m' := up2 m 2 (3 * p + k) u) h h rfl (fun F _ q2 => up2_o q2.2.1)
theorem ans_do {m m0 : Mst} {o : Nat × Int64} {T T' p k : Nat} {ok n : Int32} (hI : Inv m T) (hT : T ≤ 24) (hT' : T' ≤ 1000) (hp : p < 6) (hk : k < 3) (hok : ok = 0 ∨ ok = 1) (hle : nn m 77 + 1 + pt m ≤ 4 * T) : ∃ r m', q_answers (nI p) (nI k) ok n m = some (r, m') ∧ (r = 0 ∨ r = 1) ∧ anI m m' T ∧ ∀ (b : Nat) (v : Vw) (P : Int32 → Vw → Prop) (X : String → Vw → Prop), CC v m m0 o (b + 300) T' → (∀ v', CC v' m' m0 o b (T' + 1) → P r v') → h_X3_answers p (nI k) ok n P X v := by
  have hw := hI.w24 hT
  have hc : ix (m 0 0) 30001 := hI.pTm.1
  have hx : ∀ (v : Vw) (P : Int32 → Vw → Prop) (X : String → Vw → Prop), h_X3_isTaken p (nI k) ok n (fun r v' => anK p r P X v') (fun _ _ => False) v → h_X3_answers p (nI k) ok n P X v := fun v P X q => by
    unfold h_X3_answers
    exact hbn0_i q
  have hst : ∀ (b : Nat) (v : Vw) (K : Int32 → PV Int32) (P : Int32 → Vw → Prop) (X : String → Vw → Prop), CC v m m0 o b T' → K (m 1 (3 * p + k)) P X v → (hgR 2 p 1 fun v1 => hisK 32 v1 fun i2 => haI 32 i2 (nI k) K) P X v := fun b v K P X h hK => by
    obtain ⟨p1, p2, p3, p4, p5, p6, p7, p8, p9⟩ := h.1.hPe p hp
    obtain ⟨l1, l2, l3⟩ := h.1.hLn.2.2.2.2.2.2.2 p hp
    exact hgR_e p2 (hisK_i (haI_e rfl (by rw [l1]; exact hk) (by omega) ((h.1.hAr.2.2.2.2 p hp).1 k hk) hK))
  have k2i : nI k = 2 ↔ k = 2 := ⟨fun q => (nI_eq (by omega) (by decide)).mp (q.trans (by decide +kernel : (2 : Int32) = nI 2)), fun q => by rw [q]; decide +kernel⟩
  by_cases q1 : m 1 (3 * p + k) = 1
  rotate_left
  · refine ⟨0, wsh m p, ?_, Or.inl rfl, (anI.id hI hI rfl fun _ _ _ => rfl).ws, fun b v P X h hP => hx v P X ?_⟩
    · unfold q_answers
      rw [qa_e ix3p (by omega) (by decide)]
      show qc (m 1 (3 * p + k) = 1) _ _ _ = _
      rw [qc_f q1]
      exact q_shift hp
    · unfold h_X3_isTaken
      exact hst _ v _ _ _ h (hcnd_f q1 (hasr_i (Or.inl rfl) (hrt_i (c_an0 (h.less (b' := b + 6) (by omega) (Nat.le_refl _)) hT' hc hp hP))))
  have an0 : ∀ u, ix (mAn m p k u 0 0) 30001 := fun u => (anI.an (k := k) hI u hT hp hk hle).1.pTm.1
  rcases hok with e | e
  · subst e
    refine ⟨0, wsh (mAn m p k (m 2 (3 * p + k) + 1)) p, ?_, Or.inl rfl, (anI.an hI _ hT hp hk hle).ws, fun b v P X h hP => hx v P X ?_⟩
    · unfold q_answers
      rw [qa_e ix3p (by omega) (by decide)]
      show qc (m 1 (3 * p + k) = 1) _ _ _ = _
      rw [qc_t q1]
      refine qbd_t (r := (0 : Int32)) (m' := m) ?_ ?_
      · show qc (nI k = 2) _ _ _ = _
        by_cases q : nI k = 2
        · rw [qc_t q]; rfl
        · rw [qc_f q]; rfl
      show qc ((0 : Int32) = 0) _ _ _ = _
      rw [qc_t rfl]
      show qa 2 18 (((3 : Int32) * nI p) + nI k) _ _ = _
      rw [qa_e ix3p (by omega) (by decide)]
      refine qbd_t (r := (1 : Int32)) (m' := m) rfl ?_
      show qw 2 18 (((3 : Int32) * nI p) + nI k) _ _ _ = _
      rw [qw_e ix3p (by omega) (by decide)]
      show qc ((0 : Int32) = 0) _ _ _ = _
      rw [qc_t rfl, qa_e ix3p (by omega) (by decide), up2_s]
      unfold mAn
      by_cases q5 : m 2 (3 * p + k) + 1 = 5
      · rw [qc_t q5, if_pos q5]
        show qbd (q_suspend (nI p) (nI k)) _ _ = _
        rw [qbd_e (q_suspend_eq (hw.o (by decide)) hp hk)]
        exact q_shift hp
      · rw [qc_f q5, if_neg q5]
        exact q_shift hp
    · unfold h_X3_isTaken
      refine hst _ v _ _ _ h (hcnd_t q1 (hjo_i (hcnd_t rfl ?_)))
      exact c_tkB (p := p) (ok := 0) (n := n) (b := b + 6) (h.less (by omega) (Nat.le_refl _)) hw hp hk (Or.inl rfl) (fun _ v' hv => c_an0 hv hT' (an0 _) hp hP) fun t => absurd t (by decide)
  · subst e
    by_cases R : k = 2 ∧ ¬ m 3 p < n
    · obtain ⟨R1, R2⟩ := R
      have hsu : anI m (mSu m p k) T := anI.su hI rfl (fun _ _ _ => rfl) hT hp hk hle
      refine ⟨0, wsh (mSu m p k) p, ?_, Or.inl rfl, hsu.ws, fun b v P X h hP => hx v P X ?_⟩
      · unfold q_answers
        rw [qa_e ix3p (by omega) (by decide)]
        show qc (m 1 (3 * p + k) = 1) _ _ _ = _
        rw [qc_t q1]
        refine qbd_t (r := (1 : Int32)) (m' := m) ?_ ?_
        · show qc (nI k = 2) _ _ _ = _
          rw [qc_t (k2i.mpr R1), qc_f one_ne, qa_e rfl hp (by decide), qc_f R2]
          rfl
        show qc ((1 : Int32) = 0) _ _ _ = _
        rw [qc_f one_ne, qc_f one_ne]
        show qa 2 18 (((3 : Int32) * nI p) + nI k) _ _ = _
        rw [qa_e ix3p (by omega) (by decide)]
        refine qbd_t (r := (0 : Int32)) (m' := m) rfl ?_
        show qw 2 18 (((3 : Int32) * nI p) + nI k) _ _ _ = _
        rw [qw_e ix3p (by omega) (by decide), Int32.add_zero, up2_eta]
        show qc ((1 : Int32) = 0) _ _ _ = _
        rw [qc_f one_ne]
        show qbd (q_suspend (nI p) (nI k)) _ _ = _
        rw [qbd_e (q_suspend_eq hw hp hk)]
        exact q_shift hp
      · unfold h_X3_isTaken
        refine hst _ v _ _ _ h (hcnd_t q1 (hjo_i (hcnd_f one_ne (hcnd_t (k2i.mpr R1) (hgI_e (h.1.f 2 3 3 (by decide) hp) (hcnd_f R2 (hbn0_i ?_)))))))
        rw [show (2 : Int32) = nI k from (k2i.mpr R1).symm]
        exact c_suspend (b := b + 6) (h.less (by omega) (Nat.le_refl _)) hw hp hk fun v' hv => hasr_i (Or.inl rfl) (hrt_i (c_an0 hv hT' hsu.1.pTm.1 hp hP))
    · have eM : mAn m p k 0 = up2 m 2 (3 * p + k) 0 := by
        unfold mAn
        rw [if_neg (by decide)]
      have hfin : anI m (if k = 2 then up2 (mAn m p k 0) 3 p n else mAn m p k 0) T := by
        obtain ⟨a1, a2, a3⟩ := anI.an (k := k) hI 0 hT hp hk hle
        split
        · exact ⟨a1, a2, fun F q1 q2 => (up2_o q2.2.2.1).trans (a3 F q1 q2)⟩
        · exact ⟨a1, a2, a3⟩
      refine ⟨1, if k = 2 then up2 (mAn m p k 0) 3 p n else mAn m p k 0, ?_, Or.inr rfl, hfin, fun b v P X h hP => hx v P X ?_⟩
      · unfold q_answers
        rw [qa_e ix3p (by omega) (by decide)]
        show qc (m 1 (3 * p + k) = 1) _ _ _ = _
        rw [qc_t q1]
        refine qbd_t (r := (0 : Int32)) (m' := m) ?_ ?_
        · show qc (nI k = 2) _ _ _ = _
          by_cases q : nI k = 2
          · rw [qc_t q, qc_f one_ne, qa_e rfl hp (by decide), qc_t (Classical.byContradiction fun t => R ⟨k2i.mp q, t⟩)]; rfl
          · rw [qc_f q]; rfl
        show qc ((1 : Int32) = 0) _ _ _ = _
        rw [qc_f one_ne, qc_t rfl, qw_e ix3p (by omega) (by decide), eM]
        show qc (nI k = 2) _ _ _ = _
        by_cases q : k = 2
        · rw [qc_t (k2i.mpr q), if_pos q, qw_e rfl hp (by decide), qas_t (Or.inr rfl)]; rfl
        · rw [qc_f (fun t => q (k2i.mp t)), if_neg q, qas_t (Or.inr rfl)]; rfl
      · unfold h_X3_isTaken
        have hB : tkB p (nI k) 1 n (fun r v' => anK p r P X v') (fun _ _ => False) v := c_tkB (p := p) (ok := 1) (n := n) (b := b) (h.less (by omega) (Nat.le_refl _)) hw hp hk (Or.inr rfl) (fun t => absurd t (by decide)) fun _ v' hv => c_an1 (hP v' (hv.less (Nat.le_refl _) (by omega)))
        refine hst _ v _ _ _ h (hcnd_t q1 (hjo_i (hcnd_f one_ne (hcnd_i (fun q => hgI_e (h.1.f 2 3 3 (by decide) hp) (hcnd_t (Classical.byContradiction fun t => R ⟨k2i.mp q, t⟩) ?_)) fun q => ?_))))
        · exact hB
        · exact hB
