/-! ===== the model's ends, in plain words ===== -/
def b2i (b : Bool) : Int32 := if b then 1 else 0
theorem b2i_01 (b : Bool) : b2i b = 0 ∨ b2i b = 1 := by cases b <;> simp [b2i]
theorem b2i_0 {b : Bool} : b2i b = 0 ↔ b = false := by cases b <;> decide
def hearF (a1 a2 : Int32) : (Int32 × Int32 → PM Int32) → Int32 × Int32 → PM Int32 := fun r3 => un2 fun u1 u2 => qI 52 fun v4 => qc (v4 ≤ u2) (qas ((u1 = 0) ∨ (u1 = 1)) (qrt u1)) (qjo (σ := Int32) (fun u6 => r3 ((1 : Int32), (u6 + (1 : Int32)))) fun j8 => qc (u1 = 0) (qa 57 200 u2 fun v13 => qc (v13 = a2) (qa 54 200 u2 fun v18 => qc (v18 = a1) (j8 u2) (r3 ((0 : Int32), (u2 + (1 : Int32))))) (r3 ((0 : Int32), (u2 + (1 : Int32))))) (j8 u2))
theorem qc_t {ρ : Type} {c : Prop} [Decidable c] {p q : PM ρ} {m : Mst} (h : c) : qc c p q m = p m := if_pos h
theorem qc_f {ρ : Type} {c : Prop} [Decidable c] {p q : PM ρ} {m : Mst} (h : ¬ c) : qc c p q m = q m := if_neg h
theorem qas_t {ρ : Type} {c : Prop} [Decidable c] {p : PM ρ} {m : Mst} (h : c) : qas c p m = p m := if_pos h
theorem hrs_s {a b : Nat → Int32} {n s f : Nat} : hrs a b (n + 1) s f = (hrs a b n s f || (a n == nI f && b n == nI s)) := by
  unfold hrs
  rw [List.range_succ, List.any_append]
  simp
theorem q_hears_eq {m : Mst} {s f : Nat} (he : m 52 0 = nI (nn m 52)) (hn : nn m 52 ≤ 200) : q_hears (nI s) (nI f) m = some (b2i (hrs (m 57) (m 54) (nn m 52) s f), m) := by
  have key : ∀ d k fuel, k + d = nn m 52 → d < fuel → qlN (hearF (nI s) (nI f)) fuel (b2i (hrs (m 57) (m 54) k s f), nI k) m = some (b2i (hrs (m 57) (m 54) (nn m 52) s f), m) := by
    intro d
    induction d with
    | zero =>
      intro k fuel hk hf
      obtain ⟨g, rfl⟩ : ∃ g, fuel = g + 1 := ⟨fuel - 1, by omega⟩
      show qc (m 52 0 ≤ nI k) _ _ m = _
      rw [qc_t (by rw [he]; exact nI_le (by omega) (by omega)), qas_t (b2i_01 _), show k = nn m 52 by omega]
      rfl
    | succ d ih =>
      intro k fuel hk hf
      obtain ⟨g, rfl⟩ : ∃ g, fuel = g + 1 := ⟨fuel - 1, by omega⟩
      have hi := ih (k + 1) g (by omega) (by omega)
      rw [hrs_s] at hi
      show qc (m 52 0 ≤ nI k) _ _ m = _
      rw [qc_f (by rw [he]; exact nI_ge (by omega) (by omega))]
      show qc (b2i (hrs (m 57) (m 54) k s f) = 0) _ _ m = _
      by_cases h0 : hrs (m 57) (m 54) k s f = false
      · rw [qc_t (b2i_0.mpr h0), qa_e rfl (by omega) (by decide)]
        rw [h0, Bool.false_or] at hi
        by_cases h1 : m 57 k = nI f
        · rw [qc_t h1, qa_e rfl (by omega) (by decide)]
          by_cases h2 : m 54 k = nI s
          · rw [qc_t h2]
            rw [beq_iff_eq.mpr h1, beq_iff_eq.mpr h2] at hi
            show qlN _ g (1, nI k + 1) m = _
            rw [nI_1]; exact hi
          · rw [qc_f h2]
            rw [beq_iff_eq.mpr h1, beq_eq_false_iff_ne.mpr h2] at hi
            show qlN _ g (0, nI k + 1) m = _
            rw [nI_1]; exact hi
        · rw [qc_f h1]
          rw [beq_eq_false_iff_ne.mpr h1] at hi
          show qlN _ g (0, nI k + 1) m = _
          rw [nI_1]; exact hi
      · have h0 : hrs (m 57) (m 54) k s f = true := by
          cases hq : hrs (m 57) (m 54) k s f
          · exact absurd hq h0
          · rfl
        rw [qc_f (fun q => absurd (b2i_0.mp q) (by rw [h0]; decide))]
        rw [h0, Bool.true_or] at hi
        show qlN _ g (1, nI k + 1) m = _
        rw [nI_1]; exact hi
  exact key (nn m 52) 0 100000 (by omega) (by omega)
def tbv (m : Mst) (s f : Nat) : Int32 := if m 66 s = 0 then b2i (hrs (m 57) (m 54) (nn m 52) s f) else 0
def mTl (m : Mst) (f : Nat) : Nat → Mst
  | 0 => m
  | j + 1 => up2 (mTl m f j) 69 (60 * j + f) (tbv m j f)
theorem mTl_o {m : Mst} {f j F : Nat} (h : F ≠ 69) : mTl m f j F = m F := by
  induction j with
  | zero => rfl
  | succ j ih => exact (up2_o h).trans ih
/-- the end of a family -/
def mEF (m : Mst) (f : Nat) : Mst := mTl (mW (up2 m 51 f 0) 3 (nI f)) f 4
theorem mW_o {m : Mst} {k n : Int32} {F : Nat} (h : F ≠ 77 ∧ F ≠ 78 ∧ F ≠ 79 ∧ F ≠ 80 ∧ F ≠ 81) : mW m k n F = m F := by
  unfold mW
  rw [up2_o h.2.2.2.2, up2_o h.1, up2_o h.2.2.2.1, up2_o h.2.2.1, up2_o h.2.1]
theorem mEF_o {m : Mst} {f F : Nat} (h : F ≠ 77 ∧ F ≠ 78 ∧ F ≠ 79 ∧ F ≠ 80 ∧ F ≠ 81) (h2 : F ≠ 69 ∧ F ≠ 51) : mEF m f F = m F := by
  unfold mEF
  rw [mTl_o h2.1, mW_o h, up2_o h2.2]
theorem wOK.o {m : Mst} (h : wOK m) {F i : Nat} {x : Int32} (hF : F ≠ 77 ∧ F ≠ 81 ∧ F ≠ 0) : wOK (up2 m F i x) := by
  obtain ⟨h1, h2, ⟨a, h3, h4⟩, ⟨c, h5, h6⟩⟩ := h
  have e77 : up2 m F i x 77 = m 77 := up2_o (Ne.symm hF.1)
  have e : nn (up2 m F i x) 77 = nn m 77 := nn_o (Ne.symm hF.1)
  exact ⟨by rw [e77, e]; exact h1, by rw [e]; exact h2, ⟨a, h3, by rw [up2_o (Ne.symm hF.2.1)]; exact h4⟩, ⟨c, h5, by rw [up2_o (Ne.symm hF.2.2)]; exact h6⟩⟩
def telF (a1 : Int32) : (Int32 → PM Unit) → Int32 → PM Unit := fun r11 => fun u10 => qc ((4 : Int32) ≤ u10) (qrt ()) (qa 66 4 u10 fun v17 => qbd (α := Int32) (qjo (σ := Unit) (fun _ => qrt (0 : Int32)) fun j23 => qc (v17 = 0) (qbd (q_hears u10 a1) (fun v25 => qc (v25 = 0) (j23 ()) (qrt (1 : Int32)))) (j23 ())) (fun u18 => qz 69 240 (((60 : Int32) * u10) + a1) u18 <| r11 (u10 + (1 : Int32))))
theorem q_endFamily_0 {m : Mst} {f : Nat} (hf : f < 60) (h0 : m 51 f = 0) : q_endFamily (nI f) m = some ((), m) := by
  unfold q_endFamily
  rw [qa_e rfl hf (by decide), qc_t h0]
  rfl
theorem q_endFamily_eq {m : Mst} {f : Nat} (hf : f < 60) (h0 : m 51 f ≠ 0) (hw : wOK m) (he : m 52 0 = nI (nn m 52)) (hn : nn m 52 ≤ 200) : q_endFamily (nI f) m = some ((), mEF m f) := by
  unfold q_endFamily
  rw [qa_e rfl hf (by decide), qc_f h0, qz_e rfl hf (by decide) (Or.inl rfl), qbd_e (q_write_eq (hw.o (by decide)))]
  show qlN (telF (nI f)) 100000 0 _ = some ((), mTl _ f 4)
  generalize hm1 : mW (up2 m 51 f 0) 3 (nI f) = m1
  have o1 : ∀ F, F ≠ 77 ∧ F ≠ 78 ∧ F ≠ 79 ∧ F ≠ 80 ∧ F ≠ 81 → F ≠ 51 → m1 F = m F := fun F h h2 => by
    rw [← hm1, mW_o h, up2_o h2]
  have key : ∀ d j fuel, j + d = 4 → d < fuel → qlN (telF (nI f)) fuel (nI j) (mTl m1 f j) = some ((), mTl m1 f 4) := by
    intro d
    induction d with
    | zero =>
      intro j fuel hj hf
      obtain ⟨g, rfl⟩ : ∃ g, fuel = g + 1 := ⟨fuel - 1, by omega⟩
      show qc ((4 : Int32) ≤ nI j) _ _ _ = _
      rw [show j = 4 by omega, qc_t (by decide +kernel)]
      rfl
    | succ d ih =>
      intro j fuel hj hf
      obtain ⟨g, rfl⟩ : ∃ g, fuel = g + 1 := ⟨fuel - 1, by omega⟩
      have hi := ih (j + 1) g (by omega) (by omega)
      show qc ((4 : Int32) ≤ nI j) _ _ _ = _
      rw [qc_f (by rw [show (4 : Int32) = nI 4 from by decide +kernel]; exact nI_ge (by omega) (by decide)), qa_e rfl (by omega) (by decide), mTl_o (by decide)]
      have hh : q_hears (nI j) (nI f) (mTl m1 f j) = some (b2i (hrs (m1 57) (m1 54) (nn m1 52) j f), mTl m1 f j) := by
        have e1 : nn (mTl m1 f j) 52 = nn m1 52 := by unfold nn; rw [mTl_o (by decide)]
        have e2 : nn m1 52 = nn m 52 := by unfold nn; rw [o1 52 (by decide) (by decide)]
        have := q_hears_eq (m := mTl m1 f j) (s := j) (f := f) (by rw [e1, e2, mTl_o (by decide), o1 52 (by decide) (by decide)]; exact he) (by rw [e1, e2]; exact hn)
        rw [e1, mTl_o (by decide), mTl_o (by decide)] at this
        exact this
      have hix : ((60 : Int32) * nI j) + nI f = nI (60 * j + f) := by rw [show (60 : Int32) = nI 60 from by decide +kernel, pk_mul, nI_add]
      have fin : ∀ x : Int32, x = tbv m1 j f → (qz 69 240 (((60 : Int32) * nI j) + nI f) x <| qlN (telF (nI f)) g (nI j + (1 : Int32))) (mTl m1 f j) = some ((), mTl m1 f 4) := by
        intro x hx
        rw [qz_e hix (by omega) (by decide), hx, nI_1]
        · exact hi
        · rw [hx]; unfold tbv
          split
          · exact b2i_01 _
          · exact Or.inl rfl
      by_cases h66 : m1 66 j = 0
      · have tb : tbv m1 j f = b2i (hrs (m1 57) (m1 54) (nn m1 52) j f) := if_pos h66
        have e : (qjo (σ := Unit) (fun _ => qrt (0 : Int32)) fun j23 => qc (m1 66 j = 0) (qbd (q_hears (nI j) (nI f)) (fun v25 => qc (v25 = 0) (j23 ()) (qrt (1 : Int32)))) (j23 ())) (mTl m1 f j) = some (tbv m1 j f, mTl m1 f j) := by
          show qc (m1 66 j = 0) _ _ _ = _
          rw [qc_t h66, qbd_e hh, tb]
          by_cases h2 : hrs (m1 57) (m1 54) (nn m1 52) j f = false
          · rw [qc_t (b2i_0.mpr h2), h2]; rfl
          · rw [qc_f (fun q => h2 (b2i_0.mp q))]
            have : hrs (m1 57) (m1 54) (nn m1 52) j f = true := by
              cases hq : hrs (m1 57) (m1 54) (nn m1 52) j f
              · exact absurd hq h2
              · rfl
            rw [this]; rfl
        rw [qbd_e e]
        exact fin _ rfl
      · have tb : tbv m1 j f = 0 := if_neg h66
        have e : (qjo (σ := Unit) (fun _ => qrt (0 : Int32)) fun j23 => qc (m1 66 j = 0) (qbd (q_hears (nI j) (nI f)) (fun v25 => qc (v25 = 0) (j23 ()) (qrt (1 : Int32)))) (j23 ())) (mTl m1 f j) = some (0, mTl m1 f j) := by
          show qc (m1 66 j = 0) _ _ _ = _
          rw [qc_f h66]; rfl
        rw [qbd_e e]
        exact fin _ tb.symm
  rw [← nI_0]
  exact key 4 0 100000 rfl (by decide)
