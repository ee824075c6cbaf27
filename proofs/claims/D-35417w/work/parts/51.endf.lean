/-! ===== the court's end of a family: the relation ===== -/
theorem mTl_69 {m : Mst} {f s j : Nat} (hf : f < 60) (hs : s < j) : mTl m f j 69 (60 * s + f) = tbv m s f := by
  induction j with
  | zero => exact absurd hs (Nat.not_lt_zero s)
  | succ j ih =>
    show up2 (mTl m f j) 69 (60 * j + f) (tbv m j f) 69 (60 * s + f) = _
    by_cases q : s = j
    · subst q; rw [up2_s]
    · rw [up2_n (fun r => q (by omega))]; exact ih (by omega)
theorem mTl_69o {m : Mst} {f i j : Nat} (h : ∀ s, s < j → i ≠ 60 * s + f) : mTl m f j 69 i = m 69 i := by
  induction j with
  | zero => rfl
  | succ j ih =>
    show up2 (mTl m f j) 69 (60 * j + f) (tbv m j f) 69 i = _
    rw [up2_n (fun r => h j (by omega) r.2)]; exact ih fun s hs => h s (by omega)
theorem CRh.told {v : Vw} {m mo : Mst} {b T f : Nat} {hs : Nat → Bool} (h : CRh (fun W => gUn W (mo 51) (mo 69) (nn mo 46) (mo 57) (mo 54) (nn mo 52)) (nn m 19) v m (b + 16) T) (hf : f < nn m 46) (hF : nn m 46 ≤ 60) (hhs : ∀ k, hs k = (decide (k < 4) && hrs (m 57) (m 54) (nn m 52) k f))
    (e51 : m 51 = up1 (mo 51) f 0) (e69 : m 69 = mo 69) (e46 : nn m 46 = nn mo 46) (e57 : m 57 = mo 57) (e54 : m 54 = mo 54) (e52 : nn m 52 = nn mo 52) (hg : mo 51 f ≠ 0) (ht : ∀ s, s < 4 → mo 69 (60 * s + f) = 0) : CR0 (tellV v f hs 4) (mTl m f 4) b T := by
  obtain ⟨hF', hSt, hPe, hSe, hLn, hCt, hL3, hL4, hL5, hL6, hL7, hL8, hAr, hDv, hTo, hPu, hCa, hAu, hPp, hOw, hWr, hUn, hFl, hAt, hSa, hSs, hOs, hR70, hR81, hR82, hR90, hR95, hRt, hRr, hRa, hT7, hT8, hT10, hT12, hN8, hN10, hFa, hTu, hBu, hLa⟩ := h
  obtain ⟨e1, e2, e3, e4, e5, e6, e7, e8⟩ := tellV_fr (v := v) (f := f) (hs := hs) 4
  have o : ∀ F, F ≠ 69 → mTl m f 4 F = m F := fun F hF => mTl_o hF
  have on : ∀ F, F ≠ 69 → nn (mTl m f 4) F = nn m F := fun F hF => by unfold nn; rw [o F hF]
  have oB : ∀ bb, (bb < 14 ∨ 21 ≤ bb ∨ bb % 2 = 1) → vB (tellV v f hs 4) bb = vB v bb := fun bb hb => tellV_Bo 4 fun s hs' => by omega
  have oW : ∀ p, p < 6 → vW (tellV v f hs 4) p = vW v p := fun p hp => tellV_Wo 4 fun s hs' => by omega
  have edn : ∀ s, s < 4 → vM v 3 s 0 = m 66 s := fun s hs' => hF' 3 0 66 (by decide) s hs'
  show CRh _ _ _ _ _ _
  unfold CRh
  rw [e1, e2, e3, e4, e5, e6, on 77 (by decide), on 19 (by decide), on 30 (by decide), on 39 (by decide), on 46 (by decide), on 52 (by decide), on 70 (by decide), o 37 (by decide), o 17 (by decide), o 18 (by decide), o 65 (by decide), o 1 (by decide), o 2 (by decide), o 5 (by decide), o 6 (by decide), o 0 (by decide), o 60 (by decide), o 64 (by decide), o 67 (by decide), o 57 (by decide), o 54 (by decide), o 74 (by decide), o 4 (by decide), o 9 (by decide), o 10 (by decide), o 11 (by decide), o 12 (by decide), o 13 (by decide), o 14 (by decide), o 15 (by decide), o 23 (by decide), o 24 (by decide), o 29 (by decide), o 36 (by decide), o 20 (by decide), o 31 (by decide), o 34 (by decide), o 40 (by decide), o 45 (by decide), o 71 (by decide), o 76 (by decide), o 47 (by decide), o 41 (by decide), o 42 (by decide), o 43 (by decide), o 48 (by decide), o 49 (by decide), o 35 (by decide), o 51 (by decide), o 62 (by decide)]
  refine ⟨?_, hSt, hPe, hSe, hLn, hCt, hL3, hL4, hL5, hL6, hL7, hL8, hAr, ?_, ?_, ?_, ?_, ?_, ?_, hOw, ?_, ?_, hFl, hAt, hSa, hSs, hOs, hR70, hR81, hR82, hR90, hR95, hRt, hRr, hRa, hT7, hT8, hT10, hT12, hN8, hN10, hFa, hTu, ?_, hLa⟩
  · have c : ∀ K, cn (mTl m f 4) K = cn m K := fun K => by
      unfold cn
      rw [on 77 (by decide), on 19 (by decide), on 30 (by decide), on 39 (by decide), on 46 (by decide), on 52 (by decide), on 70 (by decide)]
    intro K g F hm i hi
    rw [c] at hi
    have hne : F ≠ 69 := by
      have : ∀ x, x ∈ ftab → x.2.2 ≠ 69 := by decide +kernel
      exact this _ hm
    rw [o F hne]
    exact hF' K g F hm i hi
  · intro p hp d hd
    rw [oB _ (by omega), oB _ (by omega)]
    exact hDv p hp d hd
  · intro s hs' g hg'
    rw [tellV_Bs 4 hs']
    by_cases q : g = f
    · subst q
      have old : vB v (14 + 2 * s) g = false := by
        rw [hTo s hs' g hg', e69, ht s hs']; decide
      rw [mTl_69 (by omega) hs']
      unfold tbv
      rw [← edn s hs']
      have hh := hhs s
      rw [decide_eq_true hs', Bool.true_and] at hh
      by_cases h1 : vM v 3 s 0 = 0
      · rw [if_pos h1, ← hh]
        by_cases h2 : hs s = true
        · rw [if_pos ⟨h2, h1⟩, up1_s, h2]; decide
        · rw [if_neg (fun r => h2 r.1), old]
          have : hs s = false := by
            cases hq : hs s
            · rfl
            · exact absurd hq h2
          rw [this]; decide
      · rw [if_neg h1, if_neg (fun r => h1 r.2), old]; decide
    · rw [mTl_69o (fun s' hs'' => by omega)]
      split
      · rw [up1_n q]; exact hTo s hs' g hg'
      · exact hTo s hs' g hg'
  · rw [oB 0 (by omega)]; exact hPu
  · intro s hs'
    obtain ⟨h1, h2, h3, h4⟩ := hCa s hs'
    exact ⟨h1, h2, h3, fun k hk => by rw [oB _ (by omega)]; exact h4 k hk⟩
  · intro g hg'
    obtain ⟨h1, h2, h3, h4⟩ := hAu g hg'
    exact ⟨h1, h2, h3, fun k => by rw [oB _ (by omega)]; exact h4 k⟩
  · intro r hr
    obtain ⟨h1, h2, h3, h4⟩ := hPp r hr
    exact ⟨h1, h2, h3, fun k => by rw [oB _ (by omega)]; exact h4 k⟩
  · intro p hp
    rw [oW p hp]
    exact hWr p hp
  · intro s hs'
    obtain ⟨u1, u2⟩ := hUn s hs'
    have hnf : idc 10 f ∉ vW v (6 + s) := fun hm => by
      obtain ⟨g, g1, g2, g3, -⟩ := (u2 _).mp hm
      have := (idc_inj (by decide) (by decide) g2).2
      subst this
      exact hg g3
    have hh := hhs s
    rw [decide_eq_true hs', Bool.true_and] at hh
    have m51 : ∀ g, g ≠ f → m 51 g = mo 51 g := fun g hg' => by rw [e51, up1_n hg']
    have m51f : m 51 f = 0 := by rw [e51, up1_s]
    have other : ∀ g, g ≠ f → g < nn m 46 → mTl m f 4 69 (60 * s + g) = mo 69 (60 * s + g) := fun g hg' hg2 => by
      rw [mTl_69o (fun s' hs'' => by omega), e69]
    have self : mTl m f 4 69 (60 * s + f) = tbv m s f := mTl_69 (by omega) hs'
    have tb : (tbv m s f = 0 ∧ hs s = true) ↔ (hs s = true ∧ vM v 3 s 0 ≠ 0) := by
      unfold tbv
      rw [edn s hs', ← hh]
      by_cases h1 : m 66 s = 0
      · rw [if_pos h1, b2i_0]
        constructor
        · rintro ⟨a1, a2⟩; rw [a1] at a2; cases a2
        · rintro ⟨a1, a2⟩; exact absurd h1 a2
      · rw [if_neg h1]
        exact ⟨fun r => ⟨r.2, h1⟩, fun r => ⟨rfl, r.1⟩⟩
    rw [tellV_Ws 4 hs']
    by_cases hc : hs s = true ∧ vM v 3 s 0 ≠ 0
    · rw [if_pos hc]
      refine ⟨?_, fun x => ?_⟩
      · rw [List.nodup_append]
        exact ⟨u1, by simp, fun a ha b' hb' => by
          rw [List.mem_singleton] at hb'
          subst hb'
          exact fun r => hnf (r ▸ ha)⟩
      · rw [List.mem_append, List.mem_singleton, u2]
        constructor
        · rintro (⟨g, g1, g2, g3, g4, g5⟩ | r)
          · have hgf : g ≠ f := fun r => by subst r; exact hg g3
            exact ⟨g, by rw [e46]; exact g1, g2, by rw [m51 g hgf]; exact g3, by rw [other g hgf (by rw [e46]; exact g1)]; exact g4, by rw [e57, e54, e52]; exact g5⟩
          · exact ⟨f, hf, r, m51f, by rw [self]; exact (tb.mpr hc).1, by rw [← hh]; exact hc.1⟩
        · rintro ⟨g, g1, g2, g3, g4, g5⟩
          by_cases hgf : g = f
          · subst hgf; exact Or.inr g2
          · exact Or.inl ⟨g, by rw [← e46]; exact g1, g2, by rw [← m51 g hgf]; exact g3, by rw [← other g hgf g1]; exact g4, by rw [← e57, ← e54, ← e52]; exact g5⟩
    · rw [if_neg hc]
      refine ⟨u1, fun x => ?_⟩
      rw [u2]
      constructor
      · rintro ⟨g, g1, g2, g3, g4, g5⟩
        have hgf : g ≠ f := fun r => by subst r; exact hg g3
        exact ⟨g, by rw [e46]; exact g1, g2, by rw [m51 g hgf]; exact g3, by rw [other g hgf (by rw [e46]; exact g1)]; exact g4, by rw [e57, e54, e52]; exact g5⟩
      · rintro ⟨g, g1, g2, g3, g4, g5⟩
        by_cases hgf : g = f
        · subst hgf
          rw [self] at g4
          rw [← hh] at g5
          exact absurd (tb.mp ⟨g4, g5⟩) hc
        · exact ⟨g, by rw [← e46]; exact g1, g2, by rw [← m51 g hgf]; exact g3, by rw [← other g hgf g1]; exact g4, by rw [← e57, ← e54, ← e52]; exact g5⟩
  · unfold gBu at hBu ⊢
    omega
