/-! ===== operations (24): line ===== -/
def nv (m : Mst) (s f : Nat) : Bool := decide (m 51 f = 0) && (decide (m 69 (60 * s + f) = 0) && hrs (m 57) (m 54) (nn m 52) s f)
theorem nv_iff {m : Mst} {s f : Nat} : nv m s f = true ↔ m 51 f = 0 ∧ m 69 (60 * s + f) = 0 ∧ hrs (m 57) (m 54) (nn m 52) s f = true := by
  unfold nv
  rw [Bool.and_eq_true, Bool.and_eq_true, decide_eq_true_eq, decide_eq_true_eq]
def mLi (m : Mst) (s : Nat) : Nat → Mst
  | 0 => m
  | f + 1 => up2 (mLi m s f) 69 (60 * s + f) (if m 69 (60 * s + f) ≠ 0 ∨ nv m s f = true then 1 else 0)
theorem mLi_e {m : Mst} {s f : Nat} : mLi m s (f + 1) = up2 (mLi m s f) 69 (60 * s + f) (if m 69 (60 * s + f) ≠ 0 ∨ nv m s f = true then 1 else 0) := rfl
theorem mLi_o {m : Mst} {s F : Nat} (h : F ≠ 69) : ∀ j, mLi m s j F = m F
  | 0 => rfl
  | j + 1 => by rw [mLi_e, up2_o h]; exact mLi_o h j
theorem mLi_x {m : Mst} {s i : Nat} : ∀ j, (∀ f, f < j → i ≠ 60 * s + f) → mLi m s j 69 i = m 69 i
  | 0, _ => rfl
  | j + 1, h => by
    rw [mLi_e, up2_r, up1_n (h j (by omega))]
    exact mLi_x j fun f hf => h f (by omega)
theorem mLi_s {m : Mst} {s f : Nat} : ∀ j, f < j → mLi m s j 69 (60 * s + f) = if m 69 (60 * s + f) ≠ 0 ∨ nv m s f = true then 1 else 0
  | 0, h => absurd h (Nat.not_lt_zero _)
  | j + 1, h => by
    rw [mLi_e, up2_r]
    by_cases q : f = j
    · subst q; rw [up1_s]
    · rw [up1_n (by omega)]; exact mLi_s j (by omega)
def cNt (p : Nat → Bool) (n : Nat) : Nat := ((List.range n).filter p).length
theorem cNt_s {p : Nat → Bool} {n : Nat} : cNt p (n + 1) = cNt p n + (if p n = true then 1 else 0) := by
  unfold cNt
  rw [List.range_succ, List.filter_append, List.length_append]
  cases h : p n
  · simp [h]
  · simp [h]
theorem cNt_le {p : Nat → Bool} {n : Nat} : cNt p n ≤ n := by
  unfold cNt
  have := List.length_filter_le p (List.range n)
  rw [List.length_range] at this
  exact this
theorem len_cNt {xs : List Nat} {p : Nat → Bool} {n : Nat} (h1 : xs.Nodup) (h2 : ∀ x, x ∈ xs ↔ ∃ f, f < n ∧ x = idc 10 f ∧ p f = true) : xs.length = cNt p n := by
  have h3 : (((List.range n).filter p).map (idc 10)).Nodup := by
    refine List.Pairwise.map (idc 10) (fun a b hab hh => hab ?_) (List.Pairwise.filter p List.nodup_range)
    unfold idc at hh
    omega
  have hp := (List.perm_ext_iff_of_nodup h1 h3).mpr fun x => by
    rw [h2, List.mem_map]
    constructor
    · rintro ⟨f, f1, f2, f3⟩
      exact ⟨f, List.mem_filter.mpr ⟨List.mem_range.mpr f1, f3⟩, f2.symm⟩
    · rintro ⟨f, f1, f2⟩
      obtain ⟨g1, g2⟩ := List.mem_filter.mp f1
      exact ⟨f, List.mem_range.mp g1, f2.symm, g2⟩
  rw [hp.length_eq, List.length_map]
  rfl
theorem addb_iff : ∀ (ns : List Nat) (g : Nat → Bool) (k : Nat), addb g ns k = (g k || decide (k ∈ ns))
  | [], g, k => by simp [addb]
  | n :: ns, g, k => by
    have ih := addb_iff ns (up1 g n true) k
    have e : addb g (n :: ns) k = addb (up1 g n true) ns k := rfl
    rw [e, ih]
    by_cases q : k = n
    · subst q; rw [up1_s]; simp
    · rw [up1_n q]; simp [q]
theorem CRh.lineUp {v : Vw} {m M : Mst} {b T s c : Nat} {BT : Nat → Bool} (h : CR0 v m (b + 100) T) (hs : s < 4) (hc : c ≤ 80) (hF24 : nn m 46 ≤ 24) (oM : ∀ F, F ≠ 66 ∧ F ≠ 69 → M F = m F) (e66 : M 66 = up1 (m 66) s 0) (e69 : ∀ f, f < 60 → (M 69 (60 * s + f) ≠ 0 ↔ m 69 (60 * s + f) ≠ 0 ∨ (f < nn m 46 ∧ nv m s f = true))) (e69o : ∀ t, t < 4 → t ≠ s → ∀ f, f < 60 → M 69 (60 * t + f) = m 69 (60 * t + f))
    (hBT : ∀ f, f < 60 → BT f = (vB v (14 + 2 * s) f || (decide (f < nn m 46) && nv m s f))) : CR0 (uWl (uBs (ub (uM v 3 s 0 0) 10) (14 + 2 * s) BT c) (6 + s) [] 0) M b T := by
  obtain ⟨hF, hSt, hPe, hSe, hLn, hCt, hL3, hL4, hL5, hL6, hL7, hL8, hAr, hDv, hTo, hPu, hCa, hAu, hPp, hOw, hWr, hUn, hFl, hAt, hSa, hSs, hOs, hR70, hR81, hR82, hR90, hR95, hRt, hRr, hRa, hT7, hT8, hT10, hT12, hN8, hN10, hFa, hTu, hBu, hLa⟩ := h
  have on : ∀ F, F ≠ 66 ∧ F ≠ 69 → nn M F = nn m F := fun F hF => by unfold nn; rw [oM F hF]
  have hB : ∀ z, z ≠ 14 + 2 * s → up1 (vB v) (14 + 2 * s) BT z = vB v z := fun z hz => up1_n hz
  show CRh _ _ _ _ _ _
  unfold CRh
  rw [on 77 (by decide), on 19 (by decide), on 30 (by decide), on 39 (by decide), on 46 (by decide), on 52 (by decide), on 70 (by decide), oM 37 (by decide), oM 17 (by decide), oM 18 (by decide), oM 65 (by decide), oM 1 (by decide), oM 2 (by decide), oM 5 (by decide), oM 6 (by decide), oM 0 (by decide), oM 60 (by decide), oM 64 (by decide), oM 67 (by decide), oM 57 (by decide), oM 54 (by decide), oM 74 (by decide), oM 4 (by decide), oM 9 (by decide), oM 10 (by decide), oM 11 (by decide), oM 12 (by decide), oM 13 (by decide), oM 14 (by decide), oM 15 (by decide), oM 23 (by decide), oM 24 (by decide), oM 29 (by decide), oM 36 (by decide), oM 20 (by decide), oM 31 (by decide), oM 34 (by decide), oM 40 (by decide), oM 45 (by decide), oM 71 (by decide), oM 76 (by decide), oM 47 (by decide), oM 41 (by decide), oM 42 (by decide), oM 43 (by decide), oM 48 (by decide), oM 49 (by decide), oM 35 (by decide), oM 51 (by decide), oM 62 (by decide)]
  refine ⟨?_, hSt, hPe, hSe, hLn, hCt, hL3, hL4, hL5, hL6, hL7, hL8, hAr, ?_, ?_, ?_, ?_, ?_, ?_, hOw, ?_, ?_, hFl, hAt, hSa, hSs, hOs, hR70, hR81, hR82, hR90, hR95, hRt, hRr, hRa, hT7, hT8, hT10, hT12, hN8, hN10, hFa, hTu, ?_, hLa⟩
  · have hset := hF.set (K := 3) (f := 0) (F := 66) (by decide) s 0
    have c : ∀ K, cn M K = cn (up2 m 66 s 0) K := fun K => by
      rw [cn_o (F := 66) (by decide)]
      unfold cn
      rw [on 77 (by decide), on 19 (by decide), on 30 (by decide), on 39 (by decide), on 46 (by decide), on 52 (by decide), on 70 (by decide)]
    intro K g F hm i hi
    rw [c] at hi
    have hne : F ≠ 69 := by
      have : ∀ x, x ∈ ftab → x.2.2 ≠ 69 := by decide +kernel
      exact this _ hm
    have e : M F = up2 m 66 s 0 F := by
      by_cases q : F = 66
      · subst q; rw [e66, up2_r]
      · rw [oM F ⟨q, hne⟩, up2_o q]
    rw [e]
    exact hset K g F hm i hi
  · intro p hp d hd
    show up1 (vB v) (14 + 2 * s) BT (1 + 2 * p) d = _ ∧ up1 (vB v) (14 + 2 * s) BT (2 + 2 * p) d = _
    rw [hB _ (by omega), hB _ (by omega)]
    exact hDv p hp d hd
  · intro t ht f hf
    show up1 (vB v) (14 + 2 * s) BT (14 + 2 * t) f = _
    by_cases q : t = s
    · subst q
      rw [up1_s, hBT f hf, hTo t ht f hf]
      have := e69 f hf
      by_cases r1 : m 69 (60 * t + f) ≠ 0
      · rw [decide_eq_true r1, decide_eq_true (this.mpr (Or.inl r1))]; rfl
      · rw [decide_eq_false r1]
        by_cases r2 : f < nn m 46 ∧ nv m t f = true
        · rw [decide_eq_true (this.mpr (Or.inr r2)), decide_eq_true r2.1, r2.2]; rfl
        · rw [decide_eq_false (fun w => (this.mp w).elim r1 r2)]
          by_cases r3 : f < nn m 46
          · have : nv m t f = false := by
              cases hq : nv m t f
              · rfl
              · exact absurd ⟨r3, hq⟩ r2
            rw [this]; simp
          · rw [decide_eq_false r3]; rfl
    · rw [hB _ (by omega), e69o t ht q f hf]
      exact hTo t ht f hf
  · show gPu (up1 (vB v) (14 + 2 * s) BT 0) _ _ _ _
    rw [hB 0 (by omega)]; exact hPu
  · intro t ht
    obtain ⟨h1, h2, h3, h4⟩ := hCa t ht
    have h2 : vN v 3 t 1 / 64 = 13 + 2 * t ∨ 21 ≤ vN v 3 t 1 / 64 := h2
    exact ⟨h1, h2, h3, fun k hk => by
      show up1 (vB v) (14 + 2 * s) BT (vN v 3 t 1 / 64) k = _
      rw [hB _ (by omega)]; exact h4 k hk⟩
  · intro g hg'
    obtain ⟨h1, h2, h3, h4⟩ := hAu g hg'
    have h2 : 21 ≤ vN v 10 g 8 / 64 := h2
    exact ⟨h1, h2, h3, fun k => by
      show up1 (vB v) (14 + 2 * s) BT (vN v 10 g 8 / 64) k = _
      rw [hB _ (by omega)]; exact h4 k⟩
  · intro r hr
    obtain ⟨h1, h2, h3, h4⟩ := hPp r hr
    have h2 : 21 ≤ vN v 12 r 3 / 64 := h2
    exact ⟨h1, h2, h3, fun k => by
      show up1 (vB v) (14 + 2 * s) BT (vN v 12 r 3 / 64) k = _
      rw [hB _ (by omega)]; exact h4 k⟩
  · intro p hp
    show (up1 (vW v) (6 + s) [] p).length ≤ T ∧ (∀ x, x ∈ up1 (vW v) (6 + s) [] p → _) ∧ ∃ ts : List Nat, (up1 (vW v) (6 + s) [] p).map _ = _ ∧ _
    rw [up1_n (by omega)]
    exact hWr p hp
  · intro t ht
    show (up1 (vW v) (6 + s) [] (6 + t)).Nodup ∧ ∀ x, x ∈ up1 (vW v) (6 + s) [] (6 + t) ↔ _
    by_cases q : t = s
    · subst q
      rw [up1_s]
      refine ⟨List.nodup_nil, fun x => ⟨fun r => absurd r List.not_mem_nil, ?_⟩⟩
      rintro ⟨f, f1, f2, f3, f4, f5⟩
      exfalso
      have := e69 f (by omega)
      have hn : ¬ (m 69 (60 * t + f) ≠ 0 ∨ f < nn m 46 ∧ nv m t f = true) := fun w => (this.mpr w) f4
      have h69 : m 69 (60 * t + f) = 0 := Classical.byContradiction fun w => hn (Or.inl w)
      exact hn (Or.inr ⟨f1, nv_iff.mpr ⟨f3, h69, f5⟩⟩)
    · rw [up1_n (by omega)]
      obtain ⟨u1, u2⟩ := hUn t ht
      refine ⟨u1, fun x => (u2 x).trans ⟨?_, ?_⟩⟩
      · rintro ⟨f, f1, f2, f3, f4, f5⟩
        exact ⟨f, f1, f2, f3, by rw [e69o t ht q f (by omega)]; exact f4, f5⟩
      · rintro ⟨f, f1, f2, f3, f4, f5⟩
        exact ⟨f, f1, f2, f3, by rw [e69o t ht q f (by omega)] at f4; exact f4, f5⟩
  · show gBu (vb v - 10 - c - 0) b (m 35) (m 51) (nn m 30) (nn m 46) (m 62 0)
    unfold gBu at hBu ⊢
    omega
def liF (a1 : Int32) : (Int32 × Int32 → PM Int32) → Int32 × Int32 → PM Int32 := (fun r14 => un2 fun u12 u13 => qI 46 fun v15 => qc (v15 ≤ u13) (qrt u12) (qa 66 4 a1 fun v20 => qc (v20 = 0) (qa 51 60 u13 fun v25 => qbd (α := Int32) (qjo (σ := Unit) (fun _ => qrt (0 : Int32)) fun j43 => qc (v25 = 0) (qa 69 240 (((60 : Int32) * a1) + u13) fun v48 => qc (v48 = 0) (qbd (q_hears a1 u13) (fun v50 => qc (v50 = 0) (j43 ()) (qrt (1 : Int32)))) (j43 ())) (j43 ())) (fun u26 => qa 69 240 (((60 : Int32) * a1) + u13) fun v31 => qbd (α := Int32) (qjo (σ := Unit) (fun _ => qrt (1 : Int32)) fun j38 => qc (v31 = 0) (qc (u26 = 0) (qrt (0 : Int32)) (j38 ())) (j38 ())) (fun u32 => qz 69 240 (((60 : Int32) * a1) + u13) u32 <| qc (u26 = 0) (r14 ((u12 + (0 : Int32)), (u13 + (1 : Int32)))) (r14 ((u12 + (1 : Int32)), (u13 + (1 : Int32))))))) (qrt u12)))
theorem ix60 {s f : Nat} : ((60 : Int32) * nI s) + nI f = nI (60 * s + f) := by rw [show (60 : Int32) = nI 60 from by decide +kernel, pk_mul, nI_add]
theorem q_liLoop {m : Mst} {s : Nat} (he : EI m) (hs : s < 4) (h66 : m 66 s = 0) : qlp (σ := Int32 × Int32) (liF (nI s)) ((0 : Int32), (0 : Int32)) m = some (nI (cNt (nv m s) (nn m 46)), mLi m s (nn m 46)) := by
  have hF60 := he.2.2.2.1.2
  refine q_loop (N := nn m 46) (s := fun j => (nI (cNt (nv m s) j), nI j)) (w := fun j => mLi m s j) (by show ((0 : Int32), (0 : Int32)) = (nI 0, nI 0); rw [nI_0]) (fun j hj L => ?_) (fun L => ?_) (by omega)
  · have x46 : mLi m s j 46 0 = nI (nn m 46) := by rw [mLi_o (by decide)]; exact he.2.2.2.1.1
    have x66 : mLi m s j 66 s = 0 := by rw [mLi_o (by decide)]; exact h66
    have x51 : mLi m s j 51 j = m 51 j := by rw [mLi_o (by decide)]
    have x69 : mLi m s j 69 (60 * s + j) = m 69 (60 * s + j) := mLi_x j fun f hf => by omega
    have xh : q_hears (nI s) (nI j) (mLi m s j) = some (b2i (hrs (m 57) (m 54) (nn m 52) s j), mLi m s j) := by
      have n52 : nn (mLi m s j) 52 = nn m 52 := by unfold nn; rw [mLi_o (by decide)]
      have := q_hears_eq (m := mLi m s j) (s := s) (f := j) (by rw [n52, mLi_o (by decide)]; exact he.2.2.2.2.1.1) (by rw [n52]; exact he.2.2.2.2.1.2)
      rw [n52, mLi_o (by decide), mLi_o (by decide)] at this
      exact this
    show qc (mLi m s j 46 0 ≤ nI j) _ _ _ = L (nI (cNt (nv m s) (j + 1)), nI (j + 1)) (mLi m s (j + 1))
    rw [mLi_e, cNt_s]
    generalize mLi m s j = w at x46 x66 x51 x69 xh ⊢
    rw [qc_f (by rw [x46]; exact nI_ge hj (by omega)), qa_e rfl hs (by decide), x66, qc_t rfl, qa_e rfl (by omega) (by decide), x51]
    refine qbd_t (r := if nv m s j = true then (1 : Int32) else 0) (m' := w) ?_ ?_
    · show qc (m 51 j = 0) _ _ _ = _
      by_cases q1 : m 51 j = 0
      · rw [qc_t q1, qa_e ix60 (by omega) (by decide), x69]
        by_cases q2 : m 69 (60 * s + j) = 0
        · rw [qc_t q2, qbd_e xh]
          by_cases q3 : hrs (m 57) (m 54) (nn m 52) s j = true
          · rw [q3, if_pos (nv_iff.mpr ⟨q1, q2, q3⟩)]
            show qc ((1 : Int32) = 0) _ _ _ = _
            rw [qc_f one_ne]; rfl
          · rw [if_neg (fun t => q3 (nv_iff.mp t).2.2)]
            have : hrs (m 57) (m 54) (nn m 52) s j = false := by
              cases hq : hrs (m 57) (m 54) (nn m 52) s j
              · rfl
              · exact absurd hq q3
            rw [this]
            show qc ((0 : Int32) = 0) _ _ _ = _
            rw [qc_t rfl]; rfl
        · rw [qc_f q2, if_neg (fun t => q2 (nv_iff.mp t).2.1)]; rfl
      · rw [qc_f q1, if_neg (fun t => q1 (nv_iff.mp t).1)]; rfl
    · rw [qa_e ix60 (by omega) (by decide), x69]
      by_cases q : nv m s j = true
      · rw [if_pos q, if_pos (Or.inr q), if_pos q]
        refine qbd_t (r := (1 : Int32)) (m' := w) ?_ ?_
        · show qc (m 69 (60 * s + j) = 0) _ _ _ = _
          by_cases q2 : m 69 (60 * s + j) = 0
          · rw [qc_t q2, qc_f one_ne]; rfl
          · rw [qc_f q2]; rfl
        · rw [qz_e ix60 (by omega) (by decide) (Or.inr rfl), qc_f one_ne, nI_1, nI_1]
      · rw [if_neg q, if_neg q]
        by_cases q2 : m 69 (60 * s + j) = 0
        · rw [if_neg (fun t => t.elim (fun t => t q2) q)]
          refine qbd_t (r := (0 : Int32)) (m' := w) ?_ ?_
          · show qc (m 69 (60 * s + j) = 0) _ _ _ = _
            rw [qc_t q2, qc_t rfl]; rfl
          · rw [qz_e ix60 (by omega) (by decide) (Or.inl rfl), qc_t rfl, nI_1, Int32.add_zero]
            rfl
        · rw [if_pos (Or.inl q2)]
          refine qbd_t (r := (1 : Int32)) (m' := w) ?_ ?_
          · show qc (m 69 (60 * s + j) = 0) _ _ _ = _
            rw [qc_f q2]; rfl
          · rw [qz_e ix60 (by omega) (by decide) (Or.inr rfl), qc_t rfl, nI_1, Int32.add_zero]
            rfl
  · have x46 : mLi m s (nn m 46) 46 0 = nI (nn m 46) := by rw [mLi_o (by decide)]; exact he.2.2.2.1.1
    show qc (mLi m s (nn m 46) 46 0 ≤ nI (nn m 46)) _ _ _ = _
    rw [qc_t (by rw [x46]; exact nI_le (Nat.le_refl _) (by omega))]
    rfl
theorem Inv.li {m : Mst} {T s : Nat} (h : Inv m T) (hT : T < 24) (hs : s < 4) : ∀ j, j ≤ nn m 46 → Inv (mLi m s j) T
  | 0, _ => h
  | j + 1, hj => by
    have ih := Inv.li (s := s) h hT hs j (by omega)
    have hF := (h.c46 hT).2
    have n46 : nn (mLi m s j) 46 = nn m 46 := by unfold nn; rw [mLi_o (by decide)]
    have x51 : mLi m s j 51 = m 51 := mLi_o (by decide) j
    rw [mLi_e]
    obtain ⟨y, hy⟩ : ∃ y : Int32, y = (if m 69 (60 * s + j) ≠ 0 ∨ nv m s j = true then 1 else 0) := ⟨_, rfl⟩
    have hy01 : y = 0 ∨ y = 1 := by
      rw [hy]
      split
      · exact Or.inr rfl
      · exact Or.inl rfl
    have hgood : m 51 j ≠ 0 → y = 0 := fun hg => by
      rw [hy, if_neg]
      rintro (r | r)
      · exact r ((h.pFa j (by omega)).2 hg s hs)
      · exact hg (nv_iff.mp r).1
    rw [← hy]
    generalize mLi m s j = w at ih n46 x51 ⊢
    obtain ⟨i1, i2, i3, b5, b6, b7, b8, b35, b51, b64, b66, b69, b73, iK, iA, iS, iC, iFm, iz, rest⟩ := ih
    refine ⟨i1, i2, i3, b5, b6, b7, b8, b35, b51, b64, b66, ?_, b73, iK, iA, iS, iC, ?_, ?_, rest⟩
    · rw [up2_r]; exact b69.up _ hy01
    · intro f hf
      have hf : f < nn w 46 := hf
      obtain ⟨j1, j2⟩ := iFm f hf
      refine ⟨j1, fun hg t ht => ?_⟩
      rw [up2_r]
      by_cases q : 60 * t + f = 60 * s + j
      · rw [q, up1_s]
        have : f = j := by omega
        subst this
        exact hgood (by rw [← x51]; exact hg)
      · rw [up1_n q]; exact j2 hg t ht
    · intro f hf hf2 t ht
      have hf : nn w 46 ≤ f := hf
      rw [up2_r, up1_n (by omega)]
      exact iz f hf hf2 t ht
theorem op_line (a : Int32) : OpV (fun z => h_X0_line (idc 0 0) a z) (q_line a) := by
  intro v m T b z x h hI hT
  show OpA (fun z => h_X0_line (idc 0 0) a z) (q_line a) v m T b z x
  have hb := h.vb
  obtain ⟨f1, f2⟩ := hI.c46 hT
  rcases q_service_x a m with ⟨s, hs, rfl, e1⟩ | ⟨ha, e1⟩
  rotate_left
  · refine OpA.bad h hI 1 (by decide) ?_ fun P X hP => ?_
    · unfold q_line
      rw [qbd_e e1, qbd_e q_may_f]; rfl
    · show h_X0_line (idc 0 0) a z P X v
      unfold h_X0_line
      refine hisK_i (htry_i ?_)
      unfold h_X1_line
      exact hbnd_i (serviceAt_f ha (by omega) (hx_1 (hrt_i hP)))
  have hU := h.1.1.hUn s hs
  have hlen : (vW v (6 + s)).length = cNt (nv m s) (nn m 46) := len_cNt hU.1 fun x => (hU.2 x).trans ⟨fun ⟨f, g1, g2, g3, g4, g5⟩ => ⟨f, g1, g2, nv_iff.mpr ⟨g3, g4, g5⟩⟩, fun ⟨f, g1, g2, g3⟩ => ⟨f, g1, g2, (nv_iff.mp g3).1, (nv_iff.mp g3).2.1, (nv_iff.mp g3).2.2⟩⟩
  have hle : cNt (nv m s) (nn m 46) ≤ nn m 46 := cNt_le
  have hmem : ∀ x, x ∈ vW v (6 + s) → x % 64 = 10 ∧ ∃ n, vM v 10 (x / 64) 0 = nI n ∧ n < 128 := fun x hx => by
    obtain ⟨f, g1, g2, -⟩ := (hU.2 x).mp hx
    rw [g2, idc_mod (by decide), idc_div (by decide)]
    exact ⟨rfl, f, h.1.1.hN10 f g1, by omega⟩
  have h14 := h.1.1.hCt.2.2.2.2.2.2.2.2.2.1
  have h15 := h.1.1.hCt.2.2.2.2.2.2.2.2.2.2.1
  have f66 : vM v 3 s 0 = m 66 s := h.1.1.f 3 0 66 (by decide) hs
  obtain ⟨-, g3, g4, -⟩ := h.1.1.hSe s hs
  have g3 : vN v 3 s 3 = idc 14 (14 + 2 * s) := g3
  have g4 : vN v 3 s 4 = idc 15 (6 + s) := g4
  have hmay : q_may 1 m = some (1, up2 m 82 0 0) := q_may_t
  have cw : ∀ (P : Int32 → Vw → Prop) (X : String → Vw → Prop), (m 66 s ≠ 0 → (hbJ z (nI (vW v (6 + s)).length).toInt64 <| hrt (0 : Int32)) P X (uWl (uBs (ub (uM v 3 s 0 0) 10) (14 + 2 * s) (addb (vB v (14 + 2 * s)) ((vW v (6 + s)).map (nmo v))) (3 * (vW v (6 + s)).length)) (6 + s) [] 0)) → (m 66 s = 0 → (hbJ z (0 : Int32).toInt64 <| hrt (0 : Int32)) P X (ub (uM v 3 s 0 1) 10)) → h_X0_line (idc 0 0) (nI s) z P X v := fun P X q1 q2 => by
    unfold h_X0_line
    refine hisK_i (htry_i ?_)
    unfold h_X1_line
    refine hbnd_i (c_serviceAt h.1 hs (hisK_i (hbn0_i ⟨6 + s, 14 + 2 * s, ⟨g4, by omega, g3, by omega, by omega, hmem⟩, fun r => hrt_i (q1 (by rw [← f66]; exact r)), fun r => hrt_i (q2 (by rw [← f66]; exact r))⟩)))
  by_cases q0 : m 66 s = 0
  · have hI1 : Inv (up2 (up2 m 82 0 0) 66 s 1) (T + 1) := by
      obtain ⟨i1, i2, i3, b5, b6, b7, b8, b35, b51, b64, b66, rest⟩ := (hI.m82 0).up
      refine ⟨i1, i2, i3, b5, b6, b7, b8, b35, b51, b64, ?_, rest⟩
      show iBo (up2 (up2 m 82 0 0) 66 s 1 66)
      rw [up2_r]
      exact b66.up s (Or.inr rfl)
    refine OpA.ok (r := 0) (m1 := up2 (up2 m 82 0 0) 66 s 1) ?_ hI1 rfl fun P X hP => cw P X (fun r => absurd q0 r) fun _ => hP _ 39000 T (by omega) ?_
    · unfold q_line
      rw [qbd_e e1, qbd_e hmay, qc_f one_ne, qa_e rfl hs (by decide)]
      refine qbd_t (r := (1 : Int32)) (m' := up2 m 82 0 0) (by rw [qc_t (show up2 m 82 0 0 66 s = 0 from q0)]; rfl) ?_
      rw [qz_e rfl hs (by decide) (Or.inr rfl)]
      show qc (m 46 0 ≤ 0) _ _ _ = _
      by_cases q : m 46 0 ≤ 0
      · rw [qc_t q]; rfl
      · rw [qc_f q, qa_e rfl hs (by decide), up2_s, qc_f one_ne]; rfl
    · exact ⟨(((h.1.1.m82 0).isDown s 1).less (b' := b + 39000 + 10) (by omega) (Nat.le_refl _)).spend (Nat.le_refl _), (MR.oM (K := 3) (i := s) (f := 0) (x := 1) h.1.2.1 rfl).eqv (v' := ub _ _) rfl rfl rfl, h.1.2.2⟩
  · have hI1 : Inv (up2 (up2 m 82 0 0) 66 s 0) T := by
      obtain ⟨i1, i2, i3, b5, b6, b7, b8, b35, b51, b64, b66, rest⟩ := hI.m82 0
      refine ⟨i1, i2, i3, b5, b6, b7, b8, b35, b51, b64, ?_, rest⟩
      show iBo (up2 (up2 m 82 0 0) 66 s 0 66)
      rw [up2_r]
      exact b66.up s (Or.inl rfl)
    have he := hI1.ei hT
    have g66 : up2 (up2 m 82 0 0) 66 s 0 66 s = 0 := up2_s
    have hll := q_liLoop he hs g66
    have n46 : nn (up2 (up2 m 82 0 0) 66 s 0) 46 = nn m 46 := rfl
    have env : nv (up2 (up2 m 82 0 0) 66 s 0) s = nv m s := rfl
    rw [n46, env] at hll
    refine OpA.ok (r := nI (cNt (nv m s) (nn m 46))) (m1 := mLi (up2 (up2 m 82 0 0) 66 s 0) s (nn m 46)) ?_ (hI1.li hT hs (nn m 46) (Nat.le_refl _)).up (by rw [mLi_o (by decide)]; rfl) fun P X hP => cw P X (fun _ => ?_) fun r => absurd r q0
    · unfold q_line
      rw [qbd_e e1, qbd_e hmay, qc_f one_ne, qa_e rfl hs (by decide)]
      refine qbd_t (r := (0 : Int32)) (m' := up2 m 82 0 0) (by rw [qc_f (show ¬ up2 m 82 0 0 66 s = 0 from q0)]; rfl) ?_
      rw [qz_e rfl hs (by decide) (Or.inl rfl)]
      exact hll
    · rw [hlen]
      have hm : ∀ f, f ∈ (vW v (6 + s)).map (nmo v) ↔ f < nn m 46 ∧ nv m s f = true := fun f => by
        have nm : ∀ g, g < nn m 46 → nmo v (idc 10 g) = g := fun g g1 => by
          have e : vM v 10 g 0 = nI g := h.1.1.hN10 g g1
          unfold nmo
          rw [idc_div (by decide), e, nI_clamp (by omega)]
        rw [List.mem_map]
        constructor
        · rintro ⟨x, x1, x2⟩
          obtain ⟨g, g1, g2, g3, g4, g5⟩ := (hU.2 x).mp x1
          rw [g2, nm g g1] at x2
          subst x2
          exact ⟨g1, nv_iff.mpr ⟨g3, g4, g5⟩⟩
        · rintro ⟨r1, r2⟩
          obtain ⟨g3, g4, g5⟩ := nv_iff.mp r2
          exact ⟨idc 10 f, (hU.2 _).mpr ⟨f, r1, rfl, g3, g4, g5⟩, nm f r1⟩
      refine hP _ 39000 T (by omega) ⟨CRh.lineUp (m := up2 m 82 0 0) (((h.m82 0).1.1).less (b' := b + 39000 + 100) (by omega) (Nat.le_refl _)) hs (by omega) (show nn m 46 ≤ 24 by omega) (fun F hF => by rw [mLi_o hF.2, up2_o hF.1]) (by rw [mLi_o (by decide), up2_r]) (fun f hf => ?_) (fun t ht hts f hf => ?_) (fun f hf => ?_), ?_, h.1.2.2⟩
      · show mLi (up2 (up2 m 82 0 0) 66 s 0) s (nn m 46) 69 (60 * s + f) ≠ 0 ↔ m 69 (60 * s + f) ≠ 0 ∨ (f < nn m 46 ∧ nv m s f = true)
        by_cases q : f < nn m 46
        · rw [mLi_s _ q]
          show (if m 69 (60 * s + f) ≠ 0 ∨ nv m s f = true then (1 : Int32) else 0) ≠ 0 ↔ _
          by_cases r : m 69 (60 * s + f) ≠ 0 ∨ nv m s f = true
          · rw [if_pos r]; exact ⟨fun _ => r.imp id fun t => ⟨q, t⟩, fun _ => one_ne⟩
          · rw [if_neg r]; exact ⟨fun t => absurd rfl t, fun t => absurd (t.imp id fun t => t.2) r⟩
        · rw [mLi_x _ (fun g hg => by omega)]
          show m 69 (60 * s + f) ≠ 0 ↔ _
          exact ⟨Or.inl, fun t => t.elim id fun t => absurd t.1 q⟩
      · rw [mLi_x _ (fun g hg => by omega)]
        rfl
      · show addb (vB v (14 + 2 * s)) ((vW v (6 + s)).map (nmo v)) f = (vB v (14 + 2 * s) f || (decide (f < nn m 46) && nv m s f))
        rw [addb_iff]
        by_cases q : f < nn m 46 ∧ nv m s f = true
        · rw [decide_eq_true ((hm f).mpr q), decide_eq_true q.1, q.2]; rfl
        · rw [decide_eq_false (fun t => q ((hm f).mp t))]
          have : (decide (f < nn m 46) && nv m s f) = false := by
            by_cases r : f < nn m 46
            · rw [decide_eq_true r]
              cases hq : nv m s f
              · rfl
              · exact absurd ⟨r, hq⟩ q
            · rw [decide_eq_false r]; rfl
          rw [this]
      · exact (h.1.2.1.oM (K := 3) (i := s) (f := 0) (x := 0) rfl).eqv (v' := uWl (uBs (ub _ _) _ _ _) _ _ _) rfl rfl rfl
