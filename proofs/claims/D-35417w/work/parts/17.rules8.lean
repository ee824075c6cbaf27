/-! ===== the rules: copies and clones of arrays, a thing's clone ===== -/
section R10
variable {g : GP} {Γ : Cx} {M : Mx} {ρ α : Type} {Z : Zx ρ} {L L' : List (Nat × Value)} {st : List Value} {τ : Type} {Po : τ → St → Prop} {pr pr2 : PT τ}
/-- one and the same reference -/
theorem x_acmp_neS (pc : Nat) {a : Nat} {off : Int} (hd : decode M.2.1 pc = .ok (.if_acmp .ne off, 3)) (tgt : Nat) (ht : (pc : Int) + off = (tgt : Int)) (k1 : TX g Γ M Z Po (pc + 3) L st pr) : TX g Γ M Z Po pc L (.ref a :: .ref a :: st) pr := by
  obtain ⟨p, l, e, R, s, m, args, below, meth, c, Q⟩ := Γ
  intro F A C H locs ls S hp
  show WW _ H locs (F0 m pc ls (dv A (.ref a) :: dv A (.ref a) :: st.map (dv A)))
  rw [dv_oA]
  exact lv_acmp_ne F.1 F.2.1 hd ht (fun h => absurd rfl h) (fun _ => k1 F A C H locs ls (TXs_st S (okt (okt S.2.2.1))) hp)
/-- the class object of an Object[] -/
theorem x_getC (pc : Nat) {idx i : Nat} (hq : Cond.methodLink M.1 idx ⟨"java/lang/Object", "getClass", "()Ljava/lang/Class;"⟩ ∈ lw_all) (hs : Cond.selects "[Ljava/lang/Object;" ⟨"java/lang/Object", "getClass", "()Ljava/lang/Class;"⟩ ⟨"java/lang/Object", "getClass", "()Ljava/lang/Class;"⟩ ∈ lw_all) (hi' : Cond.instanceMethod ⟨"java/lang/Object", "getClass", "()Ljava/lang/Class;"⟩ ∈ lw_all) (hn : Cond.native ⟨"java/lang/Object", "getClass", "()Ljava/lang/Class;"⟩ ∈ lw_all) (hdc : Cond.declares ⟨"java/lang/Object", "getClass", "()Ljava/lang/Class;"⟩ ∈ lw_tbl) (hdd : 1 ≤ M.2.2.2.1) (hst : (st.map fun v => v.category).sum ≤ 8)
    (hd : decode M.2.1 pc = .ok (.invokevirtual idx, 3)) (k1 : TX g Γ M Z Po (pc + 3) L (.ref (idc 52 0) :: st) pr) : TX g Γ M Z Po pc L (.ref (idc 35 i) :: st) pr := by
  obtain ⟨p, l, e, R, s, m, args, below, meth, c, Q⟩ := Γ
  intro F A C H locs ls S hp
  have hi : i < sK C 35 := (okN_idc (by omega)).mp (okV_u (okh S.2.2.1))
  have K1 := k1 F A C H locs ls (TXs_st S (okc (okc_ro S.2.2.2.1 (by omega) (by omega)) (okt S.2.2.1))) hp
  rw [List.map_cons, dv_ro S.2.2.2.1 (by omega)] at K1
  have hKF : KF g s := F.2.2.2.2.2.1
  have ha := ((S.2.2.2.1.1 35 i (by omega) hi).1.2 (by omega)).1
  have hRA := (hKF.2.1 35 (by omega) (by omega)).2
  obtain ⟨r1, r2, -, -⟩ := F.2.2.2.2.2.2.2.1
  have e1 : M.2.2.2.1 ≤ R.frames := r1
  have e2 : 64 * M.2.2.2.1 ≤ R.locals := r2
  have hsum := hst_dv (A := A) hst
  show WW _ H locs (F0 m pc ls (dv A (.ref (idc 35 i)) :: st.map (dv A)))
  rw [dv_k (by omega)]
  have hts := F.2.2.2.2.1
  refine va_getC (C := "[Ljava/lang/Object;") F.1 F.2.1 (by rw [F.2.2.1]; exact S.1.1.symm) F.2.2.2.1 (hts _ hq) (va_Nw.use rfl (hKF.2.2.1 _ hdc rfl)) (hts _ hs) (hts _ hi') (hts _ hn) hKF.2.2.2.2.2.2.2.1 ⟨_, ha, rfl, ?_⟩ (by omega) (by omega) hd K1
  obtain ⟨kA', comp', g1, g2, g3, g4⟩ := hRA
  exact g4
theorem cpy_sv {α : Type} {f f2 : Nat → α} {v : α → Value} {sp dp n : Nat} (j : Nat) : v (va_cpy f f2 sp dp n j) = va_cpy (fun k => v (f k)) (fun k => v (f2 k)) sp dp n j := by
  unfold va_cpy
  split <;> rfl
theorem va_copied0 (c0 c1 : ClassId) {n0 n1 sp dp n : Nat} (f f2 : Nat → Value) (hs : sp + n ≤ n0) : (arrV c1 n1 f2).storeRun dp ((arrV c0 n0 f).stretch sp n) = arrV c1 n1 (va_cpy f f2 sp dp n) := va_copied (fun v => v) c0 c1 f f2 hs
theorem nn_i32 {z : Int32} (hz : ¬ z < 0) : z.toInt = (z.toNatClampNeg : Int) := by
  have hz0 : (0 : Int) ≤ z.toInt := by
    have := Int32.not_lt.mp hz
    simpa using Int32.le_iff_toInt_le.mp this
  show z.toInt = ((z.toInt.toNat : Nat) : Int)
  omega
theorem va_S_puts {A : Nat → Prop} {H0 H H1 : Heap} {locs L : List Loc} {a : Nat} (h : va_S A H0 H locs) (z : H1.size = H.size) (oq : ∀ q : Nat, q ≠ a → H1[q]? = H[q]?) (ha : A a) (hL : ∀ q ∈ L, q.base = a) : va_S A H0 H1 (locs ++ L) := by
  refine ⟨by rw [z]; exact h.1, fun q h1 h2 => ?_, fun q hq => ?_⟩
  · rw [oq q (fun e => h2 (e ▸ ha))]; exact h.2.1 q h1 h2
  · rcases List.mem_append.mp hq with x | x
    · exact h.2.2 q x
    · rw [hL q x]; exact ha
/-- a stretch of an array copied into another, or into itself -/
theorem tx_copy {p : Program} {l : Launch} {e : Env} {R : Room} {s : State} {m : MethodId} {args : Array Value} {below : List Frame} {meth : Method} {c : Code} {Q : State → Prop} {locs : List Loc} {A : Nat → Nat} {C C' : St} {H : Heap} {ls : Array Slot} {pc K i0 i1 idx : Nat} {sp dp n : Int32}
    (F : TXok g (p, l, e, R, s, m, args, below, meth, c, Q) M.1 M.2.1 M.2.2.1 M.2.2.2.1 M.2.2.2.2.1 M.2.2.2.2.2.1 M.2.2.2.2.2.2 Z) (S : TXs g (p, l, e, R, s, m, args, below, meth, c, Q) Z M.2.2.1 L (.int n :: .int dp :: .ref (idc K i1) :: .int sp :: .ref (idc K i0) :: st) A C H locs ls)
    (hK : K = 34 ∨ K = 35) (hq : Cond.methodLink M.1 idx arraycopyName ∈ lw_all) (q2 : Cond.native arraycopyName ∈ lw_all) (q3 : Cond.static arraycopyName ∈ lw_all) (q4 : Cond.initialized "java/lang/System" ∈ lw_all) (hdd : 1 ≤ M.2.2.2.1) (hst : (st.map fun v => v.category).sum ≤ 8) (hd : decode M.2.1 pc = .ok (.invokestatic idx, 3))
    (h1 : ¬ sp < 0) (h2 : ¬ dp < 0) (h3 : ¬ n < 0) (h4 : sp.toNatClampNeg + n.toNatClampNeg ≤ sL C K i0) (h5 : dp.toNatClampNeg + n.toNatClampNeg ≤ sL C K i1)
    (hel : K = 35 → ∀ j, j < n.toNatClampNeg → elOK (sN C 35 i0 (sp.toNatClampNeg + j)))
    (hk' : sK C' = sK C) (hc' : sC C' = sC C) (hs' : sS C' = sS C) (hl' : sL C' = sL C) (hv' : ∀ K' i', ¬ (K' = K ∧ i' = i1) → sv A C' K' i' = sv A C K' i') (hr' : ∀ j, sv A C' K i1 j = va_cpy (sv A C K i0) (sv A C K i1) sp.toNatClampNeg dp.toNatClampNeg n.toNatClampNeg j) (hn' : ∀ K i j, i < sK C K → okN C (sN C' K i j))
    (k1 : ∀ (H' : Heap) (locs' : List Loc), Den g A C' H' → va_S (Af g) s.heap H' locs' → WW (p, l, e, R, s, m, args, below, meth, c, Q) H' locs' (F0 m (pc + 3) ls (st.map (dv A)))) :
    WW (p, l, e, R, s, m, args, below, meth, c, Q) H locs (F0 m pc ls ((.int n :: .int dp :: .ref (idc K i1) :: .int sp :: .ref (idc K i0) :: st).map (dv A))) := by
  have hK38 : K < 38 ∧ 32 ≤ K := by omega
  have hi1 : i1 < sK C K := (okN_idc (by omega)).mp (okV_u (okh (okt (okt S.2.2.1))))
  have hi0 : i0 < sK C K := (okN_idc (by omega)).mp (okV_u (okh (okt (okt (okt (okt S.2.2.1))))))
  have hD := S.2.2.2.1
  have hKF : KF g s := F.2.2.2.2.2.1
  obtain ⟨hrep1, hlo1, hhi1⟩ := hD.1 K i1 (by omega) hi1
  obtain ⟨hrep0, -, -⟩ := hD.1 K i0 (by omega) hi0
  obtain ⟨ha1, hlen1⟩ := hrep1.2 (by omega)
  obtain ⟨ha0, -⟩ := hrep0.2 (by omega)
  obtain ⟨hAr, hRA⟩ := hKF.2.1 K (by omega) (by omega)
  obtain ⟨-, k0, hk0, cm0, hkk0⟩ := hAr (sL C K i0) (sv A C K i0)
  obtain ⟨-, k9, hk9, cm9, hkk9⟩ := hAr (sL C K i1) (sv A C K i1)
  obtain ⟨r1, r2, -, -⟩ := F.2.2.2.2.2.2.2.1
  have e1 : M.2.2.2.1 ≤ R.frames := r1
  have e2 : 64 * M.2.2.2.1 ≤ R.locals := r2
  have hsum := hst_dv (A := A) hst
  have hts := F.2.2.2.2.1
  show WW _ H locs (F0 m pc ls (.int n :: .int dp :: dv A (.ref (idc K i1)) :: .int sp :: dv A (.ref (idc K i0)) :: st.map (dv A)))
  rw [dv_k (by omega), dv_k (by omega)]
  intro T hT X
  obtain ⟨vm', X', step⟩ := X.arraycopy F.1 F.2.2.2.1 (hts _ hq) (hts _ q2) (hts _ q3) (hts _ q4) (src := A (idc K i0)) (dst := A (idc K i1)) (cs := arrV (gA g K) (sL C K i0) (sv A C K i0)) (cd := arrV (gA g K) (sL C K i1) (sv A C K i1)) (srcPos := sp) (destPos := dp) (n := n) (by rw [hT]; exact ha0) (by rw [hT]; exact ha1)
    (fun _ h => by cases h) (fun _ h => by cases h) (fun h => by cases h) (fun h => by cases h) hk0 hk9 hkk0 hkk9 (by rcases hK with h | h <;> subst h <;> rfl) h1 h2 h3
    (by rw [nn_i32 h1, nn_i32 h3, arrV_size]; omega) (by rw [nn_i32 h2, nn_i32 h3, arrV_size]; omega)
    (fun vm₁ hal j hj => by
      have e : (arrV (gA g K) (sL C K i0) (sv A C K i0)).slots.getD (sp.toNatClampNeg + j) .null = sv A C K i0 (sp.toNatClampNeg + j) := by
        rw [Array.getD_eq_getD_getElem?, arrV_read _ _ (by omega)]; rfl
      rw [e]
      rcases hK with h | h
      · subst h
        rw [sv_l (kt_34 _)]
        exact ⟨rfl, trivial⟩
      · subst h
        rw [sv_q (kt_q (by omega) _)]
        have hx := hel rfl j hj
        generalize hxe0 : sN C 35 i0 (sp.toNatClampNeg + j) = x at hx
        have hox : okN C x := by rw [← hxe0]; exact hD.2.2.1 35 i0 _ hi0
        by_cases hnull : x = 62
        · subst hnull
          exact ⟨rfl, trivial⟩
        · rw [dv_r hnull]
          have hin2 := hox.resolve_left hnull
          have hx2 := hx.resolve_left hnull
          obtain ⟨kA, comp, g1, g2, g3, g4⟩ := hRA
          cases hk9.symm.trans g1
          have hcm : comp = cm9 := by
            have hh := hkk9.symm.trans g2
            injection hh with u1 u2
            exact u1.symm
          have hx3 : ∃ cellV : Cell, H[A x]? = some cellV ∧ cellV.vm.isStatics = false ∧ (∃ kV, s.vm.classes[cellV.cls]? = some kV) ∧ s.vm.assignable cellV.cls comp = true := by
            have hxe : idc (x % 64) (x / 64) = x := idc_of x
            rcases hx2 with hlt | ⟨h49, hlt⟩
            · obtain ⟨cell, q1, q2, q3, q4⟩ := tx_cell hD hKF (i := x / 64) hlt hin2
              rw [hxe] at q1
              obtain ⟨kV, hkV, -⟩ := q4.2
              refine ⟨cell, q1, by rw [q2]; rfl, ⟨kV, hkV⟩, ?_⟩
              have hca : va_Nw (.castable (kC (x % 64)).1 "java/lang/Object") s := hKF.2.2.1 _ (kob _ hlt) rfl
              obtain ⟨c0, t0, f1, f2, f3⟩ := Cond.castable_spec (va_Nw.use (A := args) rfl hca)
              cases q3.symm.trans f1
              cases g3.symm.trans f2
              exact f3
            · obtain ⟨cell, q1, q2, q3⟩ := tx_box (j := x / 64) hD F.2.2.2.2.2.2.1 S.2.2.2.2.1 hlt
              rw [← h49, hxe] at q1
              have hca : va_Nw (.castable "java/lang/Integer" "java/lang/Object") s := hKF.2.2.1 _ (kob 20 (by omega)) rfl
              obtain ⟨c0, t0, f1, f2, f3⟩ := Cond.castable_spec (va_Nw.use (A := args) rfl hca)
              cases q3.symm.trans f1
              cases g3.symm.trans f2
              obtain ⟨kV, hkV, -⟩ := Vm.findClass_spec f1
              exact ⟨cell, q1, q2, ⟨kV, hkV⟩, f3⟩
          obtain ⟨cellV, v1, v2, ⟨kV, hkV⟩, v3⟩ := hx3
          rw [hcm] at g3 v3
          obtain ⟨kE, hkE, -⟩ := Vm.findClass_spec g3
          obtain ⟨kC', hkC', -⟩ := hal.2.2 _ _ hkV
          obtain ⟨kE', hkE', -⟩ := hal.2.2 _ _ hkE
          refine ⟨rfl, cellV, (show T.heap[A x]? = some cellV by rw [hT]; exact v1), (fun q h => by rw [h] at v2; cases v2), ⟨kC', hkC'⟩, ⟨kE', hkE'⟩, ?_⟩
          show vm₁.assignable _ _ = true
          rw [hal.assignable]
          exact v3)
    (g := F0 m pc ls (.int n :: .int dp :: .ref (A (idc K i1)) :: .int sp :: .ref (A (idc K i0)) :: st.map (dv A))) rfl (by rw [F.2.2.1]; exact S.1.1) (rest := st.map (dv A)) rfl (by rw [F.2.1]; exact hd) (by omega) (by
      have : nativeFrameWords "java/lang/System" "arraycopy" 5 ≤ 40 := by decide
      show 2 * 0 + _ + _ ≤ _; omega)
  have eC : copied (arrV (gA g K) (sL C K i0) (sv A C K i0)) (arrV (gA g K) (sL C K i1) (sv A C K i1)) sp dp n = arrV (gA g K) (sL C K i1) (va_cpy (sv A C K i0) (sv A C K i1) sp.toNatClampNeg dp.toNatClampNeg n.toNatClampNeg) := va_copied0 (gA g K) (gA g K) (sv A C K i0) (sv A C K i1) h4
  rw [eC] at X' step
  generalize hcell : arrV (gA g K) (sL C K i1) (va_cpy (sv A C K i0) (sv A C K i1) sp.toNatClampNeg dp.toNatClampNeg n.toNatClampNeg) = ce at X' step
  have hheap : ((T.setVm vm').setCell (A (idc K i1)) ce).heap = H.setIfInBounds (A (idc K i1)) ce := by rw [← hT]; rfl
  have oq : ∀ q : Nat, q ≠ A (idc K i1) → (H.setIfInBounds (A (idc K i1)) ce)[q]? = H[q]? := fun q hq => by simp [Array.getElem?_setIfInBounds, Ne.symm hq]
  have aq : (H.setIfInBounds (A (idc K i1)) ce)[A (idc K i1)]? = some ce := by simp [Array.getElem?_setIfInBounds, hhi1]
  have zq : (H.setIfInBounds (A (idc K i1)) ce).size = H.size := by simp
  have htot : tot (H.setIfInBounds (A (idc K i1)) ce) = tot H := tot_set zq ha1 aq (by rw [← hcell, arrV_size, arrV_size]) oq
  have hD' : Den g A C' (H.setIfInBounds (A (idc K i1)) ce) := hD.write (by omega) hi1 zq oq htot hk' hc' hs' (fun K' i' hne => ⟨hv' K' i' hne, by rw [hl']⟩) ⟨fun h => absurd h (by omega), fun _ => ⟨by
      rw [aq, ← hcell, hl']
      congr 2
      funext j
      exact (hr' j).symm, by rw [hl']; exact hlen1⟩⟩ hn'
  have hLf : ∀ q ∈ (((arrV (gA g K) (sL C K i0) (sv A C K i0)).stretch sp.toNatClampNeg n.toNatClampNeg).zipIdx.map fun q => (⟨A (idc K i1), dp.toNatClampNeg + q.2⟩ : Loc)), q.base = A (idc K i1) := fun q hq => by
    obtain ⟨z, -, hz⟩ := List.mem_map.mp hq
    rw [← hz]
  have K1 := k1 (H.setIfInBounds (A (idc K i1)) ce) _ hD' (va_S_puts S.2.2.2.2.1 zq oq hlo1 hLf)
  obtain ⟨t, a1, b1⟩ := (W.tight fun _ _ => K1) ((T.setVm vm').setCell (A (idc K i1)) ce) hheap X'
  exact ⟨t, step t a1, b1⟩
theorem sv_rN_n {A : Nat → Nat} {C : St} {K i K' i' : Nat} {f : Nat → Nat} (h : ¬ (K' = K ∧ i' = i)) : sv A (rN C K i f) K' i' = sv A C K' i' := by
  refine sv_ext (fun _ => rfl) (fun j => ?_) (fun _ => rfl)
  show row3 (sN C) K i f K' i' j = _
  unfold row3; rw [if_neg h]
theorem sv_rG_n {A : Nat → Nat} {C : St} {K i K' i' : Nat} {f : Nat → Int64} (h : ¬ (K' = K ∧ i' = i)) : sv A (rG C K i f) K' i' = sv A C K' i' := by
  refine sv_ext (fun _ => rfl) (fun _ => rfl) (fun j => ?_)
  show row3 (sG C) K i f K' i' j = _
  unfold row3; rw [if_neg h]
theorem x_copyR (pc : Nat) {idx i0 i1 : Nat} {sp dp n : Int32} (hq : Cond.methodLink M.1 idx arraycopyName ∈ lw_all) (q2 : Cond.native arraycopyName ∈ lw_all) (q3 : Cond.static arraycopyName ∈ lw_all) (q4 : Cond.initialized "java/lang/System" ∈ lw_all) (hdd : 1 ≤ M.2.2.2.1) (hst : (st.map fun v => v.category).sum ≤ 8) (hd : decode M.2.1 pc = .ok (.invokestatic idx, 3)) (k1 : TX g Γ M Z Po (pc + 3) L st pr) : TX g Γ M Z Po pc L (.int n :: .int dp :: .ref (idc 35 i1) :: .int sp :: .ref (idc 35 i0) :: st) (cpR i0 sp i1 dp n pr) := by
  obtain ⟨p, l, e, R, s, m, args, below, meth, c, Q⟩ := Γ
  intro F A C H locs ls S hp
  obtain ⟨⟨h1, h2, h3, h4, h5, h6⟩, hp⟩ := hp
  have hi0 : i0 < sK C 35 := (okN_idc (by omega)).mp (okV_u (okh (okt (okt (okt (okt S.2.2.1))))))
  have hi1 : i1 < sK C 35 := (okN_idc (by omega)).mp (okV_u (okh (okt (okt S.2.2.1))))
  refine tx_copy (C' := rN C 35 i1 (va_cpy (sN C 35 i0) (sN C 35 i1) sp.toNatClampNeg dp.toNatClampNeg n.toNatClampNeg)) F S (Or.inr rfl) hq q2 q3 q4 hdd hst hd h1 h2 h3 h4 h5 (fun _ => h6) rfl rfl rfl rfl (fun _ _ h => sv_rN_n h) (fun j => ?_) (fun K i j hi => ?_)
    (fun H' locs' hD' hS' => k1 F A (rN C 35 i1 (va_cpy (sN C 35 i0) (sN C 35 i1) sp.toNatClampNeg dp.toNatClampNeg n.toNatClampNeg)) H' locs' ls (TXs_w S rfl (okt (okt (okt (okt (okt S.2.2.1))))) hD' hS') hp)
  · have e2 : ∀ k, sv A C 35 k = fun j => dv A (.ref (sN C 35 k j)) := fun k => by funext j; exact sv_q (kt_q (by omega) _)
    rw [sv_q (kt_q (by omega) _), e2, e2, ← cpy_sv (v := fun x => dv A (.ref x))]
    show dv A (.ref (row3 (sN C) 35 i1 _ 35 i1 j)) = _
    rw [row3_s]
  · show okN C (row3 (sN C) 35 i1 _ K i j)
    unfold row3
    split
    · unfold va_cpy
      split
      · exact S.2.2.2.1.2.2.1 35 i0 _ hi0
      · exact S.2.2.2.1.2.2.1 35 i1 _ hi1
    · exact S.2.2.2.1.2.2.1 K i j hi
theorem x_copyJ (pc : Nat) {idx i0 i1 : Nat} {sp dp n : Int32} (hq : Cond.methodLink M.1 idx arraycopyName ∈ lw_all) (q2 : Cond.native arraycopyName ∈ lw_all) (q3 : Cond.static arraycopyName ∈ lw_all) (q4 : Cond.initialized "java/lang/System" ∈ lw_all) (hdd : 1 ≤ M.2.2.2.1) (hst : (st.map fun v => v.category).sum ≤ 8) (hd : decode M.2.1 pc = .ok (.invokestatic idx, 3)) (k1 : TX g Γ M Z Po (pc + 3) L st pr) : TX g Γ M Z Po pc L (.int n :: .int dp :: .ref (idc 34 i1) :: .int sp :: .ref (idc 34 i0) :: st) (cpJ i0 sp i1 dp n pr) := by
  obtain ⟨p, l, e, R, s, m, args, below, meth, c, Q⟩ := Γ
  intro F A C H locs ls S hp
  obtain ⟨⟨h1, h2, h3, h4, h5⟩, hp⟩ := hp
  refine tx_copy (C' := rG C 34 i1 (va_cpy (sG C 34 i0) (sG C 34 i1) sp.toNatClampNeg dp.toNatClampNeg n.toNatClampNeg)) F S (Or.inl rfl) hq q2 q3 q4 hdd hst hd h1 h2 h3 h4 h5 (fun h => by cases h) rfl rfl rfl rfl (fun _ _ h => sv_rG_n h) (fun j => ?_) (fun K i j hi => S.2.2.2.1.2.2.1 K i j hi)
    (fun H' locs' hD' hS' => k1 F A (rG C 34 i1 (va_cpy (sG C 34 i0) (sG C 34 i1) sp.toNatClampNeg dp.toNatClampNeg n.toNatClampNeg)) H' locs' ls (TXs_w S rfl (okt (okt (okt (okt (okt S.2.2.1))))) hD' hS') hp)
  have e2 : ∀ k, sv A C 34 k = fun j => .long (sG C 34 k j) := fun k => by funext j; exact sv_l (kt_34 _)
  rw [sv_l (kt_34 _), e2, e2, ← cpy_sv (v := fun x => .long x)]
  show Value.long (row3 (sG C) 34 i1 _ 34 i1 j) = _
  rw [row3_s]
end R10
