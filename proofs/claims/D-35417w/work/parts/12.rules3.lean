/-! ===== the rules: arrays ===== -/
theorem kt_32 (j : Nat) : kt 32 j = 0 := rfl
theorem kt_33 (j : Nat) : kt 33 j = 0 := rfl
theorem kt_34 (j : Nat) : kt 34 j = 2 := rfl
theorem kt_q {K : Nat} (h : 35 ≤ K) (j : Nat) : kt K j = 1 := by
  unfold kt
  rw [if_neg (by omega), if_neg (by omega), if_neg (by omega)]
section R3
variable {g : GP} {Γ : Cx} {M : Mx} {ρ : Type} {Z : Zx ρ} {L L' : List (Nat × Value)} {st : List Value} {τ : Type} {Po : τ → St → Prop} {pr pr2 : PT τ}
theorem vin_arr {K n : Nat} {f : Nat → Value} {cA : ClassId} {v : Int32} (h : vp_in v n) : ¬ (v < 0 ∨ (arrV cA n f).slots.size ≤ v.toNatClampNeg) := by rw [arrV_size]; exact h
theorem vin_lt {n : Nat} {v : Int32} (h : vp_in v n) : v.toNatClampNeg < n := Nat.not_le.mp fun q => h (Or.inr q)
theorem x_iald (pc : Nat) {i : Nat} {v : Int32} {kk : Int32 → PT τ} (hd : decode M.2.1 pc = .ok (.iaload, 1)) (k1 : ∀ x : Int32, TX g Γ M Z Po (pc + 1) L (.int x :: st) (kk x)) : TX g Γ M Z Po pc L (.int v :: .ref (idc 32 i) :: st) (aI 32 i v kk) := by
  obtain ⟨p, l, e, R, s, m, args, below, meth, c, Q⟩ := Γ
  intro F A C H locs ls S hp
  obtain ⟨hin, hp⟩ := hp
  have hi : i < sK C 32 := (okN_idc (by omega)).mp (okV_u (okh (okt S.2.2.1)))
  have K1 := k1 _ F A C H locs ls (TXs_st S (okc (okV_i _) (okt (okt S.2.2.1)))) hp
  have ha := ((S.2.2.2.1.1 32 i (by omega) hi).1.2 (by omega)).1
  show WW _ H locs (F0 m pc ls (.int v :: dv A (.ref (idc 32 i)) :: st.map (dv A)))
  rw [dv_k (by omega)]
  exact W.iald (v := .int (sM C 32 i v.toNatClampNeg)) F.1 F.2.1 ha ((F.2.2.2.2.2.1.2.1 32 (by omega) (by omega)).1 _ _) (fun h => by cases h) (vin_arr (K := 32) hin) (by rw [arrV_read _ _ (vin_lt hin)]; rfl) rfl rfl hd K1
theorem x_zald (pc : Nat) {i : Nat} {v : Int32} {kk : Int32 → PT τ} (hd : decode M.2.1 pc = .ok (.baload, 1)) (k1 : ∀ x : Int32, TX g Γ M Z Po (pc + 1) L (.int x :: st) (kk x)) : TX g Γ M Z Po pc L (.int v :: .ref (idc 33 i) :: st) (aI 33 i v kk) := by
  obtain ⟨p, l, e, R, s, m, args, below, meth, c, Q⟩ := Γ
  intro F A C H locs ls S hp
  obtain ⟨hin, hp⟩ := hp
  have hi : i < sK C 33 := (okN_idc (by omega)).mp (okV_u (okh (okt S.2.2.1)))
  have K1 := k1 _ F A C H locs ls (TXs_st S (okc (okV_i _) (okt (okt S.2.2.1)))) hp
  have ha := ((S.2.2.2.1.1 33 i (by omega) hi).1.2 (by omega)).1
  show WW _ H locs (F0 m pc ls (.int v :: dv A (.ref (idc 33 i)) :: st.map (dv A)))
  rw [dv_k (by omega)]
  exact W.zald (v := .int (sM C 33 i v.toNatClampNeg)) F.1 F.2.1 ha ((F.2.2.2.2.2.1.2.1 33 (by omega) (by omega)).1 _ _) (fun h => by cases h) (vin_arr (K := 33) hin) (by rw [arrV_read _ _ (vin_lt hin)]; rfl) rfl rfl hd K1
theorem x_lald (pc : Nat) {i : Nat} {v : Int32} {kk : Int64 → PT τ} (hd : decode M.2.1 pc = .ok (.laload, 1)) (k1 : ∀ x : Int64, TX g Γ M Z Po (pc + 1) L (.long x :: st) (kk x)) : TX g Γ M Z Po pc L (.int v :: .ref (idc 34 i) :: st) (aJ 34 i v kk) := by
  obtain ⟨p, l, e, R, s, m, args, below, meth, c, Q⟩ := Γ
  intro F A C H locs ls S hp
  obtain ⟨hin, hp⟩ := hp
  have hi : i < sK C 34 := (okN_idc (by omega)).mp (okV_u (okh (okt S.2.2.1)))
  have K1 := k1 _ F A C H locs ls (TXs_st S (okc (okV_l _) (okt (okt S.2.2.1)))) hp
  have ha := ((S.2.2.2.1.1 34 i (by omega) hi).1.2 (by omega)).1
  show WW _ H locs (F0 m pc ls (.int v :: dv A (.ref (idc 34 i)) :: st.map (dv A)))
  rw [dv_k (by omega)]
  exact W.lald (v := .long (sG C 34 i v.toNatClampNeg)) F.1 F.2.1 ha ((F.2.2.2.2.2.1.2.1 34 (by omega) (by omega)).1 _ _) (fun h => by cases h) (vin_arr (K := 34) hin) (by rw [arrV_read _ _ (vin_lt hin)]; rfl) rfl rfl hd K1
theorem x_aald (pc : Nat) {K i : Nat} {v : Int32} {kk : Nat → PT τ} (hK : 35 ≤ K ∧ K < 38) (hd : decode M.2.1 pc = .ok (.aaload, 1)) (k1 : ∀ x : Nat, TX g Γ M Z Po (pc + 1) L (.ref x :: st) (kk x)) : TX g Γ M Z Po pc L (.int v :: .ref (idc K i) :: st) (aR K i v kk) := by
  obtain ⟨p, l, e, R, s, m, args, below, meth, c, Q⟩ := Γ
  intro F A C H locs ls S hp
  obtain ⟨hin, hp⟩ := hp
  have hi : i < sK C K := (okN_idc (by omega)).mp (okV_u (okh (okt S.2.2.1)))
  have K1 := k1 _ F A C H locs ls (TXs_st S (okc (okV_r (S.2.2.2.1.2.2.1 K i v.toNatClampNeg hi)) (okt (okt S.2.2.1)))) hp
  have ha := ((S.2.2.2.1.1 K i (by omega) hi).1.2 (by omega)).1
  show WW _ H locs (F0 m pc ls (.int v :: dv A (.ref (idc K i)) :: st.map (dv A)))
  rw [dv_k (by omega)]
  have href : (aty K).isReference = true := by
    rcases (by omega : K = 35 ∨ K = 36 ∨ K = 37) with h | h | h <;> subst h <;> rfl
  exact W.aald (v := dv A (.ref (sN C K i v.toNatClampNeg))) (ty := aty K) F.1 F.2.1 ha ((F.2.2.2.2.2.1.2.1 K (by omega) (by omega)).1 _ _) href (fun h => by cases h) (vin_arr (K := K) hin) (by rw [arrV_read _ _ (vin_lt hin), sv_q (kt_q hK.1 _)]) rfl rfl hd K1
theorem x_alen (pc : Nat) {K i : Nat} {kk : Int32 → PT τ} (hK : 32 ≤ K ∧ K < 38) (hd : decode M.2.1 pc = .ok (.arraylength, 1)) (k1 : ∀ x : Int32, TX g Γ M Z Po (pc + 1) L (.int x :: st) (kk x)) : TX g Γ M Z Po pc L (.ref (idc K i) :: st) (aLen K i kk) := by
  obtain ⟨p, l, e, R, s, m, args, below, meth, c, Q⟩ := Γ
  intro F A C H locs ls S hp
  have hi : i < sK C K := (okN_idc (by omega)).mp (okV_u (okh S.2.2.1))
  have K1 := k1 _ F A C H locs ls (TXs_st S (okc (okV_i _) (okt S.2.2.1))) hp
  have ha := ((S.2.2.2.1.1 K i (by omega) hi).1.2 (by omega)).1
  show WW _ H locs (F0 m pc ls (dv A (.ref (idc K i)) :: st.map (dv A)))
  rw [dv_k (by omega)]
  exact W.alen F.1 F.2.1 ha ((F.2.2.2.2.2.1.2.1 K (by omega) (by omega)).1 _ _) (by rw [arrV_size]; rfl) rfl rfl hd K1
/-- one element of an array anew -/
theorem tx_ast {p : Program} {l : Launch} {e : Env} {R : Room} {s : State} {m : MethodId} {args : Array Value} {below : List Frame} {meth : Method} {c : Code} {Q : State → Prop} {locs : List Loc} {A : Nat → Nat} {C C' : St} {H : Heap} {f : JFrame} {K i : Nat} {v : Int32} {x : Value}
    (hD : Den g A C H) (hK : 32 ≤ K ∧ K < 38) (hi : i < sK C K) (hS0 : va_S (Af g) s.heap H locs)
    (hk' : sK C' = sK C) (hc' : sC C' = sC C) (hs' : sS C' = sS C) (hl' : sL C' = sL C) (hv' : ∀ K' i', ¬ (K' = K ∧ i' = i) → sv A C' K' i' = sv A C K' i') (hr' : ∀ j, sv A C' K i j = updV (sv A C K i) v.toNatClampNeg x j) (hn' : ∀ K i j, i < sK C K → okN C (sN C' K i j))
    (k1 : ∀ (H' : Heap) (locs' : List Loc), Den g A C' H' → va_S (Af g) s.heap H' locs' → WW (p, l, e, R, s, m, args, below, meth, c, Q) H' locs' f) :
    ∀ H' : Heap, H'[A (idc K i)]? = some ((arrV (gA g K) (sL C K i) (sv A C K i)).setSlot v.toNatClampNeg x) → H'.size = H.size → (∀ q, q ≠ A (idc K i) → H'[q]? = H[q]?) → W p l e R s m args below meth c H' (locs ++ [⟨A (idc K i), v.toNatClampNeg⟩]) (H.size - s.heap.size) (tot H - tot s.heap) Q f := by
  intro H' e1 e2 e3
  obtain ⟨hrep, hlo, hhi⟩ := hD.1 K i (by omega) hi
  obtain ⟨ha, hlen⟩ := hrep.2 hK.1
  have htot : tot H' = tot H := tot_set e2 ha e1 (setSlot_size _ _ _) e3
  refine W.tight fun _ _ => ?_
  refine k1 H' _ (hD.write (by omega) hi e2 e3 htot hk' hc' hs' (fun K' i' hne => ⟨hv' K' i' hne, by rw [hl']⟩) ⟨fun h => absurd h (by omega), fun _ => ⟨?_, by rw [hl']; exact hlen⟩⟩ hn') (hS0.put e2 e3 hlo)
  rw [e1, arrV_store, hl']
  congr 2
  funext j
  exact (hr' j).symm
theorem x_iast (pc : Nat) {i : Nat} {v x : Int32} (hd : decode M.2.1 pc = .ok (.iastore, 1)) (k1 : TX g Γ M Z Po (pc + 1) L st pr) : TX g Γ M Z Po pc L (.int x :: .int v :: .ref (idc 32 i) :: st) (bI 32 i v x pr) := by
  obtain ⟨p, l, e, R, s, m, args, below, meth, c, Q⟩ := Γ
  intro F A C H locs ls S hp
  obtain ⟨hin, hp⟩ := hp
  have hi : i < sK C 32 := (okN_idc (by omega)).mp (okV_u (okh (okt (okt S.2.2.1))))
  have ha := ((S.2.2.2.1.1 32 i (by omega) hi).1.2 (by omega)).1
  show WW _ H locs (F0 m pc ls (.int x :: .int v :: dv A (.ref (idc 32 i)) :: st.map (dv A)))
  rw [dv_k (by omega)]
  exact W.iast F.1 F.2.1 ha ((F.2.2.2.2.2.1.2.1 32 (by omega) (by omega)).1 _ _) (fun h => by cases h) (vin_arr (K := 32) hin) rfl rfl hd
    (tx_ast (C' := wM C 32 i v.toNatClampNeg x) S.2.2.2.1 (by omega) hi S.2.2.2.2.1 rfl rfl rfl rfl (fun _ _ h => sv_wM_n h) (sv_wM rfl) S.2.2.2.1.2.2.1
      (fun H' locs' hD' hS' => k1 F A (wM C 32 i v.toNatClampNeg x) H' locs' ls (TXs_w S rfl (okt (okt (okt S.2.2.1))) hD' hS') hp))
theorem x_zast (pc : Nat) {i : Nat} {v x : Int32} (hd : decode M.2.1 pc = .ok (.bastore, 1)) (k1 : TX g Γ M Z Po (pc + 1) L st pr) : TX g Γ M Z Po pc L (.int x :: .int v :: .ref (idc 33 i) :: st) (bZ 33 i v x pr) := by
  obtain ⟨p, l, e, R, s, m, args, below, meth, c, Q⟩ := Γ
  intro F A C H locs ls S hp
  obtain ⟨⟨hin, hx⟩, hp⟩ := hp
  have hi : i < sK C 33 := (okN_idc (by omega)).mp (okV_u (okh (okt (okt S.2.2.1))))
  have ha := ((S.2.2.2.1.1 33 i (by omega) hi).1.2 (by omega)).1
  show WW _ H locs (F0 m pc ls (.int x :: .int v :: dv A (.ref (idc 33 i)) :: st.map (dv A)))
  rw [dv_k (by omega)]
  have hnar : narrow .boolean (.int x) = .int x := by rcases hx with h | h <;> subst h <;> rfl
  refine W.zast F.1 F.2.1 ha ((F.2.2.2.2.2.1.2.1 33 (by omega) (by omega)).1 _ _) (fun h => by cases h) (vin_arr (K := 33) hin) rfl rfl hd ?_
  rw [hnar]
  exact (tx_ast (C' := wM C 33 i v.toNatClampNeg x) S.2.2.2.1 (by omega) hi S.2.2.2.2.1 rfl rfl rfl rfl (fun _ _ h => sv_wM_n h) (sv_wM rfl) S.2.2.2.1.2.2.1
      (fun H' locs' hD' hS' => k1 F A (wM C 33 i v.toNatClampNeg x) H' locs' ls (TXs_w S rfl (okt (okt (okt S.2.2.1))) hD' hS') hp))
theorem x_last (pc : Nat) {i : Nat} {v : Int32} {x : Int64} (hd : decode M.2.1 pc = .ok (.lastore, 1)) (k1 : TX g Γ M Z Po (pc + 1) L st pr) : TX g Γ M Z Po pc L (.long x :: .int v :: .ref (idc 34 i) :: st) (bJ 34 i v x pr) := by
  obtain ⟨p, l, e, R, s, m, args, below, meth, c, Q⟩ := Γ
  intro F A C H locs ls S hp
  obtain ⟨hin, hp⟩ := hp
  have hi : i < sK C 34 := (okN_idc (by omega)).mp (okV_u (okh (okt (okt S.2.2.1))))
  have ha := ((S.2.2.2.1.1 34 i (by omega) hi).1.2 (by omega)).1
  show WW _ H locs (F0 m pc ls (.long x :: .int v :: dv A (.ref (idc 34 i)) :: st.map (dv A)))
  rw [dv_k (by omega)]
  exact W.last F.1 F.2.1 ha ((F.2.2.2.2.2.1.2.1 34 (by omega) (by omega)).1 _ _) (fun h => by cases h) (vin_arr (K := 34) hin) rfl rfl hd
    (tx_ast (C' := wG C 34 i v.toNatClampNeg x) S.2.2.2.1 (by omega) hi S.2.2.2.2.1 rfl rfl rfl rfl (fun _ _ h => sv_wG_n h) (sv_wG rfl) S.2.2.2.1.2.2.1
      (fun H' locs' hD' hS' => k1 F A (wG C 34 i v.toNatClampNeg x) H' locs' ls (TXs_w S rfl (okt (okt (okt S.2.2.1))) hD' hS') hp))
/-- a thing's cell, and its class by name -/
theorem tx_cell {A : Nat → Nat} {C : St} {H : Heap} {s : State} (hD : Den g A C H) (hKF : KF g s) {K i : Nat} (hK : K < 21) (hi : i < sK C K) : ∃ cell : Cell, H[A (idc K i)]? = some cell ∧ cell.vm = .none ∧ s.vm.findClass (kC K).1 = some cell.cls ∧ ClassAt s (kC K).1 cell.cls := by
  obtain ⟨cell, q1, q2, q3, q4⟩ := ((hD.1 K i (by omega) hi).1.1 hK).1
  have h := (hKF.1.1 K _ (kcl hK)).2
  rw [← q2] at h
  exact ⟨cell, q1, q3, h.1, h⟩
theorem tx_box {A : Nat → Nat} {C : St} {H : Heap} {locs : List Loc} {s : State} (hD : Den g A C H) (hRO : RO g s s.heap) (hS : va_S (Af g) s.heap H locs) {j : Nat} (hj : j < 256) : ∃ cell : Cell, H[A (idc 49 j)]? = some cell ∧ cell.vm.isStatics = false ∧ s.vm.findClass "java/lang/Integer" = some cell.cls := by
  have h4 : A (idc 49 j) = gr g (idc 49 j) := hD.2.2.2.1.1 _ (by rw [idc_mod (by omega)]; omega)
  obtain ⟨cell, q1, q2, q3, q4⟩ := (hRO.2.2.2.2.1.kept hS.2.1).1 j hj
  exact ⟨cell, by rw [h4]; exact q1, q2, q3⟩
/-- every kind's class may be stored in an Object[] -/
theorem kob : ∀ K, K < 21 → Cond.castable (kC K).1 "java/lang/Object" ∈ lw_tbl := k21 q3050 q3051 q3048 q3049 q3059 q3061 q3064 q3067 q3070 q3071 q3072 q3073 q3078 q3052 q3056 q3057 q3062 q3065 q3068 q3069 q3066
/-- aastore: null, or a thing whose class fits -/
theorem x_aast (pc : Nat) {K i x : Nat} {v : Int32} (hK : 35 ≤ K ∧ K < 38) (hd : decode M.2.1 pc = .ok (.aastore, 1)) (hx : x = nul ∨ (K = 35 ∧ (x % 64 < 21 ∨ (x % 64 = 49 ∧ x / 64 < 256))) ∨ (K = 36 ∧ x % 64 = 2) ∨ (K = 37 ∧ x % 64 = 3)) (k1 : TX g Γ M Z Po (pc + 1) L st pr) : TX g Γ M Z Po pc L (.ref x :: .int v :: .ref (idc K i) :: st) (bR K i v x pr) := by
  obtain ⟨p, l, e, R, s, m, args, below, meth, c, Q⟩ := Γ
  intro F A C H locs ls S hp
  obtain ⟨hin, hp⟩ := hp
  have hi : i < sK C K := (okN_idc (by omega)).mp (okV_u (okh (okt (okt S.2.2.1))))
  have hxo := okV_u (okh S.2.2.1)
  have ha := ((S.2.2.2.1.1 K i (by omega) hi).1.2 (by omega)).1
  have hend := (tx_ast (p := p) (l := l) (e := e) (R := R) (m := m) (args := args) (below := below) (meth := meth) (c := c) (Q := Q) (f := F0 m (pc + 1) ls (st.map (dv A))) (C' := wN C K i v.toNatClampNeg x) S.2.2.2.1 (by omega) hi S.2.2.2.2.1 rfl rfl rfl rfl (fun _ _ h => sv_wN_n h) (sv_wN (kt_q hK.1 _)) (okN_wN hxo S.2.2.2.1.2.2.1)
      (fun H' locs' hD' hS' => k1 F A (wN C K i v.toNatClampNeg x) H' locs' ls (TXs_w S rfl (okt (okt (okt S.2.2.1))) hD' hS') hp))
  show WW _ H locs (F0 m pc ls (dv A (.ref x) :: .int v :: dv A (.ref (idc K i)) :: st.map (dv A)))
  rw [dv_k (A := A) (K := K) (by omega)]
  have hKF : KF g s := F.2.2.2.2.2.1
  obtain ⟨hAr, hRA⟩ := hKF.2.1 K (by omega) (by omega)
  by_cases hnull : x = 62
  · subst hnull
    have hty : ∃ n, aty K = .object n := by
      rcases (by omega : K = 35 ∨ K = 36 ∨ K = 37) with h | h | h <;> subst h <;> exact ⟨_, rfl⟩
    obtain ⟨n, hty⟩ := hty
    rw [hty] at hAr
    exact va_WaastN (C := n) F.1 F.2.1 ha (hAr _ _) (fun h => by cases h) (vin_arr (K := K) hin) rfl rfl hd hend
  · have hin2 := hxo.resolve_left hnull
    have hx2 := hx.resolve_left hnull
    have hcomp : ∃ E, aty K = .object E ∧ ((K = 35 ∧ E = "java/lang/Object") ∨ (K = 36 ∧ E = "KeyringCourt$Person") ∨ (K = 37 ∧ E = "KeyringCourt$Service")) := by
      rcases (by omega : K = 35 ∨ K = 36 ∨ K = 37) with h | h | h <;> subst h
      · exact ⟨_, rfl, Or.inl ⟨rfl, rfl⟩⟩
      · exact ⟨_, rfl, Or.inr (Or.inl ⟨rfl, rfl⟩)⟩
      · exact ⟨_, rfl, Or.inr (Or.inr ⟨rfl, rfl⟩)⟩
    obtain ⟨E, hty, hE⟩ := hcomp
    rw [hty] at hRA hAr
    obtain ⟨kA, comp, g1, g2, g3, g4⟩ := hRA
    have hx3 : ∃ cellV : Cell, H[A x]? = some cellV ∧ cellV.vm.isStatics = false ∧ (∃ kV, s.vm.classes[cellV.cls]? = some kV) ∧ s.vm.assignable cellV.cls comp = true := by
      have hxe : idc (x % 64) (x / 64) = x := idc_of x
      by_cases h49 : x % 64 = 49
      · have hlt : x / 64 < 256 := by
          rcases hx2 with ⟨-, h | h⟩ | ⟨-, h⟩ | ⟨-, h⟩ <;> omega
        have hE35 : E = "java/lang/Object" := by
          rcases hx2 with ⟨a, h | h⟩ | ⟨a, h⟩ | ⟨a, h⟩ <;> rcases hE with ⟨b, hb⟩ | ⟨b, hb⟩ | ⟨b, hb⟩ <;> first | exact hb | omega
        subst hE35
        obtain ⟨cell, q1, q2, q3⟩ := tx_box (j := x / 64) S.2.2.2.1 F.2.2.2.2.2.2.1 S.2.2.2.2.1 hlt
        rw [← h49, hxe] at q1
        have hca : va_Nw (.castable "java/lang/Integer" "java/lang/Object") s := hKF.2.2.1 _ (kob 20 (by omega)) rfl
        obtain ⟨c0, t0, f1, f2, f3⟩ := Cond.castable_spec (va_Nw.use (A := args) rfl hca)
        cases q3.symm.trans f1
        cases g3.symm.trans f2
        obtain ⟨kV, hkV, -⟩ := Vm.findClass_spec f1
        exact ⟨cell, q1, q2, ⟨kV, hkV⟩, f3⟩
      · have hlt : x % 64 < 21 := by
          rcases hx2 with ⟨-, h | h⟩ | ⟨-, h⟩ | ⟨-, h⟩ <;> omega
        obtain ⟨cell, q1, q2, q3, q4⟩ := tx_cell S.2.2.2.1 hKF (i := x / 64) hlt hin2
        rw [hxe] at q1
        obtain ⟨kV, hkV, -⟩ := q4.2
        refine ⟨cell, q1, by rw [q2]; rfl, ⟨kV, hkV⟩, ?_⟩
        rcases hE with ⟨b, hb⟩ | ⟨b, hb⟩ | ⟨b, hb⟩
        · subst hb
          have hca : va_Nw (.castable (kC (x % 64)).1 "java/lang/Object") s := hKF.2.2.1 _ (kob _ hlt) rfl
          obtain ⟨c0, t0, f1, f2, f3⟩ := Cond.castable_spec (va_Nw.use (A := args) rfl hca)
          cases q3.symm.trans f1
          cases g3.symm.trans f2
          exact f3
        · have h2 : x % 64 = 2 := by rcases hx2 with ⟨a, h⟩ | ⟨a, h⟩ | ⟨a, h⟩ <;> omega
          rw [h2] at q3 q4
          subst hb
          cases (show s.vm.findClass "KeyringCourt$Person" = some cell.cls from q3).symm.trans g3
          exact va_assign q4
        · have h2 : x % 64 = 3 := by rcases hx2 with ⟨a, h⟩ | ⟨a, h⟩ | ⟨a, h⟩ <;> omega
          rw [h2] at q3 q4
          subst hb
          cases (show s.vm.findClass "KeyringCourt$Service" = some cell.cls from q3).symm.trans g3
          exact va_assign q4
    obtain ⟨cellV, v1, v2, ⟨kV, hkV⟩, v3⟩ := hx3
    obtain ⟨kcomp, hkcomp, -⟩ := Vm.findClass_spec g3
    rw [dv_r hnull] at hend ⊢
    exact W.aast F.1 F.2.1 ha (fun q h => by cases h) (fun h => by cases h) g1 g2 rfl hkcomp ⟨fun h => hin (Or.inl h), by rw [arrV_size]; exact vin_lt hin⟩ v1 (fun q h => by rw [h] at v2; cases v2) hkV v3 rfl rfl hd hend
end R3
