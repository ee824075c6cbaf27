/-! ===== the rules: constants, boxes, the script, pairs of references, copies ===== -/
/-- a box: made (kind 20) or of the cache (kind 49) -/
def isB (r : Nat) : Prop := r % 64 = 20 ∨ (r % 64 = 49 ∧ r / 64 < 256)
def bxV {ρ : Type} (r : Nat) (k : Int32 → PT ρ) : PT ρ := fun P X C => (∃ i, r = idc 20 i ∧ k (sM C 20 i 0) P X C) ∨ ((r % 64 = 49 ∧ r / 64 < 256) ∧ k (vb_c (r / 64)) P X C)
def aLenD {ρ : Type} (r : Nat) (k : Int32 → PT ρ) : PT ρ := fun P X C => (∃ i, r = idc 35 i ∧ k (nI (sL C 35 i)) P X C) ∨ (r = idc 48 0 ∧ k 0 P X C)
/-- ids that a comparison tells apart -/
def cmpN (n : Nat) : Prop := n = nul ∨ n % 64 < 38 ∨ n = idc 48 0
def elOK (x : Nat) : Prop := x = nul ∨ x % 64 < 21 ∨ (x % 64 = 49 ∧ x / 64 < 256)
def cpR {ρ : Type} (i0 : Nat) (sp : Int32) (i1 : Nat) (dp n : Int32) (k : PT ρ) : PT ρ := fun P X C => (¬ sp < 0 ∧ ¬ dp < 0 ∧ ¬ n < 0 ∧ sp.toNatClampNeg + n.toNatClampNeg ≤ sL C 35 i0 ∧ dp.toNatClampNeg + n.toNatClampNeg ≤ sL C 35 i1 ∧ ∀ j, j < n.toNatClampNeg → elOK (sN C 35 i0 (sp.toNatClampNeg + j))) ∧ k P X (rN C 35 i1 (va_cpy (sN C 35 i0) (sN C 35 i1) sp.toNatClampNeg dp.toNatClampNeg n.toNatClampNeg))
def cpJ {ρ : Type} (i0 : Nat) (sp : Int32) (i1 : Nat) (dp n : Int32) (k : PT ρ) : PT ρ := fun P X C => (¬ sp < 0 ∧ ¬ dp < 0 ∧ ¬ n < 0 ∧ sp.toNatClampNeg + n.toNatClampNeg ≤ sL C 34 i0 ∧ dp.toNatClampNeg + n.toNatClampNeg ≤ sL C 34 i1) ∧ k P X (rG C 34 i1 (va_cpy (sG C 34 i0) (sG C 34 i1) sp.toNatClampNeg dp.toNatClampNeg n.toNatClampNeg))
section R9
variable {g : GP} {Γ : Cx} {M : Mx} {ρ α : Type} {Z : Zx ρ} {L L' : List (Nat × Value)} {st : List Value} {τ : Type} {Po : τ → St → Prop} {pr pr2 : PT τ}
theorem okc_ro {A : Nat → Nat} {C : St} {H : Heap} (hD : Den g A C H) {K i : Nat} (hK : 48 ≤ K ∧ K < 62) (hi : i < 256) : okV C (.ref (idc K i)) :=
  okV_r (Or.inr ((inN_idc (by omega)).mpr (Nat.lt_of_lt_of_le hi (hD.2.2.2.1.2 K hK.1 hK.2))))
theorem dv_ro {A : Nat → Nat} {C : St} {H : Heap} (hD : Den g A C H) {K i : Nat} (hK : 48 ≤ K ∧ K < 62) : dv A (.ref (idc K i)) = .ref (gr g (idc K i)) := by
  rw [dv_k hK.2, hD.2.2.2.1.1 _ (by rw [idc_mod (by omega)]; exact hK.1)]
theorem x_gsAD (pc : Nat) {idx : Nat} (hq : Cond.fieldLink M.1 idx "java/util/BitSet" "$assertionsDisabled" "Z" ∈ lw_all) (hd : decode M.2.1 pc = .ok (.getstatic idx, 3)) (k1 : TX g Γ M Z Po (pc + 3) L (.int 1 :: st) pr) : TX g Γ M Z Po pc L st pr := by
  obtain ⟨p, l, e, R, s, m, args, below, meth, c, Q⟩ := Γ
  intro F A C H locs ls S hp
  exact va_gets F.1 F.2.1 F.2.2.2.2.2.2.1.1 S.2.2.2.2.1 F.2.2.2.1 (F.2.2.2.2.1 _ hq) (fun _ h => h) hd (k1 F A C H locs ls (TXs_st S (okc (okV_i _) S.2.2.1)) hp)
theorem x_gsHi (pc : Nat) {idx : Nat} (hq : Cond.fieldLink M.1 idx "java/lang/Integer$IntegerCache" "high" "I" ∈ lw_all) (hd : decode M.2.1 pc = .ok (.getstatic idx, 3)) (k1 : TX g Γ M Z Po (pc + 3) L (.int 127 :: st) pr) : TX g Γ M Z Po pc L st pr := by
  obtain ⟨p, l, e, R, s, m, args, below, meth, c, Q⟩ := Γ
  intro F A C H locs ls S hp
  exact va_gets F.1 F.2.1 F.2.2.2.2.2.2.1.2.1 S.2.2.2.2.1 F.2.2.2.1 (F.2.2.2.2.1 _ hq) (fun _ h => h) hd (k1 F A C H locs ls (TXs_st S (okc (okV_i _) S.2.2.1)) hp)
theorem x_gsCa (pc : Nat) {idx : Nat} (hq : Cond.fieldLink M.1 idx "java/lang/Integer$IntegerCache" "cache" "[Ljava/lang/Integer;" ∈ lw_all) (hd : decode M.2.1 pc = .ok (.getstatic idx, 3)) (k1 : TX g Γ M Z Po (pc + 3) L (.ref (idc 50 0) :: st) pr) : TX g Γ M Z Po pc L st pr := by
  obtain ⟨p, l, e, R, s, m, args, below, meth, c, Q⟩ := Γ
  intro F A C H locs ls S hp
  have K1 := k1 F A C H locs ls (TXs_st S (okc (okc_ro S.2.2.2.1 (by omega) (by omega)) S.2.2.1)) hp
  rw [List.map_cons, dv_ro S.2.2.2.1 (by omega)] at K1
  exact va_gets F.1 F.2.1 F.2.2.2.2.2.2.1.2.2.1 S.2.2.2.2.1 F.2.2.2.1 (F.2.2.2.2.1 _ hq) (fun _ h => h) hd K1
theorem x_gsDE (pc : Nat) {idx : Nat} (hq : Cond.fieldLink M.1 idx "java/util/ArrayList" "DEFAULTCAPACITY_EMPTY_ELEMENTDATA" "[Ljava/lang/Object;" ∈ lw_all) (hd : decode M.2.1 pc = .ok (.getstatic idx, 3)) (k1 : TX g Γ M Z Po (pc + 3) L (.ref (idc 48 0) :: st) pr) : TX g Γ M Z Po pc L st pr := by
  obtain ⟨p, l, e, R, s, m, args, below, meth, c, Q⟩ := Γ
  intro F A C H locs ls S hp
  have K1 := k1 F A C H locs ls (TXs_st S (okc (okc_ro S.2.2.2.1 (by omega) (by omega)) S.2.2.1)) hp
  rw [List.map_cons, dv_ro S.2.2.2.1 (by omega)] at K1
  exact va_gets F.1 F.2.1 F.2.2.2.2.2.2.1.2.2.2.2.2.1 S.2.2.2.2.1 F.2.2.2.1 (F.2.2.2.2.1 _ hq) (fun _ h => h) hd K1
/-- a box of the cache -/
theorem x_caA (pc : Nat) {v : Int32} (hd : decode M.2.1 pc = .ok (.aaload, 1)) (k1 : TX g Γ M Z Po (pc + 1) L (.ref (idc 49 v.toNatClampNeg) :: st) pr) : TX g Γ M Z Po pc L (.int v :: .ref (idc 50 0) :: st) (asr (vp_in v 256) pr) := by
  obtain ⟨p, l, e, R, s, m, args, below, meth, c, Q⟩ := Γ
  intro F A C H locs ls S hp
  obtain ⟨hin, hp⟩ := hp
  have K1 := k1 F A C H locs ls (TXs_st S (okc (okc_ro S.2.2.2.1 (by omega) (vin_lt hin)) (okt (okt S.2.2.1)))) hp
  rw [List.map_cons, dv_ro S.2.2.2.1 (by omega)] at K1
  show WW _ H locs (F0 m pc ls (.int v :: dv A (.ref (idc 50 0)) :: st.map (dv A)))
  rw [dv_ro S.2.2.2.1 (by omega)]
  exact vb_tq F.1 F.2.1 F.2.2.2.2.2.2.1.2.2.2.1 S.2.2.2.2.1 hin rfl hd K1
/-- the length of ArrayList's array -/
theorem x_alenD (pc : Nat) {r : Nat} {kk : Int32 → PT τ} (hd : decode M.2.1 pc = .ok (.arraylength, 1)) (k1 : ∀ x : Int32, TX g Γ M Z Po (pc + 1) L (.int x :: st) (kk x)) : TX g Γ M Z Po pc L (.ref r :: st) (aLenD r kk) := by
  intro F A C H locs ls S hp
  rcases hp with ⟨i, rfl, hp⟩ | ⟨rfl, hp⟩
  · exact x_alen pc (by omega) hd k1 F A C H locs ls S hp
  · obtain ⟨p, l, e, R, s, m, args, below, meth, c, Q⟩ := Γ
    have K1 := k1 0 F A C H locs ls (TXs_st S (okc (okV_i _) (okt S.2.2.1))) hp
    show WW _ H locs (F0 m pc ls (dv A (.ref (idc 48 0)) :: st.map (dv A)))
    rw [dv_ro S.2.2.2.1 (by omega)]
    obtain ⟨cell, h1, h2, h3, h4, h5, h6, h7⟩ := F.2.2.2.2.2.2.1.2.2.2.2.2.2.1
    exact W.alen F.1 F.2.1 (by rw [S.2.2.2.2.1.2.1 _ (Array.getElem?_eq_some_iff.mp h1).1 h7]; exact h1) h2 h5 rfl rfl hd K1
/-- what a box holds -/
theorem x_getB (pc : Nat) {idx r : Nat} {kk : Int32 → PT τ} (hf : FA M.1 idx 20 0 0) (hq : Cond.fieldLink M.1 idx "java/lang/Integer" "value" "I" ∈ lw_all) (hd : decode M.2.1 pc = .ok (.getfield idx, 3)) (k1 : ∀ v : Int32, TX g Γ M Z Po (pc + 3) L (.int v :: st) (kk v)) : TX g Γ M Z Po pc L (.ref r :: st) (bxV r kk) := by
  intro F A C H locs ls S hp
  rcases hp with ⟨i, rfl, hp⟩ | ⟨⟨h1, h2⟩, hp⟩
  · exact x_getI pc hf hd k1 F A C H locs ls S hp
  · obtain ⟨p, l, e, R, s, m, args, below, meth, c, Q⟩ := Γ
    have hxe : idc 49 (r / 64) = r := by unfold idc; omega
    have K1 := k1 _ F A C H locs ls (TXs_st S (okc (okV_i _) (okt S.2.2.1))) hp
    show WW _ H locs (F0 m pc ls (dv A (.ref r) :: st.map (dv A)))
    rw [← hxe, dv_ro S.2.2.2.1 (by omega)]
    exact va_getX (i := r / 64) (v := fun k => .int (vb_c k)) F.1 F.2.1 F.2.2.2.2.2.2.1.2.2.2.2.1.2 h2 S.2.2.2.2.1 F.2.2.2.1 (F.2.2.2.2.1 _ hq) (fun _ h => h) hd K1
/-- the script -/
theorem x_sld (pc : Nat) {v : Int32} (hd : decode M.2.1 pc = .ok (.iaload, 1)) (k1 : TX g Γ M Z Po (pc + 1) L (.int (gx g v.toNatClampNeg) :: st) pr) : TX g Γ M Z Po pc L (.int v :: .ref (idc 51 0) :: st) (asr (vp_in v (gn g)) pr) := by
  obtain ⟨p, l, e, R, s, m, args, below, meth, c, Q⟩ := Γ
  intro F A C H locs ls S hp
  obtain ⟨hin, hp⟩ := hp
  have K1 := k1 F A C H locs ls (TXs_st S (okc (okV_i _) (okt (okt S.2.2.1)))) hp
  show WW _ H locs (F0 m pc ls (.int v :: dv A (.ref (idc 51 0)) :: st.map (dv A)))
  rw [dv_ro S.2.2.2.1 (by omega)]
  have hR := F.2.2.2.2.2.2.1.2.2.2.2.2.2.2
  exact va_sld F.1 F.2.1 hR.1 hR.2.2.2.1 (Nat.not_le.mpr hR.2.2.2.2.1) S.2.2.2.2.1 hin hd K1
theorem x_slen (pc : Nat) (hd : decode M.2.1 pc = .ok (.arraylength, 1)) (k1 : TX g Γ M Z Po (pc + 1) L (.int (Int32.ofNat (gn g)) :: st) pr) : TX g Γ M Z Po pc L (.ref (idc 51 0) :: st) pr := by
  obtain ⟨p, l, e, R, s, m, args, below, meth, c, Q⟩ := Γ
  intro F A C H locs ls S hp
  have K1 := k1 F A C H locs ls (TXs_st S (okc (okV_i _) (okt S.2.2.1))) hp
  show WW _ H locs (F0 m pc ls (dv A (.ref (idc 51 0)) :: st.map (dv A)))
  rw [dv_ro S.2.2.2.1 (by omega)]
  have hR := F.2.2.2.2.2.2.1.2.2.2.2.2.2.2
  exact va_slen F.1 F.2.1 hR.1 hR.2.2.2.1 (Nat.not_le.mpr hR.2.2.2.2.1) S.2.2.2.2.1 hd K1
/-- ldc_w of an int -/
theorem x_ldcw (pc index : Nat) (v : Int32) (hd : decode M.2.1 pc = .ok (.ldc_w index, 3)) (hq : Cond.constant M.1 index v ∈ lw_all) (k : TX g Γ M Z Po (pc + 3) L (.int v :: st) pr) : TX g Γ M Z Po pc L st pr := by
  obtain ⟨p, l, e, R, s, m, args, below, meth, c, Q⟩ := Γ
  intro F A C H locs ls S hp
  exact lv_ldcw F.1 F.2.1 F.2.2.2.1 (F.2.2.2.2.1 _ hq) hd (k F A C H locs ls (TXs_st S (okc (okV_i _) S.2.2.1)) hp)
/-! two references compared -/
def oA (A : Nat → Nat) (n : Nat) : Option Nat := if n = 62 then none else some (A n)
theorem dv_oA {A : Nat → Nat} {n : Nat} : dv A (.ref n) = va_rf (oA A n) := by
  unfold oA
  by_cases h : n = 62
  · subst h; rfl
  · rw [dv_r h, if_neg h]; rfl
theorem oA_inj {A : Nat → Nat} {C : St} {H : Heap} (hD : Den g A C H) (hlt : gr g (idc 48 0) < gz g) {a b : Nat} (ha : okN C a) (hb : okN C b) (ca : cmpN a) (cb : cmpN b) (h : oA A a = oA A b) : a = b := by
  have far : ∀ x y : Nat, okN C x → x % 64 < 38 → x ≠ 62 → y = idc 48 0 → A x ≠ A y := by
    intro x y ox hx hx2 hy e
    have hin := ox.resolve_left hx2
    have h3 := (hD.1 (x % 64) (x / 64) hx hin).2.1
    rw [idc_of] at h3
    rw [e, hy, hD.2.2.2.1.1 _ (by unfold idc; omega)] at h3
    omega
  unfold oA at h
  by_cases h1 : a = 62
  · by_cases h2 : b = 62
    · rw [h1, h2]
    · rw [if_pos h1, if_neg h2] at h; cases h
  · by_cases h2 : b = 62
    · rw [if_neg h1, if_pos h2] at h; cases h
    · rw [if_neg h1, if_neg h2] at h
      have h := Option.some.inj h
      rcases ca.resolve_left h1 with c1 | c1
      · rcases cb.resolve_left h2 with c2 | c2
        · have i1 := ha.resolve_left h1
          have i2 := hb.resolve_left h2
          have := hD.2.1 (a % 64) (a / 64) (b % 64) (b / 64) c1 c2 i1 i2 (by rw [idc_of, idc_of]; exact h)
          rwa [idc_of, idc_of] at this
        · exact absurd h (far a b ha c1 h1 c2)
      · rcases cb.resolve_left h2 with c2 | c2
        · exact absurd h.symm (far b a hb c2 h2 c1)
        · rw [c1, c2]
theorem x_acmp_eq (pc tgt : Nat) {a b : Nat} {off : Int} (hd : decode M.2.1 pc = .ok (.if_acmp .eq off, 3)) (ht : (pc : Int) + off = (tgt : Int)) (k1 : a = b → TX g Γ M Z Po tgt L st pr) (k2 : ¬ a = b → TX g Γ M Z Po (pc + 3) L st pr2) : TX g Γ M Z Po pc L (.ref b :: .ref a :: st) (asr (cmpN a ∧ cmpN b) (cnd (a = b) pr pr2)) := by
  obtain ⟨p, l, e, R, s, m, args, below, meth, c, Q⟩ := Γ
  intro F A C H locs ls S hp
  obtain ⟨⟨ca, cb⟩, hp⟩ := hp
  have S' := TXs_st S (okt (okt S.2.2.1))
  show WW _ H locs (F0 m pc ls (dv A (.ref b) :: dv A (.ref a) :: st.map (dv A)))
  rw [dv_oA, dv_oA]
  refine lv_acmp_eq F.1 F.2.1 hd ht (fun h => ?_) (fun h => ?_)
  · have e := oA_inj S.2.2.2.1 F.2.2.2.2.2.2.1.2.2.2.2.2.2.2.2.2.2.2.2 (okV_u (okh (okt S.2.2.1))) (okV_u (okh S.2.2.1)) ca cb h
    exact k1 e F A C H locs ls S' (hp.1 e)
  · exact k2 (fun e => h (by rw [e])) F A C H locs ls S' (hp.2 (fun e => h (by rw [e])))
theorem x_acmp_ne (pc tgt : Nat) {a b : Nat} {off : Int} (hd : decode M.2.1 pc = .ok (.if_acmp .ne off, 3)) (ht : (pc : Int) + off = (tgt : Int)) (k1 : a = b → TX g Γ M Z Po (pc + 3) L st pr) (k2 : ¬ a = b → TX g Γ M Z Po tgt L st pr2) : TX g Γ M Z Po pc L (.ref b :: .ref a :: st) (asr (cmpN a ∧ cmpN b) (cnd (a = b) pr pr2)) := by
  obtain ⟨p, l, e, R, s, m, args, below, meth, c, Q⟩ := Γ
  intro F A C H locs ls S hp
  obtain ⟨⟨ca, cb⟩, hp⟩ := hp
  have S' := TXs_st S (okt (okt S.2.2.1))
  show WW _ H locs (F0 m pc ls (dv A (.ref b) :: dv A (.ref a) :: st.map (dv A)))
  rw [dv_oA, dv_oA]
  refine lv_acmp_ne F.1 F.2.1 hd ht (fun h => ?_) (fun h => ?_)
  · exact k2 (fun e => h (by rw [e])) F A C H locs ls S' (hp.2 (fun e => h (by rw [e])))
  · have e := oA_inj S.2.2.2.1 F.2.2.2.2.2.2.1.2.2.2.2.2.2.2.2.2.2.2.2 (okV_u (okh (okt S.2.2.1))) (okV_u (okh S.2.2.1)) ca cb h
    exact k1 e F A C H locs ls S' (hp.1 e)
/-- the class object of Object[] -/
theorem x_ldcM (pc : Nat) {idx : Nat} (hq : Cond.classLink M.1 idx "[Ljava/lang/Object;" ∈ lw_all) (hd : decode M.2.1 pc = .ok (.ldc idx, 2)) (k1 : TX g Γ M Z Po (pc + 2) L (.ref (idc 52 0) :: st) pr) : TX g Γ M Z Po pc L st pr := by
  obtain ⟨p, l, e, R, s, m, args, below, meth, c, Q⟩ := Γ
  intro F A C H locs ls S hp
  have K1 := k1 F A C H locs ls (TXs_st S (okc (okc_ro S.2.2.2.1 (by omega) (by omega)) S.2.2.1)) hp
  rw [List.map_cons, dv_ro S.2.2.2.1 (by omega)] at K1
  have hKF : KF g s := F.2.2.2.2.2.1
  exact va_ldcM F.1 F.2.1 F.2.2.2.1 (F.2.2.2.2.1 _ hq) hKF.2.2.2.2.2.2.2.1 hd K1
end R9
