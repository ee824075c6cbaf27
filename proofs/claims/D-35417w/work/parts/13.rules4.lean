/-! ===== the rules: things made ===== -/
theorem up1_s {α : Type} {f : Nat → α} {a : Nat} {v : α} : up1 f a v a = v := by simp [up1]
theorem up1_n {α : Type} {f : Nat → α} {a x : Nat} {v : α} (h : x ≠ a) : up1 f a v x = f x := by simp [up1, h]
theorem up2_s {α : Type} {f : Nat → Nat → α} {a b : Nat} {v : α} : up2 f a b v a b = v := by simp [up2]
theorem up2_n {α : Type} {f : Nat → Nat → α} {a b x y : Nat} {v : α} (h : ¬ (x = a ∧ y = b)) : up2 f a b v x y = f x y := by simp [up2, h]
theorem row3_s {α : Type} {f : Nat → Nat → Nat → α} {a b : Nat} {v : Nat → α} : row3 f a b v a b = v := by funext z; simp [row3]
theorem row3_n {α : Type} {f : Nat → Nat → Nat → α} {a b x y : Nat} {v : Nat → α} (h : ¬ (x = a ∧ y = b)) : row3 f a b v x y = f x y := by funext z; simp [row3, h]
/-- C' is C with one thing more of kind K -/
def More (C C' : St) (K : Nat) : Prop := sK C' = up1 (sK C) K (sK C K + 1) ∧ (∀ K' i', ¬ (K' = K ∧ i' = sK C K) → sM C' K' i' = sM C K' i' ∧ sN C' K' i' = sN C K' i' ∧ sG C' K' i' = sG C K' i' ∧ sL C' K' i' = sL C K' i')
theorem More.le {C C' : St} {K : Nat} (h : More C C' K) (K' : Nat) : sK C K' ≤ sK C' K' := by
  rw [h.1]
  by_cases e : K' = K
  · subst e; rw [up1_s]; omega
  · rw [up1_n e]; exact Nat.le_refl _
theorem More.iN {C C' : St} {K n : Nat} (h : More C C' K) (o : inN C n) : inN C' n := Nat.lt_of_lt_of_le o (h.le _)
theorem More.oN {C C' : St} {K n : Nat} (h : More C C' K) (o : okN C n) : okN C' n := o.elim Or.inl (fun o => Or.inr (h.iN o))
theorem More.new {C C' : St} {K : Nat} (hK : K < 62) (h : More C C' K) : inN C' (idc K (sK C K)) := by
  rw [inN_idc (by omega), h.1, up1_s]; omega
theorem idc_ne_in {C : St} {K n : Nat} (hK : K < 62) (o : inN C n) : n ≠ idc K (sK C K) := by
  intro e
  rw [e, inN_idc (by omega)] at o
  omega
theorem More.ext {C C' : St} {K q : Nat} {A : Nat → Nat} (hK : K < 62) (h : More C C' K) : Ext C C' A (up1 A (idc K (sK C K)) q) :=
  ⟨h.le, fun n o => up1_n (idc_ne_in hK o)⟩
theorem Den.more {g : GP} {A : Nat → Nat} {C C' : St} {H : Heap} {ce : Cell} {K : Nat} (h : Den g A C H) (hK : K < 38) (hm : More C C' K) (hc : sC C' + 1 ≤ sC C) (hs : sS C' + ce.slots.size ≤ sS C)
    (hr : rep g (up1 A (idc K (sK C K)) H.size) C' (H.push ce) K (sK C K)) (hn : ∀ j, okN C' (sN C' K (sK C K) j)) : Den g (up1 A (idc K (sK C K)) H.size) C' (H.push ce) := by
  obtain ⟨h1, h2, h3, h4, h5, h6⟩ := h
  have hext : Ext C C' A (up1 A (idc K (sK C K)) H.size) := hm.ext (by omega)
  have old : ∀ K' i', K' < 38 → i' < sK C' K' → ¬ (K' = K ∧ i' = sK C K) → i' < sK C K' := by
    intro K' i' a b e
    rw [hm.1] at b
    by_cases e2 : K' = K
    · subst e2
      rw [up1_s] at b
      have : i' ≠ sK C K' := fun z => e ⟨rfl, z⟩
      omega
    · rwa [up1_n e2] at b
  have adr : ∀ K' i', K' < 38 → i' < sK C K' → up1 A (idc K (sK C K)) H.size (idc K' i') = A (idc K' i') := fun K' i' a b => hext.2 _ ((inN_idc (by omega)).mpr b)
  have hsz : (H.push ce).size = H.size + 1 := Array.size_push _
  refine ⟨fun K' i' a b => ?_, fun K1 i1 K2 i2 a1 a2 b1 b2 q => ?_, fun K' i' j b => ?_, ⟨fun n hn => ?_, fun K' a b => Nat.le_trans (h4.2 K' a b) (hm.le K')⟩, ?_, by rw [hsz]; omega⟩
  · by_cases e : K' = K ∧ i' = sK C K
    · rw [e.1, e.2, up1_s]
      exact ⟨hr, by omega, by rw [hsz]; omega⟩
    · have b0 := old K' i' a b e
      obtain ⟨r1, r2, r3⟩ := h1 K' i' a b0
      obtain ⟨m1, m2, m3, m4⟩ := hm.2 K' i' e
      have hsv : sv (up1 A (idc K (sK C K)) H.size) C' K' i' = sv A C K' i' := by
        funext j
        unfold sv
        rw [m1, m2, m3, dv_ext hext (okV_r (h3 K' i' j b0))]
      have hq : (H.push ce)[A (idc K' i')]? = H[A (idc K' i')]? := by rw [Array.getElem?_push, if_neg (by omega)]
      refine ⟨⟨fun x => ?_, fun x => ?_⟩, by rw [adr K' i' a b0]; exact r2, by rw [adr K' i' a b0, hsz]; omega⟩
      · rw [adr K' i' a b0, hsv, m4]
        exact (r1.1 x).kept hq
      · rw [adr K' i' a b0, hsv, m4, hq]
        exact r1.2 x
  · by_cases e1 : K1 = K ∧ i1 = sK C K
    · by_cases e2 : K2 = K ∧ i2 = sK C K
      · rw [e1.1, e1.2, e2.1, e2.2]
      · have b0 := old K2 i2 a2 b2 e2
        rw [e1.1, e1.2, up1_s, adr K2 i2 a2 b0] at q
        have := (h1 K2 i2 a2 b0).2.2
        omega
    · have b0 := old K1 i1 a1 b1 e1
      by_cases e2 : K2 = K ∧ i2 = sK C K
      · rw [e2.1, e2.2, up1_s, adr K1 i1 a1 b0] at q
        have := (h1 K1 i1 a1 b0).2.2
        omega
      · have b3 := old K2 i2 a2 b2 e2
        rw [adr K1 i1 a1 b0, adr K2 i2 a2 b3] at q
        exact h2 K1 i1 K2 i2 a1 a2 b0 b3 q
  · by_cases e : K' = K ∧ i' = sK C K
    · rw [e.1, e.2]; exact hn j
    · by_cases hK' : K' = K
      · subst hK'
        rw [(hm.2 K' i' e).2.1]
        rw [hm.1, up1_s] at b
        have : i' ≠ sK C K' := fun z => e ⟨rfl, z⟩
        exact hm.oN (h3 K' i' j (by omega))
      · rw [(hm.2 K' i' e).2.1]
        rw [hm.1, up1_n hK'] at b
        exact hm.oN (h3 K' i' j b)
  · rw [up1_n (fun e => by rw [e, idc_mod (by omega)] at hn; omega)]
    exact h4.1 n hn
  · rw [hsz, tot_push]; omega
theorem TXs_x {g : GP} {Γ : Cx} {ρ : Type} {Z : Zx ρ} {nL : Nat} {L : List (Nat × Value)} {st st' : List Value} {A A' : Nat → Nat} {C C' : St} {H H' : Heap} {locs locs' : List Loc} {ls : Array Slot} (S : TXs g Γ Z nL L st A C H locs ls) (hE : Ext C C' A A') (h : ∀ v ∈ st', okV C' v) (hD : Den g A' C' H') (hS : va_S (Af g) (cs Γ).heap H' locs') : TXs g Γ Z nL L st' A' C' H' locs' ls :=
  ⟨by rw [dvl_ext hE S.2.1]; exact S.1, fun q hq => (S.2.1 q hq).ext hE, h, hD, hS, S.2.2.2.2.2.tr hE⟩
theorem va_S_push {A : Nat → Prop} {H0 H : Heap} {locs : List Loc} {ce : Cell} (h : va_S A H0 H locs) : va_S A H0 (H.push ce) locs :=
  ⟨by rw [Array.size_push]; exact Nat.le_succ_of_le h.1, fun q h1 h2 => by rw [Array.getElem?_push, if_neg (Nat.ne_of_lt (Nat.lt_of_lt_of_le h1 h.1))]; exact h.2.1 q h1 h2, h.2.2⟩
theorem mk_more {C : St} {K n : Nat} : More C (mk C K n) K := ⟨rfl, fun K' i' h => ⟨row3_n h, row3_n h, row3_n h, up2_n h⟩⟩
theorem kdef : ∀ K, K < 21 → ∀ j, j < (kC K).2.2 → defaultValue (kty K j) = (match kt K j with | 0 => Value.int 0 | 1 => .null | _ => .long 0) :=
  k21 (by decide +kernel) (by decide +kernel) (by decide +kernel) (by decide +kernel) (by decide +kernel) (by decide +kernel) (by decide +kernel) (by decide +kernel) (by decide +kernel) (by decide +kernel) (by decide +kernel) (by decide +kernel) (by decide +kernel) (by decide +kernel) (by decide +kernel) (by decide +kernel) (by decide +kernel) (by decide +kernel) (by decide +kernel) (by decide +kernel) (by decide +kernel)
theorem mk_M {C : St} {K n j : Nat} : sM (mk C K n) K (sK C K) j = 0 := by simp [mk, sM, row3]
theorem mk_N {C : St} {K n j : Nat} : sN (mk C K n) K (sK C K) j = nul := by simp [mk, sN, row3]
theorem mk_G {C : St} {K n j : Nat} : sG (mk C K n) K (sK C K) j = 0 := by simp [mk, sG, row3]
theorem sv_mk {A : Nat → Nat} {C : St} {K n j : Nat} : sv A (mk C K n) K (sK C K) j = (match kt K j with | 0 => Value.int 0 | 1 => .null | _ => .long 0) := by
  unfold sv
  rw [mk_M, mk_N, mk_G, dv_n]
  rfl
/-- the entry idx of own's file names the class of kind K, of n slots -/
def NA (own : String) (idx K n : Nat) : Prop := K < 21 ∧ Cond.classLink own idx (kC K).1 ∈ lw_all ∧ Cond.instantiable (kC K).1 n ∈ lw_all ∧ Cond.initialized (kC K).1 ∈ lw_all
section R4
variable {g : GP} {Γ : Cx} {M : Mx} {ρ : Type} {Z : Zx ρ} {L L' : List (Nat × Value)} {st : List Value} {τ : Type} {Po : τ → St → Prop} {pr pr2 : PT τ}
theorem x_new (pc : Nat) {idx K n : Nat} {kk : Nat → PT τ} (hq : NA M.1 idx K n) (hd : decode M.2.1 pc = .ok (.new idx, 3)) (k1 : ∀ i : Nat, TX g Γ M Z Po (pc + 3) L (.ref (idc K i) :: st) (kk i)) : TX g Γ M Z Po pc L st (nw K n kk) := by
  obtain ⟨p, l, e, R, s, m, args, below, meth, c, Q⟩ := Γ
  intro F A C H locs ls S hp
  obtain ⟨⟨hc1, hn1⟩, hp⟩ := hp
  obtain ⟨hK, q1, q2, q3⟩ := hq
  have hts := F.2.2.2.2.1
  obtain ⟨-, -, hRc, hRs⟩ := F.2.2.2.2.2.2.2.1
  have hD := S.2.2.2.1
  obtain ⟨⟨b1, b2⟩, b3⟩ := hD.2.2.2.2
  refine W.tight fun t1 t2 => ?_
  refine W.newc F.1 F.2.1 F.2.2.2.1 (hts _ q1) (hts _ q2) (hts _ q3) rfl hd (by have : R.cells = gc g - s.heap.size := hRc; omega) (by have : R.slots = gs g - tot s.heap := hRs; omega) fun cC kC1 f1 f2 f3 f4 => ?_
  refine W.tight fun _ _ => ?_
  have hKF : KF g s := F.2.2.2.2.2.1
  have hKn := hKF.1.1 K _ (kcl hK)
  have hcc : cC = (gD g).1 K := Option.some.inj (f1.symm.trans hKn.2.1)
  have hm : More C (mk C K n) K := mk_more
  have hE : Ext C (mk C K n) A (up1 A (idc K (sK C K)) H.size) := hm.ext (by omega)
  have hcell : (H.push ({ cls := cC, slots := kC1.instanceTypes.map defaultValue, vm := .none } : Cell))[H.size]? = some (blank ((gD g).1 K) kC1) := by rw [← hcc, Array.getElem?_push_size]; rfl
  have hb := u_born (kty K) hts (kin K hK) hKn (by rw [← hcc]; exact f2) hcell (kty_ok K hK)
  have hD' := hD.more (ce := { cls := cC, slots := kC1.instanceTypes.map defaultValue, vm := .none }) (K := K) (by omega) hm (by show sC C - 1 + 1 ≤ _; omega) (by show sS C - n + (kC1.instanceTypes.map defaultValue).size ≤ _; rw [Array.size_map, f4]; omega)
    ⟨fun _ => by rw [up1_s]; exact ⟨t_OB.to hb (fun j hj => by rw [sv_mk]; exact kdef K hK j hj), fun ce hce => by rw [hcell] at hce; cases hce; rw [show sL (mk C K n) K (sK C K) = n from up2_s, ← f4]; exact Array.size_map⟩, fun x => absurd x (by omega)⟩ (fun j => by rw [mk_N]; exact Or.inl rfl)
  have K1 := k1 (sK C K) F _ _ _ locs ls (TXs_x S hE (okc (okV_r (Or.inr (hm.new (by omega)))) (fun v hv => (S.2.2.1 v hv).ext hE)) hD' (va_S_push S.2.2.2.2.1)) hp
  rw [List.map_cons, dvs_ext hE S.2.2.1, dv_k (by omega), up1_s] at K1
  exact K1
theorem def_arr {K : Nat} (h : 32 ≤ K ∧ K < 38) (j : Nat) : defaultValue (aty K) = (match kt K j with | 0 => Value.int 0 | 1 => .null | _ => .long 0) := by
  rcases (by omega : K = 32 ∨ K = 33 ∨ K = 34 ∨ K = 35 ∨ K = 36 ∨ K = 37) with e | e | e | e | e | e <;> subst e <;> rfl
/-- an array made -/
theorem tx_newa {p : Program} {l : Launch} {e : Env} {R : Room} {s : State} {m : MethodId} {args : Array Value} {below : List Frame} {meth : Method} {c : Code} {Q : State → Prop} {locs : List Loc} {A : Nat → Nat} {C : St} {H : Heap} {ls : Array Slot} (pc : Nat) {K N : Nat} {kk : Nat → PT τ} (hK : 32 ≤ K ∧ K < 38) (hN : N < 2 ^ 31)
    (F : TXok g (p, l, e, R, s, m, args, below, meth, c, Q) M.1 M.2.1 M.2.2.1 M.2.2.2.1 M.2.2.2.2.1 M.2.2.2.2.2.1 M.2.2.2.2.2.2 Z) (S : TXs g (p, l, e, R, s, m, args, below, meth, c, Q) Z M.2.2.1 L st A C H locs ls) (hc1 : 1 ≤ sC C) (hn1 : N ≤ sS C) (hp : kk (sK C K) Po Z.2.2.2.2 (mk C K N))
    (k1 : ∀ i : Nat, TX g (p, l, e, R, s, m, args, below, meth, c, Q) M Z Po pc L (.ref (idc K i) :: st) (kk i)) (v : Value) (hv : v = defaultValue (aty K)) {cA : ClassId} (hA : cA = gA g K) {cells slots : Nat} :
    W p l e R s m args below meth c (H.push { cls := cA, slots := Array.replicate N v, vm := .none }) locs cells slots Q (F0 m pc ls (.ref H.size :: st.map (dv A))) := by
  refine W.tight fun _ _ => ?_
  have hD := S.2.2.2.1
  have hm : More C (mk C K N) K := mk_more
  have hE : Ext C (mk C K N) A (up1 A (idc K (sK C K)) H.size) := hm.ext (by omega)
  have hsl : sL (mk C K N) K (sK C K) = N := up2_s
  have hD' := hD.more (ce := { cls := cA, slots := Array.replicate N v, vm := .none }) (K := K) (by omega) hm (by show sC C - 1 + 1 ≤ _; omega) (by show sS C - N + (Array.replicate N v).size ≤ _; rw [Array.size_replicate]; omega)
    ⟨fun x => absurd x (by omega), fun _ => by
      rw [up1_s, Array.getElem?_push_size, hsl, arrV_new, hA, hv]
      refine ⟨?_, hN⟩
      congr 2
      funext j
      rw [sv_mk]
      exact def_arr hK j⟩ (fun j => by rw [mk_N]; exact Or.inl rfl)
  have K1 := k1 (sK C K) F _ _ _ locs ls (TXs_x S hE (okc (okV_r (Or.inr (hm.new (by omega)))) (fun v hv => (S.2.2.1 v hv).ext hE)) hD' (va_S_push S.2.2.2.2.1)) hp
  rw [List.map_cons, dvs_ext hE S.2.2.1, dv_k (by omega), up1_s] at K1
  exact K1
theorem clamp_lt (v : Int32) : v.toNatClampNeg < 2 ^ 31 := by
  have := Int32.toInt_lt v
  unfold Int32.toNatClampNeg
  omega
theorem x_newa (pc : Nat) {atype : ArrayType} {K : Nat} {v : Int32} {kk : Nat → PT τ} (hK : K = 32 ∨ K = 33 ∨ K = 34) (ht : newarray.typeOf atype = aty K) (hq : Cond.arrayClass (aty K) ∈ lw_all) (hd : decode M.2.1 pc = .ok (.newarray atype, 2)) (k1 : ∀ i : Nat, TX g Γ M Z Po (pc + 2) L (.ref (idc K i) :: st) (kk i)) : TX g Γ M Z Po pc L (.int v :: st) (nwA K v kk) := by
  obtain ⟨p, l, e, R, s, m, args, below, meth, c, Q⟩ := Γ
  intro F A C H locs ls S hp
  obtain ⟨⟨hv0, hb8, hc1, hn1⟩, hp⟩ := hp
  have hts := F.2.2.2.2.1
  obtain ⟨-, -, hRc, hRs⟩ := F.2.2.2.2.2.2.2.1
  obtain ⟨⟨b1, b2⟩, b3⟩ := S.2.2.2.1.2.2.2.2
  have hKF : KF g s := F.2.2.2.2.2.1
  have hcb : v.toNatClampNeg * componentBytes (newarray.typeOf atype) ≤ 536870912 := by
    rw [ht]
    have : componentBytes (aty K) ≤ 8 := by rcases hK with h | h | h <;> subst h <;> decide
    exact Nat.le_trans (Nat.mul_le_mul_left _ this) (by omega)
  refine W.tight fun t1 t2 => ?_
  refine W.newa F.1 F.2.1 (by rw [ht]; exact hts _ hq) rfl hd rfl hv0 hcb (by have : R.cells = gc g - s.heap.size := hRc; omega) (by have : R.slots = gs g - tot s.heap := hRs; omega) fun cA kA comp f1 f2 f3 => ?_
  have hRA := (hKF.2.1 K (by omega) (by omega)).2
  have hcA : cA = gA g K := by
    rw [ht] at f1
    rcases hK with h | h | h <;> subst h <;> exact Option.some.inj (f1.symm.trans hRA)
  exact tx_newa (pc := pc + 2) (by omega) (clamp_lt v) F (TXs_st S (okt S.2.2.1)) hc1 hn1 hp k1 _ (by rw [ht]) hcA
theorem x_anewa (pc : Nat) {idx K : Nat} {v : Int32} {kk : Nat → PT τ} {E : String} (hK : 35 ≤ K ∧ K < 38) (hE : aty K = .object E) (hq : Cond.classLink M.1 idx E ∈ lw_all) (hd : decode M.2.1 pc = .ok (.anewarray idx, 3)) (k1 : ∀ i : Nat, TX g Γ M Z Po (pc + 3) L (.ref (idc K i) :: st) (kk i)) : TX g Γ M Z Po pc L (.int v :: st) (nwA K v kk) := by
  obtain ⟨p, l, e, R, s, m, args, below, meth, c, Q⟩ := Γ
  intro F A C H locs ls S hp
  obtain ⟨⟨hv0, hb8, hc1, hn1⟩, hp⟩ := hp
  have hts := F.2.2.2.2.1
  obtain ⟨-, -, hRc, hRs⟩ := F.2.2.2.2.2.2.2.1
  obtain ⟨⟨b1, b2⟩, b3⟩ := S.2.2.2.1.2.2.2.2
  have hKF : KF g s := F.2.2.2.2.2.1
  have hAO : va_AO E s := by
    obtain ⟨-, -, -, -, h5, h6, h7, -⟩ := hKF
    rcases (by omega : K = 35 ∨ K = 36 ∨ K = 37) with h | h | h <;> subst h <;> cases hE <;> assumption
  refine W.tight fun t1 t2 => ?_
  refine W.anew F.1 F.2.1 F.2.2.2.1 (hts _ hq) (va_AO.use hAO) rfl hd rfl hv0 (by omega) (by have : R.cells = gc g - s.heap.size := hRc; omega) (by have : R.slots = gs g - tot s.heap := hRs; omega) fun cA kA comp f1 f2 f3 f4 => ?_
  have hRA := (hKF.2.1 K (by omega) (by omega)).2
  have hcA : cA = gA g K := by
    rw [hE] at hRA
    obtain ⟨kA', comp', g1, g2, g3, g4⟩ := hRA
    exact Option.some.inj (f1.symm.trans g4)
  exact tx_newa (pc := pc + 3) (by omega) (clamp_lt v) F (TXs_st S (okt S.2.2.1)) hc1 hn1 hp k1 _ (by rw [hE]; rfl) hcA
/-- checkcast to the thing's own class -/
theorem x_castS (pc : Nat) {idx K i : Nat} (hK : K < 21) (hq : Cond.classLink M.1 idx (kC K).1 ∈ lw_all) (hd : decode M.2.1 pc = .ok (.checkcast idx, 3)) (k1 : TX g Γ M Z Po (pc + 3) L (.ref (idc K i) :: st) pr) : TX g Γ M Z Po pc L (.ref (idc K i) :: st) pr := by
  obtain ⟨p, l, e, R, s, m, args, below, meth, c, Q⟩ := Γ
  intro F A C H locs ls S hp
  have hi : i < sK C K := (okN_idc (by omega)).mp (okV_u (okh S.2.2.1))
  have K1 := k1 F A C H locs ls S hp
  obtain ⟨cell, g1, g2, g3, g4⟩ := tx_cell S.2.2.2.1 F.2.2.2.2.2.1 hK hi
  rw [List.map_cons, dv_k (by omega)] at K1 ⊢
  exact va_castS F.1 F.2.1 F.2.2.2.1 (F.2.2.2.2.1 _ hq) g4 ⟨cell, g1, by rw [g2]; rfl, g3⟩ hd K1
/-- checkcast of a box -/
theorem x_castI (pc : Nat) {idx r : Nat} (hr : r % 64 = 20 ∨ (r % 64 = 49 ∧ r / 64 < 256)) (hq : Cond.classLink M.1 idx "java/lang/Integer" ∈ lw_all) (hd : decode M.2.1 pc = .ok (.checkcast idx, 3)) (k1 : TX g Γ M Z Po (pc + 3) L (.ref r :: st) pr) : TX g Γ M Z Po pc L (.ref r :: st) pr := by
  obtain ⟨p, l, e, R, s, m, args, below, meth, c, Q⟩ := Γ
  intro F A C H locs ls S hp
  have K1 := k1 F A C H locs ls S hp
  have hne : r ≠ 62 := by omega
  have hcl : ClassAt s "java/lang/Integer" ((gD g).1 20) := (F.2.2.2.2.2.1.1.1 20 _ (kcl (by omega))).2
  have hcell : ∃ cell : Cell, H[A r]? = some cell ∧ cell.vm.isStatics = false ∧ s.vm.findClass "java/lang/Integer" = some cell.cls := by
    have hxe : idc (r % 64) (r / 64) = r := idc_of r
    rcases hr with h | ⟨h, h2⟩
    · have hin := (okV_u (okh S.2.2.1)).resolve_left hne
      unfold inN at hin
      rw [h] at hin
      obtain ⟨cell, g1, g2, g3, g4⟩ := tx_cell S.2.2.2.1 F.2.2.2.2.2.1 (K := 20) (i := r / 64) (by omega) hin
      rw [← h, hxe] at g1
      exact ⟨cell, g1, by rw [g2]; rfl, g3⟩
    · obtain ⟨cell, q1, q2, q3⟩ := tx_box (j := r / 64) S.2.2.2.1 F.2.2.2.2.2.2.1 S.2.2.2.2.1 h2
      rw [← h, hxe] at q1
      exact ⟨cell, q1, q2, q3⟩
  rw [List.map_cons, dv_r hne] at K1 ⊢
  exact va_castS F.1 F.2.1 F.2.2.2.1 (F.2.2.2.2.1 _ hq) hcl hcell hd K1
theorem x_castN (pc : Nat) {idx : Nat} (hd : decode M.2.1 pc = .ok (.checkcast idx, 3)) (k1 : TX g Γ M Z Po (pc + 3) L (.ref nul :: st) pr) : TX g Γ M Z Po pc L (.ref nul :: st) pr := by
  obtain ⟨p, l, e, R, s, m, args, below, meth, c, Q⟩ := Γ
  intro F A C H locs ls S hp
  exact lv_castN F.1 F.2.1 hd (k1 F A C H locs ls S hp)
/-- checkcast of an array of ints or longs -/
theorem x_castA (pc : Nat) {idx K i : Nat} {nm : String} (hK : (K = 32 ∧ nm = "[I") ∨ (K = 34 ∧ nm = "[J")) (hq : Cond.classLink M.1 idx nm ∈ lw_all) (hd : decode M.2.1 pc = .ok (.checkcast idx, 3)) (k1 : TX g Γ M Z Po (pc + 3) L (.ref (idc K i) :: st) pr) : TX g Γ M Z Po pc L (.ref (idc K i) :: st) pr := by
  obtain ⟨p, l, e, R, s, m, args, below, meth, c, Q⟩ := Γ
  intro F A C H locs ls S hp
  have hi : i < sK C K := (okN_idc (by omega)).mp (okV_u (okh S.2.2.1))
  have K1 := k1 F A C H locs ls S hp
  have ha := ((S.2.2.2.1.1 K i (by omega) hi).1.2 (by omega)).1
  have hRA := (F.2.2.2.2.2.1.2.1 K (by omega) (by omega)).2
  have hnm : s.vm.findClass nm = some (gA g K) := by
    rcases hK with ⟨h1, h2⟩ | ⟨h1, h2⟩ <;> subst h1 <;> subst h2 <;> exact hRA
  rw [List.map_cons, dv_k (by omega)] at K1 ⊢
  intro T hT X
  have hasg : s.vm.assignable (gA g K) (gA g K) = true := va_asg _ _
  obtain ⟨vm', X', stp⟩ := X.checkcastYes F.1 F.2.2.2.1 (F.2.2.2.2.1 _ hq) (by rw [hT]; exact ha) rfl hnm hasg (g := F0 m pc ls (.ref (A (idc K i)) :: st.map (dv A))) rfl rfl (by rw [F.2.1]; exact hd)
  obtain ⟨t, a1, b1⟩ := K1 (T.setVm vm') hT X'
  exact ⟨t, stp t a1, b1⟩
/-- Object's constructor -/
theorem x_objI (pc : Nat) {idx K i : Nat} (hK : K < 62) (hq : Cond.methodLink M.1 idx objectInit ∈ lw_all) (q2 : Cond.instanceMethod objectInit ∈ lw_all) (q3 : Cond.code objectInit ⟨#[0xb1]⟩ 1 none ∈ lw_all) (hd : decode M.2.1 pc = .ok (.invokespecial idx, 3)) (hst : (st.map fun v => v.category).sum ≤ 8) (hdd : 1 ≤ M.2.2.2.1) (k1 : TX g Γ M Z Po (pc + 3) L st pr) : TX g Γ M Z Po pc L (.ref (idc K i) :: st) pr := by
  obtain ⟨p, l, e, R, s, m, args, below, meth, c, Q⟩ := Γ
  intro F A C H locs ls S hp
  have K1 := k1 F A C H locs ls (TXs_st S (okt S.2.2.1)) hp
  have hts := F.2.2.2.2.1
  obtain ⟨r1, r2, -, -⟩ := F.2.2.2.2.2.2.2.1
  have hsum : ((st.map (dv A)).map fun v => v.category).sum = (st.map fun v => v.category).sum := by
    rw [List.map_map]; congr 1; exact List.map_congr_left fun v _ => dv_cat v
  show WW _ H locs (F0 m pc ls (dv A (.ref (idc K i)) :: st.map (dv A)))
  rw [dv_k hK]
  refine W.objInit F.1 F.2.1 F.2.2.2.1 (hts _ hq) (hts _ q2) (hts _ q3) rfl (by rw [F.2.2.1]; exact S.1.1) rfl hd (by have : M.2.2.2.1 ≤ R.frames := r1; omega) ?_ K1
  have h64 : 64 * M.2.2.2.1 ≤ R.locals := r2
  have hmr : (F0 m pc ls (.ref (A (idc K i)) :: st.map (dv A))).monitorRoom = 0 := rfl
  rw [hmr, hsum]
  omega
end R4
