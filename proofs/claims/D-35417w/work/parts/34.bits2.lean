/-! ===== bit sets over views: looking through ===== -/
theorem nw_lt {x : BitVec 64} (h : ∀ k, 8 ≤ k → k < 64 → x.getLsbD k = false) : x = BitVec.ofNat 64 (x.toNat % 256) := by
  apply BitVec.eq_of_getLsbD_eq
  intro i hi
  rw [BitVec.getLsbD_ofNat, decide_eq_true hi, Bool.true_and, show (256 : Nat) = 2 ^ 8 from rfl, Nat.testBit_mod_two_pow]
  by_cases s : i < 8
  · rw [decide_eq_true s, Bool.true_and]; rfl
  · rw [decide_eq_false s, Bool.false_and]; exact h i (by omega) hi
/-- the first bit from a on, of eight -/
def nsb (f : Nat → Bool) (a : Nat) : Int32 := match (List.range 8).find? (fun k => decide (a ≤ k) && f k) with
  | some k => nI k
  | none => -1
def ntz32 (a1 : Int32) : Int32 :=
  let v1 := (a1 ^^^ (-1 : Int32)) &&& (a1 - (1 : Int32))
  if 0 < v1 then
    let p1 := if v1 ≤ (65536 : Int32) then (v1, (1 : Int32)) else ((v1.toUInt32 >>> ((16 : Int32).toUInt32 &&& Int32.toUInt32 31)).toInt32, (1 : Int32) + (16 : Int32))
    let p2 := if p1.1 ≤ (256 : Int32) then p1 else ((p1.1.toUInt32 >>> ((8 : Int32).toUInt32 &&& Int32.toUInt32 31)).toInt32, p1.2 + (8 : Int32))
    let p3 := if p2.1 ≤ (16 : Int32) then p2 else ((p2.1.toUInt32 >>> ((4 : Int32).toUInt32 &&& Int32.toUInt32 31)).toInt32, p2.2 + (4 : Int32))
    let p4 := if p3.1 ≤ (4 : Int32) then p3 else ((p3.1.toUInt32 >>> ((2 : Int32).toUInt32 &&& Int32.toUInt32 31)).toInt32, p3.2 + (2 : Int32))
    p4.2 + (p4.1.toUInt32 >>> ((1 : Int32).toUInt32 &&& Int32.toUInt32 31)).toInt32
  else v1 &&& (32 : Int32)
def ntz64 (a1 : Int64) : Int32 := if a1.toInt32 = 0 then (32 : Int32) + ntz32 (((a1.toUInt64 >>> ((32 : Int32).toInt64.toUInt64 &&& Int64.toUInt64 63)).toInt64).toInt32) else ntz32 a1.toInt32
theorem p_ntz32 (a : Int32) {P : Int32 → St → Prop} {X : String → St → Prop} {C : St} (h : P (ntz32 a) C) : f_J17_numberOfTrailingZeros a P X C := by
  unfold ntz32 at h
  unfold f_J17_numberOfTrailingZeros
  refine bnd_i ?_
  simp only at h
  generalize (a ^^^ (-1 : Int32)) &&& (a - (1 : Int32)) = v1 at h
  refine cnd_i (fun q => ?_) fun q => ?_
  · rw [if_pos q] at h
    refine bnd_i ?_
    have e : ∀ (c : Prop) [Decidable c] (x y : Int32 × Int32) (K : Int32 × Int32 → PT Int32), K (if c then x else y) P X C → cnd c (rt x) (bnd (rt y.1) fun v => rt (v, y.2)) (fun r C' => K r P X C') X C := by
      intro c _ x y K hK
      refine cnd_i (fun q => ?_) fun q => ?_
      · rw [if_pos q] at hK; exact hK
      · rw [if_neg q] at hK; exact hK
    refine e (v1 ≤ 65536) (v1, 1) ((v1.toUInt32 >>> ((16 : Int32).toUInt32 &&& Int32.toUInt32 31)).toInt32, (1 : Int32) + (16 : Int32)) _ ?_
    generalize (if v1 ≤ (65536 : Int32) then (v1, (1 : Int32)) else ((v1.toUInt32 >>> ((16 : Int32).toUInt32 &&& Int32.toUInt32 31)).toInt32, (1 : Int32) + (16 : Int32))) = p1 at h ⊢
    obtain ⟨x1, y1⟩ := p1
    refine bnd_i (e (x1 ≤ 256) (x1, y1) ((x1.toUInt32 >>> ((8 : Int32).toUInt32 &&& Int32.toUInt32 31)).toInt32, y1 + (8 : Int32)) _ ?_)
    simp only at h
    generalize (if x1 ≤ (256 : Int32) then (x1, y1) else ((x1.toUInt32 >>> ((8 : Int32).toUInt32 &&& Int32.toUInt32 31)).toInt32, y1 + (8 : Int32))) = p2 at h ⊢
    obtain ⟨x2, y2⟩ := p2
    refine bnd_i (e (x2 ≤ 16) (x2, y2) ((x2.toUInt32 >>> ((4 : Int32).toUInt32 &&& Int32.toUInt32 31)).toInt32, y2 + (4 : Int32)) _ ?_)
    simp only at h
    generalize (if x2 ≤ (16 : Int32) then (x2, y2) else ((x2.toUInt32 >>> ((4 : Int32).toUInt32 &&& Int32.toUInt32 31)).toInt32, y2 + (4 : Int32))) = p3 at h ⊢
    obtain ⟨x3, y3⟩ := p3
    refine bnd_i (e (x3 ≤ 4) (x3, y3) ((x3.toUInt32 >>> ((2 : Int32).toUInt32 &&& Int32.toUInt32 31)).toInt32, y3 + (2 : Int32)) _ ?_)
    simp only at h
    generalize (if x3 ≤ (4 : Int32) then (x3, y3) else ((x3.toUInt32 >>> ((2 : Int32).toUInt32 &&& Int32.toUInt32 31)).toInt32, y3 + (2 : Int32))) = p4 at h ⊢
    obtain ⟨x4, y4⟩ := p4
    exact h
  · rw [if_neg q] at h
    exact h
theorem p_ntz64 (a : Int64) {P : Int32 → St → Prop} {X : String → St → Prop} {C : St} (h : P (ntz64 a) C) : f_J25_numberOfTrailingZeros a P X C := by
  unfold ntz64 at h
  unfold f_J25_numberOfTrailingZeros
  refine cnd_i (fun q => bn0_i (p_ntz32 _ ?_)) fun q => bn0_i (p_ntz32 _ ?_)
  · rw [if_pos q] at h; exact h
  · rw [if_neg q] at h; exact h
/-- all words of eight bits, all places -/
theorem nsb_all : ∀ b : Fin 256, ∀ a : Fin 9, (Int64.ofBitVec (BitVec.ofNat 64 b.1) &&& ((-1 : Int64) <<< ((nI a.1).toInt64 &&& 63)) = 0 ∧ nsb (fun k => (BitVec.ofNat 64 b.1).getLsbD k) a.1 = -1) ∨ (Int64.ofBitVec (BitVec.ofNat 64 b.1) &&& ((-1 : Int64) <<< ((nI a.1).toInt64 &&& 63)) ≠ 0 ∧ (0 : Int32) * 64 + ntz64 (Int64.ofBitVec (BitVec.ofNat 64 b.1) &&& ((-1 : Int64) <<< ((nI a.1).toInt64 &&& 63))) = nsb (fun k => (BitVec.ofNat 64 b.1).getLsbD k) a.1) := by decide +kernel
theorem fd_cg {p q : Nat → Bool} : ∀ l : List Nat, (∀ k, k ∈ l → p k = q k) → l.find? p = l.find? q
  | [], _ => rfl
  | a :: t, h => by
    rw [List.find?_cons, List.find?_cons, h a List.mem_cons_self, fd_cg t fun k hk => h k (List.mem_cons_of_mem _ hk)]
theorem nsb_cg {f g : Nat → Bool} (a : Nat) (h : ∀ k, k < 8 → f k = g k) : nsb f a = nsb g a := by
  unfold nsb
  rw [fd_cg (q := fun k => decide (a ≤ k) && g k) (List.range 8) fun k hk => by rw [h k (List.mem_range.mp hk)]]
def h_J18_nextSetBit (b : Nat) (x : Int32) : PV Int32 := fun P _ v => ∃ n, (x = nI n ∧ n ≤ 8 ∧ b < vK v 14 ∧ ∀ k, 8 ≤ k → vB v b k = false) ∧ P (nsb (vB v b) n) v
theorem s_J18_nextSetBit (b : Nat) (x : Int32) : Sim (h_J18_nextSetBit b x) (f_J18_nextSetBit b x) := fun P' X' v P X C w hP hX h => by
  obtain ⟨n, ⟨rfl, hn, hb, hz⟩, h⟩ := h
  obtain ⟨o4, z, u, z1, z2, z3, z4, z5, z6, z7, z8, z9, z10⟩ := w.bs hb
  have hg := hP _ _ _ w h
  have e6 : nI n >>> ((6 : Int32) &&& 31) = nI 0 := by
    rw [show nI n >>> ((6 : Int32) &&& 31) = nI (n / 64) from bt_w ⟨n, by omega⟩]; congr 1; omega
  unfold f_J18_nextSetBit
  refine cnd_i (fun _ => ?_) (fun q => absurd (nI_pos' (by omega)) q)
  simp only [f_J18_checkInvariants, f_J18_wordIndex, bn0, bnd, rt]
  refine ⟨fun q => absurd q (by decide), fun _ => ⟨fun q => absurd q (by decide), fun _ => ⟨fun q => absurd q (by decide), fun _ => ?_⟩⟩⟩
  show cnd (nI n >>> ((6 : Int32) &&& 31) < sM C 14 b 1) _ _ P X C
  rw [e6, z4]
  have zero : ∀ k, k < 2 → 1 ≤ k → k < u → sG C 34 z k = 0 := fun k h1 h2 h3 => by
    have : k = 1 := by omega
    subst this
    apply Int64.toBitVec_inj.mp
    apply BitVec.eq_of_getLsbD_eq
    intro i hi
    have q := z10 (64 + i)
    rw [hz (64 + i) (by omega), show (64 + i) / 64 = 1 by omega, show (64 + i) % 64 = i by omega, decide_eq_true h3, Bool.true_and] at q
    rw [← q]; simp
  refine cnd_i (fun q => ?_) fun q => ?_
  · have hu : 0 < u := by
      rcases Nat.eq_zero_or_pos u with r | r
      · subst r; exact absurd q (nI_nlt (Nat.le_refl _) (by decide))
      · exact r
    refine ⟨z, z1, nI_in (by omega) (by omega), ?_⟩
    rw [nI_clamp (by decide)]
    have hw : (sG C 34 z 0).toBitVec = BitVec.ofNat 64 ((sG C 34 z 0).toBitVec.toNat % 256) := nw_lt fun k h1 h2 => by
      have q := z10 k
      rw [hz k h1, show k / 64 = 0 by omega, show k % 64 = k by omega, decide_eq_true hu, Bool.true_and] at q
      exact q.symm
    have hw2 : sG C 34 z 0 = Int64.ofBitVec (BitVec.ofNat 64 ((sG C 34 z 0).toBitVec.toNat % 256)) := Int64.toBitVec_inj.mp hw
    have hbits : nsb (vB v b) n = nsb (fun k => (BitVec.ofNat 64 ((sG C 34 z 0).toBitVec.toNat % 256)).getLsbD k) n := nsb_cg n fun k hk => by
      rw [z10 k, show k / 64 = 0 by omega, show k % 64 = k by omega, decide_eq_true hu, Bool.true_and, ← hw]
    have all := nsb_all ⟨(sG C 34 z 0).toBitVec.toNat % 256, Nat.mod_lt _ (by decide)⟩ ⟨n, by omega⟩
    simp only at all
    rw [← hbits, ← hw2] at all
    generalize hv10 : sG C 34 z 0 &&& ((-1 : Int64) <<< ((nI n).toInt64 &&& 63)) = v10 at all
    show ∃ k, lpN _ k (nI 0, sG C 34 z 0 &&& ((-1 : Int64) <<< ((nI n).toInt64 &&& 63))) P X C
    rw [hv10]
    rcases all with ⟨a1, a2⟩ | ⟨a1, a2⟩
    · rw [a2] at hg
      refine ⟨2, ?_⟩
      show cnd _ _ _ P X C
      refine cnd_i (fun _ => ?_) fun q => absurd ((lc_0 _).mpr a1) q
      show cnd (nI 0 + 1 = sM C 14 b 1) _ _ P X C
      rw [z4, nI_1]
      refine cnd_i (fun _ => hg) fun q => ?_
      have hu2 : u = 2 := by
        rcases (by omega : u = 1 ∨ u = 2) with r | r
        · exact absurd (by rw [r]) q
        · exact r
      refine ⟨z, z1, nI_in (by omega) (by omega), ?_⟩
      rw [nI_clamp (by decide), zero 1 (by omega) (by omega) (by omega)]
      show cnd _ _ _ P X C
      refine cnd_i (fun _ => ?_) fun q => absurd ((lc_0 _).mpr rfl) q
      show cnd (nI (0 + 1) + 1 = sM C 14 b 1) _ _ P X C
      rw [z4, nI_1]
      exact cnd_i (fun _ => hg) fun q => absurd (by rw [hu2]) q
    · rw [← a2] at hg
      refine ⟨1, ?_⟩
      show cnd _ _ _ P X C
      refine cnd_i (fun q => absurd ((lc_0 _).mp q) a1) fun _ => bn0_i (p_ntz64 _ ?_)
      exact hg
  · have hu : u = 0 := by
      rcases Nat.eq_zero_or_pos u with r | r
      · exact r
      · exact absurd (nI_lt r (by omega)) q
    have e : nsb (vB v b) n = -1 := by
      rw [nsb_cg (g := fun _ => false) n fun k hk => by rw [z10 k, decide_eq_false (by omega)]; rfl]
      unfold nsb
      have : (List.range 8).find? (fun k => decide (n ≤ k) && false) = none := by simp
      rw [this]
    rw [e] at hg
    exact hg
/-- how many of eight bits are set -/
def crd (f : Nat → Bool) : Int32 := nI ((List.range 8).countP f)
def btc (a1 : Int64) : Int32 :=
  let v1 := a1 - (((a1.toUInt64 >>> ((1 : Int32).toInt64.toUInt64 &&& Int64.toUInt64 63)).toInt64) &&& (6148914691236517205 : Int64))
  let v2 := (v1 &&& (3689348814741910323 : Int64)) + (((v1.toUInt64 >>> ((2 : Int32).toInt64.toUInt64 &&& Int64.toUInt64 63)).toInt64) &&& (3689348814741910323 : Int64))
  let v3 := (v2 + ((v2.toUInt64 >>> ((4 : Int32).toInt64.toUInt64 &&& Int64.toUInt64 63)).toInt64)) &&& (1085102592571150095 : Int64)
  let v4 := v3 + ((v3.toUInt64 >>> ((8 : Int32).toInt64.toUInt64 &&& Int64.toUInt64 63)).toInt64)
  let v5 := v4 + ((v4.toUInt64 >>> ((16 : Int32).toInt64.toUInt64 &&& Int64.toUInt64 63)).toInt64)
  let v6 := v5 + ((v5.toUInt64 >>> ((32 : Int32).toInt64.toUInt64 &&& Int64.toUInt64 63)).toInt64)
  v6.toInt32 &&& (127 : Int32)
theorem p_btc (a : Int64) {P : Int32 → St → Prop} {X : String → St → Prop} {C : St} (h : P (btc a) C) : f_J25_bitCount a P X C := h
theorem crd_all : ∀ b : Fin 256, btc (Int64.ofBitVec (BitVec.ofNat 64 b.1)) = crd (fun k => (BitVec.ofNat 64 b.1).getLsbD k) := by decide +kernel
theorem crd_cg {f g : Nat → Bool} (h : ∀ k, k < 8 → f k = g k) : crd f = crd g := by
  unfold crd
  rw [List.countP_congr (q := g) fun k hk => by rw [h k (List.mem_range.mp hk)]]
def h_J18_cardinality (b : Nat) : PV Int32 := fun P _ v => (b < vK v 14 ∧ ∀ k, 8 ≤ k → vB v b k = false) ∧ P (crd (vB v b)) v
theorem s_J18_cardinality (b : Nat) : Sim (h_J18_cardinality b) (f_J18_cardinality b) := fun P' X' v P X C w hP hX h => by
  obtain ⟨⟨hb, hz⟩, h⟩ := h
  obtain ⟨o4, z, u, z1, z2, z3, z4, z5, z6, z7, z8, z9, z10⟩ := w.bs hb
  have hg := hP _ _ _ w h
  have b0 : btc 0 = 0 := by decide +kernel
  have zero : 1 < u → sG C 34 z 1 = 0 := fun h3 => by
    apply Int64.toBitVec_inj.mp
    apply BitVec.eq_of_getLsbD_eq
    intro i hi
    have q := z10 (64 + i)
    rw [hz (64 + i) (by omega), show (64 + i) / 64 = 1 by omega, show (64 + i) % 64 = i by omega, decide_eq_true h3, Bool.true_and] at q
    rw [← q]; simp
  have first : 0 < u → btc (sG C 34 z 0) = crd (vB v b) := fun hu => by
    have hw : (sG C 34 z 0).toBitVec = BitVec.ofNat 64 ((sG C 34 z 0).toBitVec.toNat % 256) := nw_lt fun k h1 h2 => by
      have q := z10 k
      rw [hz k h1, show k / 64 = 0 by omega, show k % 64 = k by omega, decide_eq_true hu, Bool.true_and] at q
      exact q.symm
    have hw2 : sG C 34 z 0 = Int64.ofBitVec (BitVec.ofNat 64 ((sG C 34 z 0).toBitVec.toNat % 256)) := Int64.toBitVec_inj.mp hw
    have all := crd_all ⟨(sG C 34 z 0).toBitVec.toNat % 256, Nat.mod_lt _ (by decide)⟩
    simp only at all
    rw [← hw2] at all
    rw [all]
    exact crd_cg fun k hk => by rw [z10 k, show k / 64 = 0 by omega, show k % 64 = k by omega, decide_eq_true hu, Bool.true_and, ← hw]
  unfold f_J18_cardinality
  refine ⟨3, ?_⟩
  show cnd (sM C 14 b 1 ≤ 0) _ _ P X C
  rw [z4]
  refine cnd_i (fun q => ?_) fun q => ?_
  · have hu : u = 0 := by
      rcases Nat.eq_zero_or_pos u with r | r
      · exact r
      · exact absurd q (nI_nle r (by omega))
    have e : crd (vB v b) = 0 := by
      rw [crd_cg (g := fun _ => false) fun k hk => by rw [z10 k, decide_eq_false (by omega)]; rfl]
      decide +kernel
    rw [e] at hg
    exact hg
  · have hu : 0 < u := by
      rcases Nat.eq_zero_or_pos u with r | r
      · subst r; exact absurd (by decide +kernel) q
      · exact r
    refine ⟨z, z1, by show vp_in 0 _; rw [← nI_0]; exact nI_in (by omega) (by omega), ?_⟩
    have e0 : (0 : Int32).toNatClampNeg = 0 := by decide +kernel
    rw [e0]
    refine bn0_i (p_btc _ ?_)
    rw [first hu]
    show cnd (sM C 14 b 1 ≤ 0 + 1) _ _ P X C
    rw [z4, show (0 : Int32) + 1 = nI 1 from by decide +kernel]
    have e1 : ∀ x : Int32, 0 + x = x := fun x => Int32.zero_add x
    refine cnd_i (fun q => by show P (0 + crd (vB v b)) C; rw [e1]; exact hg) fun q => ?_
    have hu2 : u = 2 := by
      rcases (by omega : u = 1 ∨ u = 2) with r | r
      · exact absurd (by rw [r]; exact nI_le (Nat.le_refl _) (by decide)) q
      · exact r
    refine ⟨z, z1, nI_in (by omega) (by omega), ?_⟩
    rw [nI_clamp (by decide), zero (by omega)]
    refine bn0_i (p_btc _ ?_)
    rw [b0]
    show cnd (sM C 14 b 1 ≤ nI 1 + 1) _ _ P X C
    rw [z4, nI_1]
    refine cnd_i (fun q => by show P (0 + crd (vB v b) + 0) C; rw [e1, Int32.add_zero]; exact hg) fun q => absurd (nI_le (by omega) (by decide)) q
