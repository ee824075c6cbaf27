/-! ===== array deques over views ===== -/
theorem sK_wM {C : St} {K i j : Nat} {x : Int32} : sK (wM C K i j x) = sK C := rfl
theorem sL_wM {C : St} {K i j : Nat} {x : Int32} : sL (wM C K i j x) = sL C := rfl
theorem sL_wN {C : St} {K i j x : Nat} : sL (wN C K i j x) = sL C := rfl
theorem sM_rN {C : St} {K i : Nat} {f : Nat → Nat} : sM (rN C K i f) = sM C := rfl
theorem sL_rN {C : St} {K i : Nat} {f : Nat → Nat} : sL (rN C K i f) = sL C := rfl
theorem sK_rN {C : St} {K i : Nat} {f : Nat → Nat} : sK (rN C K i f) = sK C := rfl
theorem sN_rN {C : St} {K i : Nat} {f : Nat → Nat} : sN (rN C K i f) = row3 (sN C) K i f := rfl
theorem sM_mk {C : St} {K n : Nat} : sM (mk C K n) = row3 (sM C) K (sK C K) (fun _ => 0) := rfl
theorem sN_mk {C : St} {K n : Nat} : sN (mk C K n) = row3 (sN C) K (sK C K) (fun _ => nul) := rfl
theorem sL_mk {C : St} {K n : Nat} : sL (mk C K n) = up2 (sL C) K (sK C K) n := rfl
theorem sK_mk {C : St} {K n : Nat} : sK (mk C K n) = up1 (sK C) K (sK C K + 1) := rfl
/-- one deque's insides changed, at a cost of c -/
def QR (C C' : St) (o o' : Nat → Nat) (i c : Nat) : Prop := (∀ z, z < sK C 35 → o' z = o z) ∧ sK C 35 ≤ sK C' 35 ∧ (∀ y, y ≠ i → sM C' 17 y = sM C 17 y ∧ sN C' 17 y = sN C 17 y) ∧ (∀ z, z < sK C 35 → o z ≠ 2 * i + 1 → sN C' 35 z = sN C 35 z ∧ sL C' 35 z = sL C 35 z) ∧
  (∀ K, K ≠ 17 → K ≠ 35 → sM C' K = sM C K ∧ sN C' K = sN C K ∧ sG C' K = sG C K ∧ sL C' K = sL C K ∧ sK C' K = sK C K) ∧ sK C' 17 = sK C 17 ∧ sC C ≤ sC C' + c ∧ sS C ≤ sS C' + c
theorem QR.tr {C C' C2 : St} {o o' o2 : Nat → Nat} {b c c' : Nat} (h : QR C C' o o' b c) (h' : QR C' C2 o' o2 b c') : QR C C2 o o2 b (c + c') := by
  obtain ⟨a1, a2, a3, a4, a5, a6, a7, a8⟩ := h
  obtain ⟨b1, b2, b3, b4, b5, b6, b7, b8⟩ := h'
  refine ⟨fun z hz => (b1 z (by omega)).trans (a1 z hz), by omega, fun b' hb => ?_, fun z hz ho => ?_, fun K k1 k2 => ?_, b6.trans a6, by omega, by omega⟩
  · obtain ⟨x1, x2⟩ := a3 b' hb
    obtain ⟨y1, y2⟩ := b3 b' hb
    exact ⟨y1.trans x1, y2.trans x2⟩
  · obtain ⟨x1, x2⟩ := a4 z hz ho
    obtain ⟨y1, y2⟩ := b4 z (by omega) (by rw [a1 z hz]; exact ho)
    exact ⟨y1.trans x1, y2.trans x2⟩
  · obtain ⟨x1, x2, x3, x4, x5⟩ := a5 K k1 k2
    obtain ⟨y1, y2, y3, y4, y5⟩ := b5 K k1 k2
    exact ⟨y1.trans x1, y2.trans x2, y3.trans x3, y4.trans x4, y5.trans x5⟩
theorem QR.pM (C : St) (o : Nat → Nat) (i j : Nat) (x : Int32) : QR C (wM C 17 i j x) o o i 0 := by
  refine ⟨fun _ _ => rfl, Nat.le_refl _, fun b' hb => ⟨?_, rfl⟩, fun z _ _ => ⟨rfl, rfl⟩, fun K k1 k2 => ⟨up3_o k1, rfl, rfl, rfl, rfl⟩, rfl, Nat.le_refl _, Nat.le_refl _⟩
  rw [sM_wM]
  funext y; exact up3_n fun q => hb q.2
theorem QR.pN (C : St) (o : Nat → Nat) (i j : Nat) (x : Nat) : QR C (wN C 17 i j x) o o i 0 := by
  refine ⟨fun _ _ => rfl, Nat.le_refl _, fun b' hb => ⟨rfl, ?_⟩, fun z _ _ => ⟨?_, rfl⟩, fun K k1 k2 => ⟨rfl, up3_o k1, rfl, rfl, rfl⟩, rfl, Nat.le_refl _, Nat.le_refl _⟩
  · rw [sN_wN]
    funext y; exact up3_n fun q => hb q.2
  · rw [sN_wN, up3_o (by decide)]
theorem QR.pn (C : St) (o : Nat → Nat) {i z : Nat} (k : Nat) (x : Nat) (ho : o z = 2 * i + 1) : QR C (wN C 35 z k x) o o i 0 := by
  refine ⟨fun _ _ => rfl, Nat.le_refl _, fun b' hb => ⟨rfl, ?_⟩, fun z' _ hz => ⟨?_, rfl⟩, fun K k1 k2 => ⟨rfl, up3_o k2, rfl, rfl, rfl⟩, rfl, Nat.le_refl _, Nat.le_refl _⟩
  · rw [sN_wN, up3_o (by decide)]
  · rw [sN_wN]
    funext y; exact up3_n fun q => hz (by rw [q.2]; exact ho)
theorem QR.pr (C : St) (o : Nat → Nat) {i z : Nat} (f : Nat → Nat) (ho : o z = 2 * i + 1) : QR C (rN C 35 z f) o o i 0 := by
  refine ⟨fun _ _ => rfl, Nat.le_refl _, fun b' hb => ⟨rfl, ?_⟩, fun z' _ hz => ⟨?_, rfl⟩, fun K k1 k2 => ⟨rfl, row3_o k2, rfl, rfl, rfl⟩, rfl, Nat.le_refl _, Nat.le_refl _⟩
  · rw [sN_rN, row3_o (by decide)]
  · rw [sN_rN]
    exact row3_n fun q => hz (by rw [q.2]; exact ho)
theorem QR.pk (C : St) (o : Nat → Nat) (i n : Nat) : QR C (mk C 35 n) o (up1 o (sK C 35) (2 * i + 1)) i (n + 1) := by
  refine ⟨fun z hz => up1_n (by omega), ?_, fun b' hb => ⟨?_, ?_⟩, fun z hz _ => ⟨?_, ?_⟩, fun K k1 k2 => ⟨row3_o k2, row3_o k2, row3_o k2, up2_o k2, up1_n k2⟩, ?_, ?_, ?_⟩
  · rw [sK_mk, up1_s]; omega
  · rw [sM_mk, row3_o (by decide)]
  · rw [sN_mk, row3_o (by decide)]
  · rw [sN_mk]; exact row3_n (fun q => by omega)
  · rw [sL_mk]; exact up2_n (fun q => by omega)
  · rw [sK_mk]; exact up1_n (by decide)
  · show sC C ≤ sC C - 1 + (n + 1); omega
  · show sS C ≤ sS C - n + (n + 1); omega
/-- a deque's items anew -/
def uQl (v : Vw) (i : Nat) (xs : List Nat) (c : Nat) : Vw := (vM v, vN v, vL v, vK v, vZ v, vE v, vB v, vW v, up1 (vQ v) i xs, vb v - c, vo v)
theorem WF.qr {C C' : St} {v : Vw} {i c d : Nat} {xs : List Nat} {o5 o4 o6 o5' : Nat → Nat} (w : WF C v) (j : JWo C v o5 o4 o6) (qr : QR C C' o5 o5' i c) (hn : AD C' o5' i xs) (hd : c ≤ d) : WF C' (uQl v i xs d) := by
  obtain ⟨w1, w2, w3, -⟩ := w
  obtain ⟨j1, j2, j3, j4, j5⟩ := j
  obtain ⟨a1, a2, a3, a4, a5, a6, a7, a8⟩ := qr
  refine ⟨fun K m => ?_, fun K m => ?_, ?_, ?_⟩
  · have n17 : K ≠ 17 := fun q => by subst q; cases m
    have n35 : K ≠ 35 := fun q => by subst q; cases m
    obtain ⟨m1, m2, m3, m4, m5⟩ := a5 K n17 n35
    obtain ⟨p1, p2, p3⟩ := w1 K m
    exact ⟨m1.trans p1, m2.trans p2, m4.trans p3⟩
  · show sK C' K = vK v K
    by_cases n17 : K = 17
    · subst n17; rw [a6]; exact w2 17 rfl
    · have n35 : K ≠ 35 := fun q => by subst q; cases m
      rw [(a5 K n17 n35).2.2.2.2]; exact w2 K m
  · show vb v - d ≤ _ ∧ vb v - d ≤ _
    omega
  · obtain ⟨b1, b2, b3, b4, b5⟩ := a5 13 (by decide) (by decide)
    obtain ⟨c1, c2, c3, c4, c5⟩ := a5 14 (by decide) (by decide)
    obtain ⟨d1, d2, d3, d4, d5⟩ := a5 15 (by decide) (by decide)
    obtain ⟨e1, e2, e3, e4, e5⟩ := a5 34 (by decide) (by decide)
    obtain ⟨f1, f2, f3, f4, f5⟩ := a5 16 (by decide) (by decide)
    refine ⟨o5', o4, o6, fun y hy => ?_, fun b hb => ?_, fun i' hi => ?_, fun i' hi => ?_, fun z hz => ?_⟩
    · rw [b5] at hy
      obtain ⟨t1, t2, t3⟩ := j1 y hy
      refine ⟨by rw [b1]; exact t1, t2, ?_⟩
      rw [b2]
      rcases t3 with t3 | ⟨z, z1, z2, z3, z4, z5, z6⟩
      · exact Or.inl t3
      · obtain ⟨s1, s2⟩ := a4 z z2 (by omega)
        exact Or.inr ⟨z, z1, by omega, by rw [a1 z z2]; exact z3, by rw [s2]; exact z4, by rw [s2]; exact z5, by rw [s1]; exact z6⟩
    · rw [c5] at hb
      have := j2 b hb
      unfold BS at this ⊢
      rw [c1, c2, c4, e3, e4, e5]; exact this
    · rw [d5] at hi
      have := j3 i' hi
      unfold LL at this ⊢
      rw [d1, d2, f2, f5]; exact this
    · by_cases q : i' = i
      · subst q
        have z0 : vQ (uQl v i' xs d) i' = xs := up1_s
        rw [z0]; exact hn
      · have z0 : vQ (uQl v i xs d) i' = vQ v i' := up1_n q
        rw [z0]
        rw [a6] at hi
        obtain ⟨z, hh, z1, z2, z3, z4, z5, z6, z7, z8, z9, z10⟩ := j4 i' hi
        obtain ⟨q1, q2⟩ := a3 i' q
        obtain ⟨s1, s2⟩ := a4 z z2 (by omega)
        refine ⟨z, hh, by rw [q2]; exact z1, by omega, by rw [a1 z z2]; exact z3, ?_⟩
        rw [q1, s1, s2]
        exact ⟨z4, z5, z6, z7, z8, z9, z10⟩
    · rw [e3, e4, e5]; exact j5 z hz
theorem WF.ad {C : St} {v : Vw} (w : WF C v) {y : Nat} (hy : y < vK v 17) : ∃ o5, AD C o5 y (vQ v y) := by
  obtain ⟨h1, h2, h3, o5, o4, o6, j1, j2, j3, j4, -⟩ := w
  exact ⟨o5, j4 y (by rw [h2 17 rfl]; exact hy)⟩
def h_J27_isEmpty (i : Nat) : PV Int32 := fun P _ v => i < vK v 17 ∧ P (if (vQ v i).length = 0 then 1 else 0) v
theorem md_lt {h n L : Nat} (hL : 0 < L) : (h + n) % L < L := Nat.mod_lt _ hL
theorem md_s {h L : Nat} (h1 : h < L) : (h + 1) % L = if h + 1 < L then h + 1 else 0 := by
  by_cases s : h + 1 < L
  · rw [if_pos s, Nat.mod_eq_of_lt s]
  · rw [if_neg s, show h + 1 = L by omega, Nat.mod_self]
theorem md_lo {h k L : Nat} (h1 : h + k < L) : (h + k) % L = h + k := Nat.mod_eq_of_lt h1
theorem md_hi {h k L : Nat} (h1 : L ≤ h + k) (h2 : h + k < 2 * L) : (h + k) % L = h + k - L := by
  rw [Nat.mod_eq_sub_mod h1, Nat.mod_eq_of_lt (by omega)]
theorem md_inj {h a b L : Nat} (ha : a < L) (hb : b < L) (hh : h < L) (e : (h + a) % L = (h + b) % L) : a = b := by
  rcases Nat.lt_or_ge (h + a) L with s | s <;> rcases Nat.lt_or_ge (h + b) L with s2 | s2
  · rw [md_lo s, md_lo s2] at e; omega
  · rw [md_lo s, md_hi s2 (by omega)] at e; omega
  · rw [md_hi s (by omega), md_lo s2] at e; omega
  · rw [md_hi s (by omega), md_hi s2 (by omega)] at e; omega
theorem s_J27_isEmpty (i : Nat) : Sim (h_J27_isEmpty i) (f_J27_isEmpty i) := fun P' X' v P X C w hP hX h => by
  obtain ⟨o5, z, hh, z1, z2, z3, z4, z5, z6, z7, z8, z9, z10⟩ := w.ad h.1
  have hg := hP _ _ _ w h.2
  unfold f_J27_isEmpty
  refine gI_i (gI_i ?_)
  rw [z7, z8]
  have hlt := md_lt (h := hh) (n := (vQ v i).length) (L := sL C 35 z) (by omega)
  refine cnd_i (fun q => asr_i (Or.inr rfl) (rt_i ?_)) fun q => asr_i (Or.inl rfl) (rt_i ?_)
  · have e := (nI_eq (by omega) (by omega)).mp q
    have e2 : (hh + 0) % sL C 35 z = (hh + (vQ v i).length) % sL C 35 z := by rw [Nat.add_zero, Nat.mod_eq_of_lt z4]; exact e
    have := md_inj (by omega) z5 z4 e2
    rw [if_pos this.symm] at hg; exact hg
  · have : ¬ (vQ v i).length = 0 := fun s => q (by rw [s, Nat.add_zero, Nat.mod_eq_of_lt z4])
    rw [if_neg this] at hg; exact hg
theorem p_inc {h L : Nat} {P : Int32 → St → Prop} {X : String → St → Prop} {C : St} (hh : h < L) (hL : L < 2 ^ 30) (k : P (nI ((h + 1) % L)) C) : f_J27_inc (nI h) (nI L) P X C := by
  unfold f_J27_inc
  rw [nI_1]
  rw [md_s hh] at k
  refine cnd_i (fun q => rt_i ?_) fun q => rt_i ?_
  · rw [if_pos ((nI_ltI (by omega) (by omega)).mp q)] at k; exact k
  · rw [if_neg (fun s => q ((nI_ltI (by omega) (by omega)).mpr s))] at k; exact k
def h_J27_poll (i : Nat) : PV Nat := fun P _ v => ∃ x t, (i < vK v 17 ∧ vQ v i = x :: t) ∧ P x (uQl v i t 0)
theorem s_J27_poll (i : Nat) : Sim (h_J27_poll i) (f_J27_poll i) := fun P' X' v P X C w hP hX h => by
  obtain ⟨x, t, ⟨hi, hq⟩, h⟩ := h
  obtain ⟨o5, o4, o6, j⟩ := w.jo
  obtain ⟨z, hh, z1, z2, z3, z4, z5, z6, z7, z8, z9, z10⟩ := j.2.2.2.1 i (by rw [w.2.1 17 rfl]; exact hi)
  rw [hq] at z5 z8 z9 z10
  rw [List.length_cons] at z5 z8 z9 z10
  obtain ⟨a1, a2, a3⟩ := z9 0 (by omega)
  rw [Nat.add_zero, Nat.mod_eq_of_lt z4, gd_0] at a1
  rw [gd_0] at a2 a3
  unfold f_J27_poll
  refine bn0_i ?_
  unfold f_J27_pollFirst
  refine gR_i (gI_i (isK_i z1 (bn0_i ?_)))
  rw [z7]
  have hcl : (nI hh).toNatClampNeg = hh := nI_clamp (by omega)
  have hin : vp_in (nI hh) (sL C 35 z) := nI_in z4 (by omega)
  unfold f_J27_elementAt
  refine ⟨hin, ?_⟩
  rw [hcl, a1]
  refine rt_i (cnd_i (fun q => absurd q a2) fun _ => ⟨hin, ?_⟩)
  rw [hcl]
  show (aLen 35 z _) _ _ _
  unfold aLen
  rw [sL_wN]
  refine bn0_i (p_inc z4 (by omega) (pI_i (rt_i (rt_i ?_))))
  refine hP _ _ _ (w.qr j ((QR.pn C o5 hh nul z3).tr (QR.pM _ o5 i 1 (nI ((hh + 1) % sL C 35 z)))) ⟨z, (hh + 1) % sL C 35 z, ?_, z2, z3, ?_, ?_, ?_, ?_, ?_, fun k hk => ?_, fun k hk hk2 => ?_⟩ (Nat.le_refl _)) h
  · rw [sN_wM, sN_wN, up3_o (by decide)]; exact z1
  · show _ < sL C 35 z
    exact Nat.mod_lt _ (by omega)
  · show t.length < sL C 35 z
    omega
  · exact z6
  · rw [sM_wM, up3_s]
  · rw [sM_wM, up3_k (by decide), sM_wN, z8, sL_wM, sL_wN]
    congr 1
    rw [Nat.mod_add_mod, Nat.add_assoc, Nat.add_comm 1]
  · have e : ((hh + 1) % sL C 35 z + k) % sL C 35 z = (hh + (k + 1)) % sL C 35 z := by rw [Nat.mod_add_mod, Nat.add_assoc, Nat.add_comm 1]
    obtain ⟨b1, b2, b3⟩ := z9 (k + 1) (by omega)
    rw [gd_s] at b1 b2 b3
    refine ⟨?_, b2, b3⟩
    rw [sN_wM, sN_wN, sL_wM, sL_wN, e, up3_k, b1]
    intro r
    have e2 : (hh + (k + 1)) % sL C 35 z = (hh + 0) % sL C 35 z := by rw [r, Nat.add_zero, Nat.mod_eq_of_lt z4]
    have := md_inj (by omega) (by omega) z4 e2
    omega
  · have hk2' : k < sL C 35 z := hk2
    have e : ((hh + 1) % sL C 35 z + k) % sL C 35 z = (hh + (k + 1)) % sL C 35 z := by rw [Nat.mod_add_mod, Nat.add_assoc, Nat.add_comm 1]
    rw [sN_wM, sN_wN, sL_wM, sL_wN, e]
    by_cases s : k + 1 < sL C 35 z
    · have e2 : (hh + (k + 1)) % sL C 35 z ≠ hh := by
        intro r
        have e2 : (hh + (k + 1)) % sL C 35 z = (hh + 0) % sL C 35 z := by rw [r, Nat.add_zero, Nat.mod_eq_of_lt z4]
        have := md_inj s (by omega) z4 e2
        omega
      rw [up3_k e2]
      exact z10 (k + 1) (by omega) s
    · have e2 : (hh + (k + 1)) % sL C 35 z = hh := by
        rw [show k + 1 = sL C 35 z by omega, Nat.add_mod_right, Nat.mod_eq_of_lt z4]
      rw [e2, up3_s]
