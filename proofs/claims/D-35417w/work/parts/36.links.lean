/-! ===== linked lists over views ===== -/
theorem gd_l {l : List Nat} {a k d : Nat} (h : k < l.length) : (l ++ [a]).getD k d = l.getD k d := by
  rw [List.getD_eq_getElem?_getD, List.getD_eq_getElem?_getD, List.getElem?_append_left h]
theorem gd_r {l : List Nat} {a d : Nat} : (l ++ [a]).getD l.length d = a := by
  rw [List.getD_eq_getElem?_getD, List.getElem?_append_right (Nat.le_refl _), Nat.sub_self]; rfl
theorem ll_hd (ns : List Nat) : (match ns.head? with | some a => idc 16 a | none => nul) = if ns.length = 0 then nul else idc 16 (ns.getD 0 0) := by
  cases ns with
  | nil => rfl
  | cons a t => rw [if_neg (by simp)]; rfl
theorem ll_lt (ns : List Nat) : (match ns.getLast? with | some a => idc 16 a | none => nul) = if ns.length = 0 then nul else idc 16 (ns.getD (ns.length - 1) 0) := by
  by_cases h : ns.length = 0
  · rw [if_pos h, List.eq_nil_of_length_eq_zero h]; rfl
  · rw [if_neg h, List.getLast?_eq_getElem?, List.getD_eq_getElem?_getD, List.getElem?_eq_getElem (by omega)]; rfl
/-- the same, by places -/
def LLi (C : St) (o6 : Nat → Nat) (i : Nat) (ns xs : List Nat) : Prop := ns.length = xs.length ∧ xs.length ≤ 4096 ∧ sM C 15 i 1 = nI xs.length ∧ sN C 15 i 2 = (if xs.length = 0 then nul else idc 16 (ns.getD 0 0)) ∧ sN C 15 i 3 = (if xs.length = 0 then nul else idc 16 (ns.getD (xs.length - 1) 0)) ∧
    ∀ k, k < xs.length → ns.getD k 0 < sK C 16 ∧ o6 (ns.getD k 0) = i ∧ (∀ k', k' < k → ns.getD k' 0 ≠ ns.getD k 0) ∧ sN C 16 (ns.getD k 0) 0 = xs.getD k 0 ∧ sN C 16 (ns.getD k 0) 1 = (if k + 1 < xs.length then idc 16 (ns.getD (k + 1) 0) else nul) ∧ sN C 16 (ns.getD k 0) 2 = (if k = 0 then nul else idc 16 (ns.getD (k - 1) 0))
theorem LL_iff {C : St} {o6 : Nat → Nat} {i : Nat} {xs : List Nat} : LL C o6 i xs ↔ ∃ ns, LLi C o6 i ns xs := by
  constructor
  · rintro ⟨ns, h1, h2, h3, h4, h5, h6⟩
    have h4 := h4.trans (ll_hd ns)
    have h5 := h5.trans (ll_lt ns)
    rw [h1] at h4 h5
    exact ⟨ns, h1, h2, h3, h4, h5, h6⟩
  · rintro ⟨ns, h1, h2, h3, h4, h5, h6⟩
    have h4' : sN C 15 i 2 = (if ns.length = 0 then nul else idc 16 (ns.getD 0 0)) := by rw [h1]; exact h4
    have h5' : sN C 15 i 3 = (if ns.length = 0 then nul else idc 16 (ns.getD (ns.length - 1) 0)) := by rw [h1]; exact h5
    exact ⟨ns, h1, h2, h3, h4'.trans (ll_hd ns).symm, h5'.trans (ll_lt ns).symm, h6⟩
/-- one linked list's insides changed, at a cost of c; iterators don't matter -/
def LR (C C' : St) (o o' : Nat → Nat) (i c : Nat) : Prop := (∀ z, z < sK C 16 → o' z = o z) ∧ sK C 16 ≤ sK C' 16 ∧ (∀ y, y ≠ i → sM C' 15 y = sM C 15 y ∧ sN C' 15 y = sN C 15 y) ∧ (∀ z, z < sK C 16 → o z ≠ i → sN C' 16 z = sN C 16 z) ∧
  (∀ K, K ≠ 15 → K ≠ 16 → K ≠ 18 → K ≠ 19 → sM C' K = sM C K ∧ sN C' K = sN C K ∧ sG C' K = sG C K ∧ sL C' K = sL C K ∧ sK C' K = sK C K) ∧ sK C' 15 = sK C 15 ∧ sC C ≤ sC C' + c ∧ sS C ≤ sS C' + c
theorem LR.rf (C : St) (o : Nat → Nat) (i : Nat) : LR C C o o i 0 := ⟨fun _ _ => rfl, Nat.le_refl _, fun _ _ => ⟨rfl, rfl⟩, fun _ _ _ => rfl, fun _ _ _ _ _ => ⟨rfl, rfl, rfl, rfl, rfl⟩, rfl, Nat.le_refl _, Nat.le_refl _⟩
theorem LR.tr {C C' C2 : St} {o o' o2 : Nat → Nat} {b c c' : Nat} (h : LR C C' o o' b c) (h' : LR C' C2 o' o2 b c') : LR C C2 o o2 b (c + c') := by
  obtain ⟨a1, a2, a3, a4, a5, a6, a7, a8⟩ := h
  obtain ⟨b1, b2, b3, b4, b5, b6, b7, b8⟩ := h'
  refine ⟨fun z hz => (b1 z (by omega)).trans (a1 z hz), by omega, fun b' hb => ?_, fun z hz ho => ?_, fun K k1 k2 k3 k4 => ?_, b6.trans a6, by omega, by omega⟩
  · obtain ⟨x1, x2⟩ := a3 b' hb
    obtain ⟨y1, y2⟩ := b3 b' hb
    exact ⟨y1.trans x1, y2.trans x2⟩
  · exact (b4 z (by omega) (by rw [a1 z hz]; exact ho)).trans (a4 z hz ho)
  · obtain ⟨x1, x2, x3, x4, x5⟩ := a5 K k1 k2 k3 k4
    obtain ⟨y1, y2, y3, y4, y5⟩ := b5 K k1 k2 k3 k4
    exact ⟨y1.trans x1, y2.trans x2, y3.trans x3, y4.trans x4, y5.trans x5⟩
theorem LR.pM (C : St) (o : Nat → Nat) (i j : Nat) (x : Int32) : LR C (wM C 15 i j x) o o i 0 := by
  refine ⟨fun _ _ => rfl, Nat.le_refl _, fun b' hb => ⟨?_, rfl⟩, fun z _ _ => rfl, fun K k1 k2 _ _ => ⟨up3_o k1, rfl, rfl, rfl, rfl⟩, rfl, Nat.le_refl _, Nat.le_refl _⟩
  show up3 (sM C) 15 i j x 15 b' = _
  funext y; exact up3_n fun q => hb q.2
theorem LR.pN (C : St) (o : Nat → Nat) (i j : Nat) (x : Nat) : LR C (wN C 15 i j x) o o i 0 := by
  refine ⟨fun _ _ => rfl, Nat.le_refl _, fun b' hb => ⟨rfl, ?_⟩, fun z _ _ => ?_, fun K k1 k2 _ _ => ⟨rfl, up3_o k1, rfl, rfl, rfl⟩, rfl, Nat.le_refl _, Nat.le_refl _⟩
  · show up3 (sN C) 15 i j x 15 b' = _
    funext y; exact up3_n fun q => hb q.2
  · show up3 (sN C) 15 i j x 16 z = _
    exact congrFun (up3_o (by decide)) z
theorem LR.pn (C : St) (o : Nat → Nat) {i a : Nat} (j : Nat) (x : Nat) (ho : o a = i) : LR C (wN C 16 a j x) o o i 0 := by
  refine ⟨fun _ _ => rfl, Nat.le_refl _, fun b' hb => ⟨rfl, ?_⟩, fun z _ hz => ?_, fun K k1 k2 _ _ => ⟨rfl, up3_o k2, rfl, rfl, rfl⟩, rfl, Nat.le_refl _, Nat.le_refl _⟩
  · show up3 (sN C) 16 a j x 15 b' = _
    exact congrFun (up3_o (by decide)) b'
  · show up3 (sN C) 16 a j x 16 z = _
    funext y; exact up3_n fun q => hz (by rw [q.2]; exact ho)
theorem LR.pk (C : St) (o : Nat → Nat) (i n : Nat) : LR C (mk C 16 n) o (up1 o (sK C 16) i) i (n + 1) := by
  refine ⟨fun z hz => up1_n (by omega), ?_, fun b' hb => ⟨?_, ?_⟩, fun z hz _ => ?_, fun K k1 k2 _ _ => ⟨row3_o k2, row3_o k2, row3_o k2, up2_o k2, up1_n k2⟩, ?_, ?_, ?_⟩
  · show sK C 16 ≤ up1 (sK C) 16 (sK C 16 + 1) 16
    rw [up1_s]; omega
  · show row3 (sM C) 16 (sK C 16) (fun _ => 0) 15 b' = _
    exact congrFun (row3_o (by decide)) b'
  · show row3 (sN C) 16 (sK C 16) (fun _ => nul) 15 b' = _
    exact congrFun (row3_o (by decide)) b'
  · show row3 (sN C) 16 (sK C 16) (fun _ => nul) 16 z = _
    exact row3_n (fun q => by omega)
  · show up1 (sK C) 16 (sK C 16 + 1) 15 = _
    exact up1_n (by decide)
  · show sC C ≤ sC C - 1 + (n + 1); omega
  · show sS C ≤ sS C - n + (n + 1); omega
/-- iterators are no part of it -/
theorem LR.it {C C' : St} (o : Nat → Nat) (i c : Nat) (h : ∀ K, K ≠ 18 → K ≠ 19 → sM C' K = sM C K ∧ sN C' K = sN C K ∧ sG C' K = sG C K ∧ sL C' K = sL C K ∧ sK C' K = sK C K) (hc : sC C ≤ sC C' + c ∧ sS C ≤ sS C' + c) : LR C C' o o i c := by
  obtain ⟨a1, a2, a3, a4, a5⟩ := h 15 (by decide) (by decide)
  obtain ⟨b1, b2, b3, b4, b5⟩ := h 16 (by decide) (by decide)
  exact ⟨fun _ _ => rfl, by omega, fun y _ => ⟨by rw [a1], by rw [a2]⟩, fun z _ _ => by rw [b2], fun K _ _ k3 k4 => h K k3 k4, a5, hc.1, hc.2⟩
/-- a linked list's items anew -/
def uWl (v : Vw) (i : Nat) (xs : List Nat) (c : Nat) : Vw := (vM v, vN v, vL v, vK v, vZ v, vE v, vB v, up1 (vW v) i xs, vQ v, vb v - c, vo v)
theorem WF.lr {C C' : St} {v : Vw} {i c d : Nat} {xs : List Nat} {o5 o4 o6 o6' : Nat → Nat} (w : WF C v) (j : JWo C v o5 o4 o6) (lr : LR C C' o6 o6' i c) (hn : LL C' o6' i xs) (hd : c ≤ d) : WF C' (uWl v i xs d) := by
  obtain ⟨w1, w2, w3, -⟩ := w
  obtain ⟨j1, j2, j3, j4, j5⟩ := j
  obtain ⟨a1, a2, a3, a4, a5, a6, a7, a8⟩ := lr
  refine ⟨fun K m => ?_, fun K m => ?_, ?_, ?_⟩
  · have n15 : K ≠ 15 := fun q => by subst q; cases m
    have n16 : K ≠ 16 := fun q => by subst q; cases m
    have n18 : K ≠ 18 := fun q => by subst q; cases m
    have n19 : K ≠ 19 := fun q => by subst q; cases m
    obtain ⟨m1, m2, m3, m4, m5⟩ := a5 K n15 n16 n18 n19
    obtain ⟨p1, p2, p3⟩ := w1 K m
    exact ⟨m1.trans p1, m2.trans p2, m4.trans p3⟩
  · show sK C' K = vK v K
    by_cases n15 : K = 15
    · subst n15; rw [a6]; exact w2 15 rfl
    · have n16 : K ≠ 16 := fun q => by subst q; cases m
      have n18 : K ≠ 18 := fun q => by subst q; cases m
      have n19 : K ≠ 19 := fun q => by subst q; cases m
      rw [(a5 K n15 n16 n18 n19).2.2.2.2]; exact w2 K m
  · show vb v - d ≤ _ ∧ vb v - d ≤ _
    omega
  · obtain ⟨b1, b2, b3, b4, b5⟩ := a5 13 (by decide) (by decide) (by decide) (by decide)
    obtain ⟨c1, c2, c3, c4, c5⟩ := a5 14 (by decide) (by decide) (by decide) (by decide)
    obtain ⟨d1, d2, d3, d4, d5⟩ := a5 17 (by decide) (by decide) (by decide) (by decide)
    obtain ⟨e1, e2, e3, e4, e5⟩ := a5 34 (by decide) (by decide) (by decide) (by decide)
    obtain ⟨f1, f2, f3, f4, f5⟩ := a5 35 (by decide) (by decide) (by decide) (by decide)
    refine ⟨o5, o4, o6', fun y hy => ?_, fun b hb => ?_, fun i' hi => ?_, fun i' hi => ?_, fun z hz => ?_⟩
    · rw [b5] at hy
      have := j1 y hy
      unfold AL at this ⊢
      rw [b1, b2, f2, f4, f5]; exact this
    · rw [c5] at hb
      have := j2 b hb
      unfold BS at this ⊢
      rw [c1, c2, c4, e3, e4, e5]; exact this
    · by_cases q : i' = i
      · subst q
        have z0 : vW (uWl v i' xs d) i' = xs := up1_s
        rw [z0]; exact hn
      · have z0 : vW (uWl v i xs d) i' = vW v i' := up1_n q
        rw [z0]
        rw [a6] at hi
        obtain ⟨ns, t1, t2, t3, t4, t5, t6⟩ := j3 i' hi
        obtain ⟨q1, q2⟩ := a3 i' q
        refine ⟨ns, t1, t2, by rw [q1]; exact t3, by rw [q2]; exact t4, by rw [q2]; exact t5, fun k hk => ?_⟩
        obtain ⟨u1, u2, u3, u4⟩ := t6 k hk
        rw [a4 _ u1 (by rw [u2]; exact q), a1 _ u1]
        exact ⟨by omega, u2, u3, u4⟩
    · rw [d5] at hi
      have := j4 i' hi
      unfold AD at this ⊢
      rw [d1, d2, f2, f4, f5]; exact this
    · rw [e3, e4, e5]; exact j5 z hz
theorem pR_i {ρ : Type} {K i j x : Nat} {k : PT ρ} {P : ρ → St → Prop} {X : String → St → Prop} {C : St} (h : k P X (wN C K i j x)) : pR K i j x k P X C := h
theorem pI_i {ρ : Type} {K i j : Nat} {x : Int32} {k : PT ρ} {P : ρ → St → Prop} {X : String → St → Prop} {C : St} (h : k P X (wM C K i j x)) : pI K i j x k P X C := h
theorem gR_i {ρ : Type} {K i j : Nat} {k : Nat → PT ρ} {P : ρ → St → Prop} {X : String → St → Prop} {C : St} (h : k (sN C K i j) P X C) : gR K i j k P X C := h
theorem rt_i {ρ : Type} {r : ρ} {P : ρ → St → Prop} {X : String → St → Prop} {C : St} (h : P r C) : rt r P X C := h
theorem asr_i {ρ : Type} {c : Prop} {p : PT ρ} {P : ρ → St → Prop} {X : String → St → Prop} {C : St} (h : c) (h2 : p P X C) : asr c p P X C := ⟨h, h2⟩
theorem isK_i {ρ : Type} {K i r : Nat} {k : Nat → PT ρ} {P : ρ → St → Prop} {X : String → St → Prop} {C : St} (e : r = idc K i) (h : k i P X C) : isK K r k P X C := ⟨i, e, h⟩
theorem nw_i {ρ : Type} {K n : Nat} {k : Nat → PT ρ} {P : ρ → St → Prop} {X : String → St → Prop} {C : St} (e : 1 ≤ sC C ∧ n ≤ sS C) (h : k (sK C K) P X (mk C K n)) : nw K n k P X C := ⟨e, h⟩
theorem gI_i {ρ : Type} {K i j : Nat} {k : Int32 → PT ρ} {P : ρ → St → Prop} {X : String → St → Prop} {C : St} (h : k (sM C K i j) P X C) : gI K i j k P X C := h
theorem sM_wN {C : St} {K i j x : Nat} : sM (wN C K i j x) = sM C := rfl
theorem sK_wN {C : St} {K i j x : Nat} : sK (wN C K i j x) = sK C := rfl
theorem sN_wN {C : St} {K i j x : Nat} : sN (wN C K i j x) = up3 (sN C) K i j x := rfl
theorem lk_tail {i : Nat} {P : Unit → St → Prop} {X : String → St → Prop} {C : St} (h : ∀ y mc, y = sM C 15 i 1 + 1 → P () (wM (wM C 15 i 1 y) 15 i 0 mc)) : (gI 15 i 1 fun v4 => pI 15 i 1 (v4 + (1 : Int32)) <| gI 15 i 0 fun v5 => pI 15 i 0 (v5 + (1 : Int32)) <| rt ()) P X C := h _ _ rfl
def h_J20_add (i e : Nat) : PV Int32 := fun P _ v => (i < vK v 15 ∧ 4 ≤ vb v ∧ (vW v i).length < 4096) ∧ P 1 (uWl v i (vW v i ++ [e]) 4)
theorem s_J20_add (i e : Nat) : Sim (h_J20_add i e) (f_J20_add i e) := fun P' X' v P X C w hP hX h => by
  obtain ⟨⟨hi, hv, hlen⟩, h⟩ := h
  have w3 := w.2.2.1
  obtain ⟨o5, o4, o6, j⟩ := w.jo
  have hi15 : i < sK C 15 := by rw [w.2.1 15 rfl]; exact hi
  obtain ⟨ns, h1, h2, h3, h4, h5, h6⟩ := LL_iff.mp (j.2.2.1 i hi15)
  generalize hxs : vW v i = xs at h1 h2 h3 h4 h5 h6 hlen
  have hg := fun C' => hP 1 (uWl v i (vW v i ++ [e]) 4) C'
  rw [hxs] at hg h
  unfold f_J20_add
  refine bn0_i ?_
  unfold f_J20_linkLast
  refine gR_i (nw_i ⟨by omega, by omega⟩ ?_)
  generalize hq : sK C 16 = n
  have m0 := LR.pk C o6 i 3
  rw [hq] at m0
  have n0 := ((m0.tr (LR.pn _ _ 0 e up1_s)).tr (LR.pn _ _ 1 nul up1_s)).tr (LR.pn _ _ 2 (sN C 15 i 3) up1_s)
  have n1 := n0.tr (LR.pN _ _ i 3 (idc 16 n))
  generalize hC1 : wN (wN (wN (wN (mk C 16 3) 16 n 0 e) 16 n 1 nul) 16 n 2 (sN C 15 i 3)) 15 i 3 (idc 16 n) = C1 at n1
  have c16 : ∀ a, a < n → sN C1 16 a = sN C 16 a := fun a ha => by
    subst hC1
    show up3 (up3 (up3 (up3 (row3 (sN C) 16 (sK C 16) (fun _ => nul)) 16 n 0 e) 16 n 1 nul) 16 n 2 (sN C 15 i 3)) 15 i 3 (idc 16 n) 16 a = _
    rw [up3_o (by decide)]
    funext y
    rw [up3_n (fun q => by omega), up3_n (fun q => by omega), up3_n (fun q => by omega), row3_n (fun q => by omega)]
  have cn0 : sN C1 16 n 0 = e := by
    subst hC1
    show up3 (up3 (up3 (up3 (row3 (sN C) 16 (sK C 16) (fun _ => nul)) 16 n 0 e) 16 n 1 nul) 16 n 2 (sN C 15 i 3)) 15 i 3 (idc 16 n) 16 n 0 = _
    rw [up3_o (by decide), up3_k (by decide), up3_k (by decide), up3_s]
  have cn1 : sN C1 16 n 1 = nul := by
    subst hC1
    show up3 (up3 (up3 (up3 (row3 (sN C) 16 (sK C 16) (fun _ => nul)) 16 n 0 e) 16 n 1 nul) 16 n 2 (sN C 15 i 3)) 15 i 3 (idc 16 n) 16 n 1 = _
    rw [up3_o (by decide), up3_k (by decide), up3_s]
  have cn2 : sN C1 16 n 2 = sN C 15 i 3 := by
    subst hC1
    show up3 (up3 (up3 (up3 (row3 (sN C) 16 (sK C 16) (fun _ => nul)) 16 n 0 e) 16 n 1 nul) 16 n 2 (sN C 15 i 3)) 15 i 3 (idc 16 n) 16 n 2 = _
    rw [up3_o (by decide), up3_s]
  have ci : sN C1 15 i 3 = idc 16 n ∧ sN C1 15 i 2 = sN C 15 i 2 ∧ sM C1 15 i 1 = nI xs.length ∧ sK C1 16 = n + 1 := by
    subst hC1
    refine ⟨up3_s, ?_, ?_, ?_⟩
    · show up3 (up3 (up3 (up3 (row3 (sN C) 16 (sK C 16) (fun _ => nul)) 16 n 0 e) 16 n 1 nul) 16 n 2 (sN C 15 i 3)) 15 i 3 (idc 16 n) 15 i 2 = _
      rw [up3_k (by decide), up3_o (by decide), up3_o (by decide), up3_o (by decide), row3_o (by decide)]
    · show row3 (sM C) 16 (sK C 16) (fun _ => 0) 15 i 1 = _
      rw [row3_o (by decide)]; exact h3
    · show up1 (sK C) 16 (sK C 16 + 1) 16 = _
      rw [up1_s, hq]
  obtain ⟨ci3, ci2, ci1, ck⟩ := ci
  refine bn0_i ?_
  unfold f_J23_init
  refine pR_i (pR_i (pR_i (rt_i ?_)))
  refine pR_i ?_
  rw [hC1]
  have fin : ∀ C2, LR C C2 o6 (up1 o6 n i) i 4 → sM C2 15 i 1 = nI xs.length → sN C2 15 i 3 = idc 16 n → sN C2 15 i 2 = (if xs.length = 0 then idc 16 n else idc 16 (ns.getD 0 0)) → sK C2 16 = n + 1 → sN C2 16 n = sN C1 16 n → (∀ k, k < xs.length → sN C2 16 (ns.getD k 0) 0 = xs.getD k 0 ∧ sN C2 16 (ns.getD k 0) 1 = (if k + 1 < xs.length then idc 16 (ns.getD (k + 1) 0) else idc 16 n) ∧ sN C2 16 (ns.getD k 0) 2 = (if k = 0 then nul else idc 16 (ns.getD (k - 1) 0))) →
      ∀ y mc : Int32, y = nI (xs.length + 1) → P 1 (wM (wM C2 15 i 1 y) 15 i 0 mc) := by
    intro C2 lr g1 g2 g3 g4 g5 g6 y mc hy
    subst hy
    refine hg _ (w.lr j ((lr.tr (LR.pM C2 _ i 1 (nI (xs.length + 1)))).tr (LR.pM _ _ i 0 mc)) (LL_iff.mpr ⟨ns ++ [n], ?_, ?_, ?_, ?_, ?_, fun k hk => ?_⟩) (Nat.le_refl _)) h
    · rw [List.length_append, List.length_append, h1]; rfl
    · rw [List.length_append]; show xs.length + 1 ≤ 4096; omega
    · show up3 (up3 (sM C2) 15 i 1 (nI (xs.length + 1))) 15 i 0 mc 15 i 1 = _
      rw [up3_k (by decide), up3_s, List.length_append]; rfl
    · rw [if_neg (by rw [List.length_append]; simp)]
      show sN C2 15 i 2 = _
      rw [g3]
      by_cases s : xs.length = 0
      · rw [if_pos s, List.eq_nil_of_length_eq_zero (h1.trans s)]; rfl
      · rw [if_neg s, gd_l (by omega)]
    · rw [if_neg (by rw [List.length_append]; simp), List.length_append]
      show sN C2 15 i 3 = idc 16 ((ns ++ [n]).getD (xs.length + 1 - 1) 0)
      rw [g2, Nat.add_sub_cancel, ← h1, gd_r]
    · rw [List.length_append] at hk ⊢
      have hk' : k < xs.length + 1 := hk
      show (ns ++ [n]).getD k 0 < sK C2 16 ∧ up1 o6 n i ((ns ++ [n]).getD k 0) = i ∧ (∀ k', k' < k → (ns ++ [n]).getD k' 0 ≠ (ns ++ [n]).getD k 0) ∧ sN C2 16 ((ns ++ [n]).getD k 0) 0 = (xs ++ [e]).getD k 0 ∧ sN C2 16 ((ns ++ [n]).getD k 0) 1 = (if k + 1 < xs.length + 1 then idc 16 ((ns ++ [n]).getD (k + 1) 0) else nul) ∧ sN C2 16 ((ns ++ [n]).getD k 0) 2 = (if k = 0 then nul else idc 16 ((ns ++ [n]).getD (k - 1) 0))
      by_cases s : k < xs.length
      · obtain ⟨u1, u2, u3, u4, u5, u6⟩ := h6 k s
        obtain ⟨v1, v2, v3⟩ := g6 k s
        rw [gd_l (by omega), gd_l s]
        refine ⟨by omega, ?_, fun k' hk' => ?_, v1, ?_, ?_⟩
        · rw [up1_n (by omega)]; exact u2
        · rw [gd_l (by omega)]; exact u3 k' hk'
        · rw [v2, if_pos (show k + 1 < xs.length + 1 by omega)]
          by_cases s2 : k + 1 < xs.length
          · rw [if_pos s2, gd_l (by omega)]
          · rw [if_neg s2, show k + 1 = ns.length by omega, gd_r]
        · rw [v3]
          by_cases s2 : k = 0
          · rw [if_pos s2, if_pos s2]
          · rw [if_neg s2, if_neg s2, gd_l (by omega)]
      · have hkl : k = xs.length := by omega
        have e1 : (ns ++ [n]).getD k 0 = n := by rw [hkl, ← h1, gd_r]
        rw [e1]
        refine ⟨by omega, up1_s, fun k' hk' => ?_, ?_, ?_, ?_⟩
        · rw [gd_l (by omega)]
          have := (h6 k' (by omega)).1
          omega
        · rw [g5, cn0, hkl, gd_r]
        · rw [g5, cn1, if_neg (show ¬ k + 1 < xs.length + 1 by omega)]
        · rw [g5, cn2, h5]
          by_cases s2 : k = 0
          · rw [if_pos s2, if_pos (by omega)]
          · rw [if_neg s2, if_neg (by omega), gd_l (by omega), hkl]
  refine bnd_i (cnd_i (fun q => ?_) fun q => ?_)
  · have hx : xs.length = 0 := by
      by_cases s : xs.length = 0
      · exact s
      · rw [h5, if_neg s] at q
        exact absurd q (idc_nn (by decide))
    have lr2 := n1.tr (LR.pN C1 _ i 2 (idc 16 n))
    refine pR_i (rt_i (lk_tail fun y mc hy => asr_i (Or.inr rfl) (rt_i ?_)))
    rw [sM_wN, ci1, nI_1] at hy
    refine fin (wN C1 15 i 2 (idc 16 n)) lr2 ?_ ?_ ?_ ?_ ?_ (fun k hk => absurd hk (by omega)) y mc hy
    · rw [sM_wN]; exact ci1
    · rw [sN_wN, up3_k (by decide)]; exact ci3
    · rw [sN_wN, if_pos hx, up3_s]
    · rw [sK_wN]; exact ck
    · rw [sN_wN, up3_o (by decide)]
  · have hx : ¬ xs.length = 0 := fun s => q (by rw [h5, if_pos s])
    obtain ⟨l1, l2, l3, l4, l5, l6⟩ := h6 (xs.length - 1) (by omega)
    generalize ha : ns.getD (xs.length - 1) 0 = a at l1 l2 l3 l4 l5 l6
    refine isK_i (i := a) (by rw [h5, if_neg hx, ha]) ?_
    have lr2 := n1.tr (LR.pn C1 _ (a := a) 1 (idc 16 n) (by rw [up1_n (by omega)]; exact l2))
    refine pR_i (rt_i (lk_tail fun y mc hy => asr_i (Or.inr rfl) (rt_i ?_)))
    rw [sM_wN, ci1, nI_1] at hy
    refine fin (wN C1 16 a 1 (idc 16 n)) lr2 ?_ ?_ ?_ ?_ ?_ (fun k hk => ?_) y mc hy
    · rw [sM_wN]; exact ci1
    · rw [sN_wN, up3_o (by decide)]; exact ci3
    · rw [sN_wN, up3_o (by decide), ci2, h4, if_neg hx, if_neg hx]
    · rw [sK_wN]; exact ck
    · rw [sN_wN]
      have hna : n ≠ a := by omega
      funext t
      exact up3_n fun q => hna q.2
    · obtain ⟨u1, u2, u3, u4, u5, u6⟩ := h6 k hk
      rw [sN_wN]
      by_cases s : k = xs.length - 1
      · have e1 : ns.getD k 0 = a := by rw [s]; exact ha
        rw [e1] at u4 u6 ⊢
        rw [up3_k (by decide), up3_s, up3_k (by decide), c16 a (by omega), if_neg (by omega)]
        exact ⟨u4, rfl, u6⟩
      · have e1 : ns.getD k 0 ≠ a := by rw [← ha]; exact (h6 (xs.length - 1) (by omega)).2.2.1 k (by omega)
        rw [up3_n (fun q => e1 q.2), up3_n (fun q => e1 q.2), up3_n (fun q => e1 q.2), c16 _ (by omega)]
        refine ⟨u4, ?_, u6⟩
        rw [u5, if_pos (by omega), if_pos (by omega)]
/-- a new LinkedList -/
def uWn (v : Vw) : Vw := (vM v, vN v, vL v, up1 (vK v) 15 (vK v 15 + 1), vZ v, vE v, vB v, up1 (vW v) (vK v 15) [], vQ v, vb v - 5, vo v)
def hnW {ρ : Type} (k : Nat → PV ρ) : PV ρ := fun P X v => 5 ≤ vb v ∧ k (vK v 15) P X (uWn v)
theorem s_nW {ρ : Type} {k : Nat → PV ρ} {k' : Nat → PT ρ} (h2 : ∀ r, Sim (k r) (k' r)) : Sim (hnW k) (nw 15 4 fun i => bn0 (f_J20_init i) fun _ => k' i) := fun P' X' v P X C w hP hX h => by
  obtain ⟨hb, h⟩ := h
  have hk : sK C 15 = vK v 15 := w.2.1 15 rfl
  have w3 := w.2.2.1
  rw [← hk] at h
  refine ⟨by omega, ?_⟩
  refine h2 _ P' X' _ P X _ ?_ hP hX h
  generalize hC1 : wM (wM (mk C 15 4) 15 (sK C 15) 0 0) 15 (sK C 15) 1 0 = C1
  have m1 : ∀ K, K ≠ 15 → sM C1 K = sM C K ∧ sN C1 K = sN C K ∧ sG C1 K = sG C K ∧ sL C1 K = sL C K ∧ sK C1 K = sK C K := fun K n => by
    subst hC1
    refine ⟨?_, row3_o n, row3_o n, up2_o n, up1_n n⟩
    show up3 (up3 (row3 (sM C) 15 (sK C 15) (fun _ => 0)) 15 (sK C 15) 0 0) 15 (sK C 15) 1 0 K = _
    rw [up3_o n, up3_o n, row3_o n]
  have m2 : (∀ y, y ≠ sK C 15 → sM C1 15 y = sM C 15 y ∧ sN C1 15 y = sN C 15 y) ∧ sM C1 15 (sK C 15) 1 = 0 ∧ sN C1 15 (sK C 15) = (fun _ => nul) ∧ sK C1 15 = sK C 15 + 1 ∧ sC C1 = sC C - 1 ∧ sS C1 = sS C - 4 := by
    subst hC1
    refine ⟨fun y hy => ⟨?_, row3_n (fun q => hy q.2)⟩, up3_s, row3_s, by show up1 (sK C) 15 (sK C 15 + 1) 15 = _; exact up1_s, rfl, rfl⟩
    show up3 (up3 (row3 (sM C) 15 (sK C 15) (fun _ => 0)) 15 (sK C 15) 0 0) 15 (sK C 15) 1 0 15 y = _
    funext t
    rw [up3_n (fun q => hy q.2), up3_n (fun q => hy q.2), row3_n (fun q => hy q.2)]
  obtain ⟨m2, m3, m4, m5, m6, m7⟩ := m2
  obtain ⟨w1, w2, -, o5, o4, o6, j1, j2, j3, j4, j5⟩ := w
  show WF C1 (uWn v)
  refine ⟨fun K m => ?_, fun K m => ?_, ?_, o5, o4, o6, fun y hy => ?_, fun b hb => ?_, fun i' hi => ?_, fun i' hi => ?_, fun z hz => ?_⟩
  · have n15 : K ≠ 15 := fun q => by subst q; cases m
    obtain ⟨x1, x2, x3, x4, x5⟩ := m1 K n15
    obtain ⟨p1, p2, p3⟩ := w1 K m
    exact ⟨x1.trans p1, x2.trans p2, x4.trans p3⟩
  · show sK C1 K = up1 (vK v) 15 (vK v 15 + 1) K
    by_cases n15 : K = 15
    · subst n15; rw [up1_s, m5, hk]
    · rw [up1_n n15, (m1 K n15).2.2.2.2]; exact w2 K m
  · show vb v - 5 ≤ _ ∧ vb v - 5 ≤ _
    omega
  · obtain ⟨b1, b2, b3, b4, b5⟩ := m1 13 (by decide)
    obtain ⟨f1, f2, f3, f4, f5⟩ := m1 35 (by decide)
    rw [b5] at hy
    have := j1 y hy
    unfold AL at this ⊢
    rw [b1, b2, f2, f4, f5]; exact this
  · obtain ⟨c1, c2, c3, c4, c5⟩ := m1 14 (by decide)
    obtain ⟨e1, e2, e3, e4, e5⟩ := m1 34 (by decide)
    rw [c5] at hb
    have := j2 b hb
    unfold BS at this ⊢
    rw [c1, c2, c4, e3, e4, e5]; exact this
  · obtain ⟨g1, g2, g3, g4, g5⟩ := m1 16 (by decide)
    by_cases q : i' = sK C 15
    · have z0 : vW (uWn v) i' = [] := by
        rw [q, hk]; exact up1_s
      rw [z0, q]
      refine ⟨[], rfl, by decide, by rw [m3]; exact nI_0.symm, by rw [m4]; rfl, by rw [m4]; rfl, fun k hk => absurd hk (Nat.not_lt_zero k)⟩
    · have z0 : vW (uWn v) i' = vW v i' := up1_n (by rw [← hk]; exact q)
      rw [z0]
      have := j3 i' (by omega)
      obtain ⟨y1, y2⟩ := m2 i' q
      unfold LL at this ⊢
      rw [y1, y2, g2, g5]; exact this
  · obtain ⟨d1, d2, d3, d4, d5⟩ := m1 17 (by decide)
    obtain ⟨f1, f2, f3, f4, f5⟩ := m1 35 (by decide)
    rw [d5] at hi
    have := j4 i' hi
    unfold AD at this ⊢
    rw [d1, d2, f2, f4, f5]; exact this
  · obtain ⟨e1, e2, e3, e4, e5⟩ := m1 34 (by decide)
    rw [e3, e4, e5]; exact j5 z hz
