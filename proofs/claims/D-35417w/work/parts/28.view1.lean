/-! ===== a view of the store: what the court's and the model's programs mean, the JDK's insides out of sight ===== -/
abbrev Vw : Type := (Nat → Nat → Nat → Int32) × (Nat → Nat → Nat → Nat) × (Nat → Nat → Nat) × (Nat → Nat) × (Nat → Nat) × (Nat → Nat → Nat) × (Nat → Nat → Bool) × (Nat → List Nat) × (Nat → List Nat) × Nat × Nat × Int64
/-- ints of fields and arrays; references; lengths; how many of a kind -/
def vM (v : Vw) : Nat → Nat → Nat → Int32 := v.1
def vN (v : Vw) : Nat → Nat → Nat → Nat := v.2.1
def vL (v : Vw) : Nat → Nat → Nat := v.2.2.1
def vK (v : Vw) : Nat → Nat := v.2.2.2.1
/-- an ArrayList's size and elements; a BitSet's bits; a LinkedList's items; an ArrayDeque's; the budget -/
def vZ (v : Vw) : Nat → Nat := v.2.2.2.2.1
def vE (v : Vw) : Nat → Nat → Nat := v.2.2.2.2.2.1
def vB (v : Vw) : Nat → Nat → Bool := v.2.2.2.2.2.2.1
def vW (v : Vw) : Nat → List Nat := v.2.2.2.2.2.2.2.1
def vQ (v : Vw) : Nat → List Nat := v.2.2.2.2.2.2.2.2.1
def vb (v : Vw) : Nat := v.2.2.2.2.2.2.2.2.2.1
/-- the law's own array of one long: its number and 1 (0 for none), what it holds -/
def vo (v : Vw) : Nat × Int64 := v.2.2.2.2.2.2.2.2.2.2
def uM (v : Vw) (K i j : Nat) (x : Int32) : Vw := (up3 (vM v) K i j x, vN v, vL v, vK v, vZ v, vE v, vB v, vW v, vQ v, vb v, vo v)
def uN (v : Vw) (K i j : Nat) (x : Nat) : Vw := (vM v, up3 (vN v) K i j x, vL v, vK v, vZ v, vE v, vB v, vW v, vQ v, vb v, vo v)
/-- one thing more of a kind whose insides are in sight -/
def uK (v : Vw) (K n : Nat) : Vw := (row3 (vM v) K (vK v K) (fun _ => 0), row3 (vN v) K (vK v K) (fun _ => nul), up2 (vL v) K (vK v K) n, up1 (vK v) K (vK v K + 1), vZ v, vE v, vB v, vW v, vQ v, vb v - (n + 1), vo v)
def ub (v : Vw) (n : Nat) : Vw := (vM v, vN v, vL v, vK v, vZ v, vE v, vB v, vW v, vQ v, vb v - n, vo v)
/-- kinds whose fields or elements are in sight -/
def msk (K : Nat) : Bool := decide (K < 13) || K == 20 || K == 32 || K == 33 || K == 36 || K == 37
/-- kinds whose number is in sight -/
def vis (K : Nat) : Bool := msk K || K == 13 || K == 14 || K == 15 || K == 17
/-! what stands behind the views -/
def AL (C : St) (o5 : Nat → Nat) (y n : Nat) (el : Nat → Nat) : Prop :=
  sM C 13 y 2 = nI n ∧ n ≤ 4096 ∧ ((sN C 13 y 1 = idc 48 0 ∧ n = 0) ∨ ∃ z, sN C 13 y 1 = idc 35 z ∧ z < sK C 35 ∧ o5 z = 2 * y ∧ n ≤ sL C 35 z ∧ (0 < sL C 35 z ∧ sL C 35 z ≤ 8192) ∧ ∀ k, k < n → sN C 35 z k = el k ∧ elOK (el k))
def BS (C : St) (o4 : Nat → Nat) (b : Nat) (bits : Nat → Bool) : Prop :=
  ∃ z w, sN C 14 b 0 = idc 34 z ∧ z < sK C 34 ∧ o4 z = 2 * b ∧ sM C 14 b 1 = nI w ∧ w ≤ sL C 34 z ∧ sL C 34 z ≤ 2 ∧ sM C 14 b 2 = 0 ∧ sL C 14 b = 3 ∧ (∀ k, w ≤ k → k < sL C 34 z → sG C 34 z k = 0) ∧ ∀ k, bits k = (decide (k / 64 < w) && (sG C 34 z (k / 64)).toBitVec.getLsbD (k % 64))
def LL (C : St) (o6 : Nat → Nat) (i : Nat) (xs : List Nat) : Prop :=
  ∃ ns : List Nat, ns.length = xs.length ∧ xs.length ≤ 4096 ∧ sM C 15 i 1 = nI xs.length ∧ sN C 15 i 2 = (match ns.head? with | some a => idc 16 a | none => nul) ∧ sN C 15 i 3 = (match ns.getLast? with | some a => idc 16 a | none => nul) ∧
    ∀ k, k < xs.length → ns.getD k 0 < sK C 16 ∧ o6 (ns.getD k 0) = i ∧ (∀ k', k' < k → ns.getD k' 0 ≠ ns.getD k 0) ∧ sN C 16 (ns.getD k 0) 0 = xs.getD k 0 ∧ sN C 16 (ns.getD k 0) 1 = (if k + 1 < xs.length then idc 16 (ns.getD (k + 1) 0) else nul) ∧ sN C 16 (ns.getD k 0) 2 = (if k = 0 then nul else idc 16 (ns.getD (k - 1) 0))
def AD (C : St) (o5 : Nat → Nat) (i : Nat) (xs : List Nat) : Prop :=
  ∃ z h, sN C 17 i 0 = idc 35 z ∧ z < sK C 35 ∧ o5 z = 2 * i + 1 ∧ h < sL C 35 z ∧ xs.length < sL C 35 z ∧ sL C 35 z ≤ 8192 ∧ sM C 17 i 1 = nI h ∧ sM C 17 i 2 = nI ((h + xs.length) % sL C 35 z) ∧
    (∀ k, k < xs.length → sN C 35 z ((h + k) % sL C 35 z) = xs.getD k 0 ∧ xs.getD k 0 ≠ nul ∧ elOK (xs.getD k 0)) ∧ ∀ k, xs.length ≤ k → k < sL C 35 z → sN C 35 z ((h + k) % sL C 35 z) = nul
/-- the JDK's insides realise the views -/
def JW (C : St) (v : Vw) : Prop := ∃ o5 o4 o6 : Nat → Nat, (∀ y, y < sK C 13 → AL C o5 y (vZ v y) (vE v y)) ∧ (∀ b, b < sK C 14 → BS C o4 b (vB v b)) ∧ (∀ i, i < sK C 15 → LL C o6 i (vW v i)) ∧ (∀ i, i < sK C 17 → AD C o5 i (vQ v i)) ∧ ∀ z, (vo v).1 = z + 1 → z < sK C 34 ∧ o4 z = 1 ∧ sL C 34 z = 1 ∧ sG C 34 z 0 = (vo v).2
def WF (C : St) (v : Vw) : Prop := (∀ K, msk K = true → sM C K = vM v K ∧ sN C K = vN v K ∧ sL C K = vL v K) ∧ (∀ K, vis K = true → sK C K = vK v K) ∧ (vb v ≤ sC C ∧ vb v ≤ sS C) ∧ JW C v
/-- the insides are the same in two stores -/
def jk (K : Nat) : Bool := K == 13 || K == 14 || K == 15 || K == 16 || K == 17 || K == 34 || K == 35
def Same (C C' : St) : Prop := ∀ K, jk K = true → sM C' K = sM C K ∧ sN C' K = sN C K ∧ sG C' K = sG C K ∧ sL C' K = sL C K ∧ sK C' K = sK C K
theorem JW.same {C C' : St} {v v' : Vw} (h : JW C v) (hs : Same C C') (e : vZ v' = vZ v ∧ vE v' = vE v ∧ vB v' = vB v ∧ vW v' = vW v ∧ vQ v' = vQ v ∧ vo v' = vo v) : JW C' v' := by
  obtain ⟨o5, o4, o6, h1, h2, h3, h4, h5⟩ := h
  obtain ⟨a1, a2, a3, a4, a5⟩ := hs 13 rfl
  obtain ⟨b1, b2, b3, b4, b5⟩ := hs 14 rfl
  obtain ⟨c1, c2, c3, c4, c5⟩ := hs 15 rfl
  obtain ⟨d1, d2, d3, d4, d5⟩ := hs 16 rfl
  obtain ⟨f1, f2, f3, f4, f5⟩ := hs 17 rfl
  obtain ⟨g1, g2, g3, g4, g5⟩ := hs 34 rfl
  obtain ⟨k1, k2, k3, k4, k5⟩ := hs 35 rfl
  obtain ⟨e1, e2, e3, e4, e5, e6⟩ := e
  refine ⟨o5, o4, o6, fun y hy => ?_, fun b hb => ?_, fun i hi => ?_, fun i hi => ?_, fun z hz => ?_⟩
  · rw [a5] at hy
    have := h1 y hy
    unfold AL at this ⊢
    rw [a1, a2, k2, k4, k5, e1, e2]; exact this
  · rw [b5] at hb
    have := h2 b hb
    unfold BS at this ⊢
    rw [b1, b2, b4, g3, g4, g5, e3]; exact this
  · rw [c5] at hi
    have := h3 i hi
    unfold LL at this ⊢
    rw [c1, c2, d2, d5, e4]; exact this
  · rw [f5] at hi
    have := h4 i hi
    unfold AD at this ⊢
    rw [f1, f2, k2, k4, k5, e5]; exact this
  · rw [e6] at hz
    rw [g3, g4, g5, e6]; exact h5 z hz
theorem up3_o {α : Type} {f : Nat → Nat → Nat → α} {a b c x : Nat} {v : α} (h : x ≠ a) : up3 f a b c v x = f x := by
  funext y z
  exact up3_n fun q => h q.1
theorem row3_o {α : Type} {f : Nat → Nat → Nat → α} {a b x : Nat} {v : Nat → α} (h : x ≠ a) : row3 f a b v x = f x := by
  funext y
  exact row3_n fun q => h q.1
theorem up2_o {α : Type} {f : Nat → Nat → α} {a b x : Nat} {v : α} (h : x ≠ a) : up2 f a b v x = f x := by
  funext y
  exact up2_n fun q => h q.1
theorem msk_ne {K K' : Nat} (h : msk K = true) (h' : jk K' = true) : K' ≠ K := by
  intro e
  subst e
  simp only [jk, msk, Bool.or_eq_true, decide_eq_true_eq, beq_iff_eq] at h h'
  omega
theorem WF.wM {C : St} {v : Vw} (h : WF C v) {K i j : Nat} {x : Int32} (hK : msk K = true) : WF (wM C K i j x) (uM v K i j x) := by
  obtain ⟨h1, h2, h3, h4⟩ := h
  refine ⟨fun K' m => ?_, h2, h3, h4.same (fun K' m => ⟨up3_o (msk_ne hK m), rfl, rfl, rfl, rfl⟩) ⟨rfl, rfl, rfl, rfl, rfl, rfl⟩⟩
  obtain ⟨m1, m2, m3⟩ := h1 K' m
  refine ⟨?_, m2, m3⟩
  show up3 (sM C) K i j x K' = up3 (vM v) K i j x K'
  funext a b
  unfold up3
  rw [m1]
theorem WF.wN {C : St} {v : Vw} (h : WF C v) {K i j x : Nat} (hK : msk K = true) : WF (wN C K i j x) (uN v K i j x) := by
  obtain ⟨h1, h2, h3, h4⟩ := h
  refine ⟨fun K' m => ?_, h2, h3, h4.same (fun K' m => ⟨rfl, up3_o (msk_ne hK m), rfl, rfl, rfl⟩) ⟨rfl, rfl, rfl, rfl, rfl, rfl⟩⟩
  obtain ⟨m1, m2, m3⟩ := h1 K' m
  refine ⟨m1, ?_, m3⟩
  show up3 (sN C) K i j x K' = up3 (vN v) K i j x K'
  funext a b
  unfold up3
  rw [m2]
theorem msk_vis {K : Nat} (h : msk K = true) : vis K = true := by unfold vis; rw [h]; rfl
theorem WF.mk {C : St} {v : Vw} (h : WF C v) {K n : Nat} (hK : msk K = true) (hb : n + 1 ≤ vb v) : WF (mk C K n) (uK v K n) ∧ sK C K = vK v K ∧ 1 ≤ sC C ∧ n ≤ sS C := by
  obtain ⟨h1, h2, ⟨h3, h5⟩, h4⟩ := h
  have hk := h2 K (msk_vis hK)
  refine ⟨⟨fun K' m => ?_, fun K' m => ?_, ⟨?_, ?_⟩, h4.same (fun K' m => ⟨row3_o (msk_ne hK m), row3_o (msk_ne hK m), row3_o (msk_ne hK m), up2_o (msk_ne hK m), up1_n (msk_ne hK m)⟩) ⟨rfl, rfl, rfl, rfl, rfl, rfl⟩⟩, hk, by omega, by omega⟩
  · obtain ⟨m1, m2, m3⟩ := h1 K' m
    refine ⟨?_, ?_, ?_⟩
    · show row3 (sM C) K (sK C K) (fun _ => 0) K' = row3 (vM v) K (vK v K) (fun _ => 0) K'
      rw [hk]; funext a b; unfold row3; rw [m1]
    · show row3 (sN C) K (sK C K) (fun _ => nul) K' = row3 (vN v) K (vK v K) (fun _ => nul) K'
      rw [hk]; funext a b; unfold row3; rw [m2]
    · show up2 (sL C) K (sK C K) n K' = up2 (vL v) K (vK v K) n K'
      rw [hk]; funext a; unfold up2; rw [m3]
  · show up1 (sK C) K (sK C K + 1) K' = up1 (vK v) K (vK v K + 1) K'
    rw [hk]; unfold up1; rw [h2 K' m]
  · show vb v - (n + 1) ≤ sC C - 1
    omega
  · show vb v - (n + 1) ≤ sS C - n
    omega
theorem WF.sp {C : St} {v : Vw} (h : WF C v) (hb : 7 ≤ vb v) : WF (sp C 1 6) (ub v 7) ∧ 1 ≤ sC C ∧ 6 ≤ sS C := by
  obtain ⟨h1, h2, ⟨h3, h5⟩, h4⟩ := h
  refine ⟨⟨h1, h2, ⟨?_, ?_⟩, h4.same (fun K m => ⟨rfl, rfl, rfl, rfl, rfl⟩) ⟨rfl, rfl, rfl, rfl, rfl, rfl⟩⟩, by omega, by omega⟩
  · show vb v - 7 ≤ sC C - 1; omega
  · show vb v - 7 ≤ sS C - 6; omega
/-! programs over views -/
abbrev PV (ρ : Type) : Type := (ρ → Vw → Prop) → (String → Vw → Prop) → Vw → Prop
/-- what h does over views, f does over stores -/
def Sim {ρ : Type} (h : PV ρ) (f : PT ρ) : Prop := ∀ (P' : ρ → Vw → Prop) (X' : String → Vw → Prop) (v : Vw) (P : ρ → St → Prop) (X : String → St → Prop) (C : St), WF C v → (∀ r v' C', WF C' v' → P' r v' → P r C') → (∀ E v' C', WF C' v' → X' E v' → X E C') → h P' X' v → f P X C
def hrt {ρ : Type} (r : ρ) : PV ρ := fun P X v => P r v
def hbnd {α ρ : Type} (p : PV α) (k : α → PV ρ) : PV ρ := fun P X v => p (fun r v' => k r P X v') X v
def hbn0 {α ρ : Type} (p : PV α) (k : α → PV ρ) : PV ρ := fun P X v => p (fun r v' => k r P X v') (fun _ _ => False) v
def hgI {ρ : Type} (K i j : Nat) (k : Int32 → PV ρ) : PV ρ := fun P X v => k (vM v K i j) P X v
def hgR {ρ : Type} (K i j : Nat) (k : Nat → PV ρ) : PV ρ := fun P X v => k (vN v K i j) P X v
def hpI {ρ : Type} (K i j : Nat) (x : Int32) (k : PV ρ) : PV ρ := fun P X v => k P X (uM v K i j x)
def hpZ {ρ : Type} (K i j : Nat) (x : Int32) (k : PV ρ) : PV ρ := fun P X v => (x = 0 ∨ x = 1) ∧ k P X (uM v K i j x)
def hpR {ρ : Type} (K i j : Nat) (x : Nat) (k : PV ρ) : PV ρ := fun P X v => k P X (uN v K i j x)
def hisK {ρ : Type} (K : Nat) (r : Nat) (k : Nat → PV ρ) : PV ρ := fun P X v => ∃ i, r = idc K i ∧ k i P X v
def hcnd {ρ : Type} (c : Prop) (p q : PV ρ) : PV ρ := fun P X v => (c → p P X v) ∧ (¬ c → q P X v)
def hasr {ρ : Type} (c : Prop) (p : PV ρ) : PV ρ := fun P X v => c ∧ p P X v
def haI {ρ : Type} (K i : Nat) (x : Int32) (k : Int32 → PV ρ) : PV ρ := fun P X v => vp_in x (vL v K i) ∧ k (vM v K i x.toNatClampNeg) P X v
def haR {ρ : Type} (K i : Nat) (x : Int32) (k : Nat → PV ρ) : PV ρ := fun P X v => vp_in x (vL v K i) ∧ k (vN v K i x.toNatClampNeg) P X v
def hbI {ρ : Type} (K i : Nat) (x y : Int32) (k : PV ρ) : PV ρ := fun P X v => vp_in x (vL v K i) ∧ k P X (uM v K i x.toNatClampNeg y)
def hbZ {ρ : Type} (K i : Nat) (x y : Int32) (k : PV ρ) : PV ρ := fun P X v => (vp_in x (vL v K i) ∧ (y = 0 ∨ y = 1)) ∧ k P X (uM v K i x.toNatClampNeg y)
def hbR {ρ : Type} (K i : Nat) (x : Int32) (y : Nat) (k : PV ρ) : PV ρ := fun P X v => vp_in x (vL v K i) ∧ k P X (uN v K i x.toNatClampNeg y)
def hnw {ρ : Type} (K n : Nat) (k : Nat → PV ρ) : PV ρ := fun P X v => n + 1 ≤ vb v ∧ k (vK v K) P X (uK v K n)
def hnwA {ρ : Type} (K : Nat) (x : Int32) (k : Nat → PV ρ) : PV ρ := fun P X v => (¬ x < 0 ∧ x.toNatClampNeg ≤ 60000000 ∧ x.toNatClampNeg + 1 ≤ vb v) ∧ k (vK v K) P X (uK v K x.toNatClampNeg)
def hthr {ρ : Type} (E : String) : PV ρ := fun _ X v => 7 ≤ vb v ∧ X E (ub v 7)
def hlpN {σ ρ : Type} (F : (σ → PV ρ) → σ → PV ρ) : Nat → σ → PV ρ
  | 0 => fun _ _ _ _ => False
  | n + 1 => F (hlpN F n)
def hlp {σ ρ : Type} (F : (σ → PV ρ) → σ → PV ρ) (s : σ) : PV ρ := fun P X v => ∃ n, hlpN F n s P X v
def hstk {ρ : Type} : PV ρ := fun _ _ _ => False
def hjo {σ ρ : Type} (rest : σ → PV ρ) (body : (σ → PV ρ) → PV ρ) : PV ρ := body rest
def htryE {α ρ : Type} (f : PV α) (kk : α → PV ρ) (h : String → PV ρ) : PV ρ := fun P X v => f (fun r v' => kk r P X v') (fun E v' => h E P X v') v
def hhsel {ρ : Type} : List (String × PV ρ) → String → PV ρ
  | [] => fun _ => hstk
  | (n, p) :: t => fun E => hcnd (E = n) p (hhsel t E)
section SIM
variable {ρ α σ : Type}
theorem s_rt (r : ρ) : Sim (hrt r) (rt r) := fun _ _ _ _ _ _ w hP _ h => hP _ _ _ w h
theorem s_bnd {p : PV α} {p' : PT α} {k : α → PV ρ} {k' : α → PT ρ} (h1 : Sim p p') (h2 : ∀ r, Sim (k r) (k' r)) : Sim (hbnd p k) (bnd p' k') := fun P' X' _ P X _ w hP hX h =>
  h1 (fun r v' => k r P' X' v') X' _ (fun r C' => k' r P X C') X _ w (fun r v' C' w' h' => h2 r P' X' v' P X C' w' hP hX h') hX h
theorem s_bn0 {p : PV α} {p' : PT α} {k : α → PV ρ} {k' : α → PT ρ} (h1 : Sim p p') (h2 : ∀ r, Sim (k r) (k' r)) : Sim (hbn0 p k) (bn0 p' k') := fun P' X' _ P X _ w hP hX h =>
  h1 (fun r v' => k r P' X' v') (fun _ _ => False) _ (fun r C' => k' r P X C') (fun _ _ => False) _ w (fun r v' C' w' h' => h2 r P' X' v' P X C' w' hP hX h') (fun _ _ _ _ f => f) h
theorem s_gI {K i j : Nat} {k : Int32 → PV ρ} {k' : Int32 → PT ρ} (hK : msk K = true) (h2 : ∀ r, Sim (k r) (k' r)) : Sim (hgI K i j k) (gI K i j k') := fun P' X' v P X C w hP hX h => by
  have e : sM C K i j = vM v K i j := by rw [(w.1 K hK).1]
  show k' (sM C K i j) P X C
  rw [e]
  exact h2 _ P' X' v P X C w hP hX h
theorem s_gR {K i j : Nat} {k : Nat → PV ρ} {k' : Nat → PT ρ} (hK : msk K = true) (h2 : ∀ r, Sim (k r) (k' r)) : Sim (hgR K i j k) (gR K i j k') := fun P' X' v P X C w hP hX h => by
  have e : sN C K i j = vN v K i j := by rw [(w.1 K hK).2.1]
  show k' (sN C K i j) P X C
  rw [e]
  exact h2 _ P' X' v P X C w hP hX h
theorem s_pI {K i j : Nat} {x : Int32} {k : PV ρ} {k' : PT ρ} (hK : msk K = true) (h2 : Sim k k') : Sim (hpI K i j x k) (pI K i j x k') := fun P' X' v P X C w hP hX h => h2 P' X' _ P X _ (w.wM hK) hP hX h
theorem s_pZ {K i j : Nat} {x : Int32} {k : PV ρ} {k' : PT ρ} (hK : msk K = true) (h2 : Sim k k') : Sim (hpZ K i j x k) (pZ K i j x k') := fun P' X' v P X C w hP hX h => ⟨h.1, h2 P' X' _ P X _ (w.wM hK) hP hX h.2⟩
theorem s_pR {K i j x : Nat} {k : PV ρ} {k' : PT ρ} (hK : msk K = true) (h2 : Sim k k') : Sim (hpR K i j x k) (pR K i j x k') := fun P' X' v P X C w hP hX h => h2 P' X' _ P X _ (w.wN hK) hP hX h
theorem s_isK {K r : Nat} {k : Nat → PV ρ} {k' : Nat → PT ρ} (h2 : ∀ i, Sim (k i) (k' i)) : Sim (hisK K r k) (isK K r k') := fun P' X' v P X C w hP hX ⟨i, e, h⟩ => ⟨i, e, h2 i P' X' v P X C w hP hX h⟩
theorem s_cnd {c : Prop} {p q : PV ρ} {p' q' : PT ρ} (h1 : Sim p p') (h2 : Sim q q') : Sim (hcnd c p q) (cnd c p' q') := fun P' X' v P X C w hP hX h => ⟨fun z => h1 P' X' v P X C w hP hX (h.1 z), fun z => h2 P' X' v P X C w hP hX (h.2 z)⟩
theorem s_asr {c : Prop} {p : PV ρ} {p' : PT ρ} (h1 : Sim p p') : Sim (hasr c p) (asr c p') := fun P' X' v P X C w hP hX h => ⟨h.1, h1 P' X' v P X C w hP hX h.2⟩
theorem s_aI {K i : Nat} {x : Int32} {k : Int32 → PV ρ} {k' : Int32 → PT ρ} (hK : msk K = true) (h2 : ∀ r, Sim (k r) (k' r)) : Sim (haI K i x k) (aI K i x k') := fun P' X' v P X C w hP hX h => by
  show vp_in x (sL C K i) ∧ k' (sM C K i x.toNatClampNeg) P X C
  rw [(w.1 K hK).2.2, (w.1 K hK).1]
  exact ⟨h.1, h2 _ P' X' v P X C w hP hX h.2⟩
theorem s_aR {K i : Nat} {x : Int32} {k : Nat → PV ρ} {k' : Nat → PT ρ} (hK : msk K = true) (h2 : ∀ r, Sim (k r) (k' r)) : Sim (haR K i x k) (aR K i x k') := fun P' X' v P X C w hP hX h => by
  show vp_in x (sL C K i) ∧ k' (sN C K i x.toNatClampNeg) P X C
  rw [(w.1 K hK).2.2, (w.1 K hK).2.1]
  exact ⟨h.1, h2 _ P' X' v P X C w hP hX h.2⟩
theorem s_bI {K i : Nat} {x y : Int32} {k : PV ρ} {k' : PT ρ} (hK : msk K = true) (h2 : Sim k k') : Sim (hbI K i x y k) (bI K i x y k') := fun P' X' v P X C w hP hX h => by
  show vp_in x (sL C K i) ∧ _
  rw [(w.1 K hK).2.2]
  exact ⟨h.1, h2 P' X' _ P X _ (w.wM hK) hP hX h.2⟩
theorem s_bZ {K i : Nat} {x y : Int32} {k : PV ρ} {k' : PT ρ} (hK : msk K = true) (h2 : Sim k k') : Sim (hbZ K i x y k) (bZ K i x y k') := fun P' X' v P X C w hP hX h => by
  show (vp_in x (sL C K i) ∧ _) ∧ _
  rw [(w.1 K hK).2.2]
  exact ⟨h.1, h2 P' X' _ P X _ (w.wM hK) hP hX h.2⟩
theorem s_bR {K i : Nat} {x : Int32} {y : Nat} {k : PV ρ} {k' : PT ρ} (hK : msk K = true) (h2 : Sim k k') : Sim (hbR K i x y k) (bR K i x y k') := fun P' X' v P X C w hP hX h => by
  show vp_in x (sL C K i) ∧ _
  rw [(w.1 K hK).2.2]
  exact ⟨h.1, h2 P' X' _ P X _ (w.wN hK) hP hX h.2⟩
theorem s_nw {K n : Nat} {k : Nat → PV ρ} {k' : Nat → PT ρ} (hK : msk K = true) (h2 : ∀ i, Sim (k i) (k' i)) : Sim (hnw K n k) (nw K n k') := fun P' X' v P X C w hP hX h => by
  obtain ⟨w', e, c1, c2⟩ := w.mk hK h.1
  show (1 ≤ sC C ∧ n ≤ sS C) ∧ k' (sK C K) P X (mk C K n)
  rw [e]
  exact ⟨⟨c1, c2⟩, h2 _ P' X' _ P X _ w' hP hX h.2⟩
theorem s_nwA {K : Nat} {x : Int32} {k : Nat → PV ρ} {k' : Nat → PT ρ} (hK : msk K = true) (h2 : ∀ i, Sim (k i) (k' i)) : Sim (hnwA K x k) (nwA K x k') := fun P' X' v P X C w hP hX h => by
  obtain ⟨w', e, c1, c2⟩ := w.mk hK h.1.2.2
  show (¬ x < 0 ∧ x.toNatClampNeg ≤ 60000000 ∧ 1 ≤ sC C ∧ x.toNatClampNeg ≤ sS C) ∧ k' (sK C K) P X (mk C K x.toNatClampNeg)
  rw [e]
  exact ⟨⟨h.1.1, h.1.2.1, c1, c2⟩, h2 _ P' X' _ P X _ w' hP hX h.2⟩
theorem s_thr {E : String} : Sim (ρ := ρ) (hthr E) (thr E) := fun P' X' v P X C w hP hX h => by
  obtain ⟨w', c1, c2⟩ := w.sp h.1
  exact ⟨⟨c1, c2⟩, hX _ _ _ w' h.2⟩
theorem s_stk : Sim (ρ := ρ) hstk stk := fun _ _ _ _ _ _ _ _ _ h => h
theorem s_jo {rest : σ → PV ρ} {rest' : σ → PT ρ} {body : (σ → PV ρ) → PV ρ} {body' : (σ → PT ρ) → PT ρ} (h1 : ∀ u, Sim (rest u) (rest' u)) (h2 : ∀ (j : σ → PV ρ) (j' : σ → PT ρ), (∀ u, Sim (j u) (j' u)) → Sim (body j) (body' j')) : Sim (hjo rest body) (jo rest' body') := h2 rest rest' h1
theorem s_lp {F : (σ → PV ρ) → σ → PV ρ} {F' : (σ → PT ρ) → σ → PT ρ} (h2 : ∀ (r : σ → PV ρ) (r' : σ → PT ρ), (∀ u, Sim (r u) (r' u)) → ∀ u, Sim (F r u) (F' r' u)) (u : σ) : Sim (hlp F u) (lp F' u) := by
  have key : ∀ n u, Sim (hlpN F n u) (lpN F' n u) := by
    intro n
    induction n with
    | zero => exact fun u _ _ _ _ _ _ _ _ _ h => h
    | succ n ih => exact fun u => h2 _ _ ih u
  intro P' X' v P X C w hP hX ⟨n, h⟩
  exact ⟨n, key n u P' X' v P X C w hP hX h⟩
theorem s_tryE {f : PV α} {f' : PT α} {k : α → PV ρ} {k' : α → PT ρ} {h : String → PV ρ} {h' : String → PT ρ} (h1 : Sim f f') (h2 : ∀ r, Sim (k r) (k' r)) (h3 : ∀ E, Sim (h E) (h' E)) : Sim (htryE f k h) (tryE f' k' h') := fun P' X' _ P X _ w hP hX hh =>
  h1 (fun r v' => k r P' X' v') (fun E v' => h E P' X' v') _ (fun r C' => k' r P X C') (fun E C' => h' E P X C') _ w (fun r v' C' w' z => h2 r P' X' v' P X C' w' hP hX z) (fun E v' C' w' z => h3 E P' X' v' P X C' w' hP hX z) hh
theorem s_hsel0 (E : String) : Sim (ρ := ρ) (hhsel [] E) (hsel [] E) := s_stk
theorem s_hsel1 {n : String} {p : PV ρ} {p' : PT ρ} {t : List (String × PV ρ)} {t' : List (String × PT ρ)} (E : String) (h1 : Sim p p') (h2 : Sim (hhsel t E) (hsel t' E)) : Sim (hhsel ((n, p) :: t) E) (hsel ((n, p') :: t') E) := s_cnd h1 h2
theorem s_un2 {β : Type} {k : α → β → PV ρ} {k' : α → β → PT ρ} (h : ∀ a b, Sim (k a b) (k' a b)) (u : α × β) : Sim (un2 k u) (un2 k' u) := h u.1 u.2
theorem s_un3 {β γ : Type} {k : α → β → γ → PV ρ} {k' : α → β → γ → PT ρ} (h : ∀ a b c, Sim (k a b c) (k' a b c)) (u : α × β × γ) : Sim (un3 k u) (un3 k' u) := h u.1 u.2.1 u.2.2
theorem s_un4 {β γ δ : Type} {k : α → β → γ → δ → PV ρ} {k' : α → β → γ → δ → PT ρ} (h : ∀ a b c d, Sim (k a b c d) (k' a b c d)) (u : α × β × γ × δ) : Sim (un4 k u) (un4 k' u) := h u.1 u.2.1 u.2.2.1 u.2.2.2
theorem s_un5 {β γ δ ε : Type} {k : α → β → γ → δ → ε → PV ρ} {k' : α → β → γ → δ → ε → PT ρ} (h : ∀ a b c d e, Sim (k a b c d e) (k' a b c d e)) (u : α × β × γ × δ × ε) : Sim (un5 k u) (un5 k' u) := h u.1 u.2.1 u.2.2.1 u.2.2.2.1 u.2.2.2.2
end SIM
