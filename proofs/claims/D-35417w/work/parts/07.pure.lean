/-! ===== a plain store: kinds of objects and arrays, numbered by their making; programs over it as transformers of what is wanted behind ===== -/
/-- the number that stands for null -/
abbrev nul : Nat := 62
abbrev St : Type := (Nat → Nat → Nat → Int32) × (Nat → Nat → Nat → Nat) × (Nat → Nat → Nat → Int64) × (Nat → Nat → Nat) × (Nat → Nat) × Nat × Nat
def sM (C : St) : Nat → Nat → Nat → Int32 := C.1
def sN (C : St) : Nat → Nat → Nat → Nat := C.2.1
def sG (C : St) : Nat → Nat → Nat → Int64 := C.2.2.1
def sL (C : St) : Nat → Nat → Nat := C.2.2.2.1
def sK (C : St) : Nat → Nat := C.2.2.2.2.1
def sC (C : St) : Nat := C.2.2.2.2.2.1
def sS (C : St) : Nat := C.2.2.2.2.2.2
def up3 {α : Type} (f : Nat → Nat → Nat → α) (a b c : Nat) (v : α) : Nat → Nat → Nat → α := fun x y z => if x = a ∧ y = b ∧ z = c then v else f x y z
def row3 {α : Type} (f : Nat → Nat → Nat → α) (a b : Nat) (v : Nat → α) : Nat → Nat → Nat → α := fun x y z => if x = a ∧ y = b then v z else f x y z
def up2 {α : Type} (f : Nat → Nat → α) (a b : Nat) (v : α) : Nat → Nat → α := fun x y => if x = a ∧ y = b then v else f x y
def up1 {α : Type} (f : Nat → α) (a : Nat) (v : α) : Nat → α := fun x => if x = a then v else f x
def wM (C : St) (K i j : Nat) (v : Int32) : St := (up3 (sM C) K i j v, sN C, sG C, sL C, sK C, sC C, sS C)
def wN (C : St) (K i j : Nat) (v : Nat) : St := (sM C, up3 (sN C) K i j v, sG C, sL C, sK C, sC C, sS C)
def wG (C : St) (K i j : Nat) (v : Int64) : St := (sM C, sN C, up3 (sG C) K i j v, sL C, sK C, sC C, sS C)
/-- a row anew (a copy into an array) -/
def rM (C : St) (K i : Nat) (f : Nat → Int32) : St := (row3 (sM C) K i f, sN C, sG C, sL C, sK C, sC C, sS C)
def rN (C : St) (K i : Nat) (f : Nat → Nat) : St := (sM C, row3 (sN C) K i f, sG C, sL C, sK C, sC C, sS C)
def rG (C : St) (K i : Nat) (f : Nat → Int64) : St := (sM C, sN C, row3 (sG C) K i f, sL C, sK C, sC C, sS C)
/-- room spent -/
def sp (C : St) (a b : Nat) : St := (sM C, sN C, sG C, sL C, sK C, sC C - a, sS C - b)
/-- one more of the kind K, of n slots, all 0 (null) -/
def mk (C : St) (K n : Nat) : St := (row3 (sM C) K (sK C K) (fun _ => 0), row3 (sN C) K (sK C K) (fun _ => nul), row3 (sG C) K (sK C K) (fun _ => 0), up2 (sL C) K (sK C K) n, up1 (sK C) K (sK C K + 1), sC C - 1, sS C - n)
/-- the number of a thing: kind K, the i-th -/
def idc (K i : Nat) : Nat := 64 * i + K
abbrev PT (ρ : Type) : Type := (ρ → St → Prop) → (String → St → Prop) → St → Prop
def rt {ρ : Type} (r : ρ) : PT ρ := fun P _ C => P r C
def bnd {α ρ : Type} (p : PT α) (k : α → PT ρ) : PT ρ := fun P X C => p (fun r C' => k r P X C') X C
def bn0 {α ρ : Type} (p : PT α) (k : α → PT ρ) : PT ρ := fun P X C => p (fun r C' => k r P X C') (fun _ _ => False) C
def gI {ρ : Type} (K i j : Nat) (k : Int32 → PT ρ) : PT ρ := fun P X C => k (sM C K i j) P X C
def gR {ρ : Type} (K i j : Nat) (k : Nat → PT ρ) : PT ρ := fun P X C => k (sN C K i j) P X C
def pI {ρ : Type} (K i j : Nat) (v : Int32) (k : PT ρ) : PT ρ := fun P X C => k P X (wM C K i j v)
def pZ {ρ : Type} (K i j : Nat) (v : Int32) (k : PT ρ) : PT ρ := fun P X C => (v = 0 ∨ v = 1) ∧ k P X (wM C K i j v)
def pR {ρ : Type} (K i j : Nat) (v : Nat) (k : PT ρ) : PT ρ := fun P X C => k P X (wN C K i j v)
def isK {ρ : Type} (K : Nat) (r : Nat) (k : Nat → PT ρ) : PT ρ := fun P X C => ∃ i, r = idc K i ∧ k i P X C
def cnd {ρ : Type} (c : Prop) (p q : PT ρ) : PT ρ := fun P X C => (c → p P X C) ∧ (¬ c → q P X C)
def asr {ρ : Type} (c : Prop) (p : PT ρ) : PT ρ := fun P X C => c ∧ p P X C
def aI {ρ : Type} (K i : Nat) (v : Int32) (k : Int32 → PT ρ) : PT ρ := fun P X C => vp_in v (sL C K i) ∧ k (sM C K i v.toNatClampNeg) P X C
def aR {ρ : Type} (K i : Nat) (v : Int32) (k : Nat → PT ρ) : PT ρ := fun P X C => vp_in v (sL C K i) ∧ k (sN C K i v.toNatClampNeg) P X C
def aJ {ρ : Type} (K i : Nat) (v : Int32) (k : Int64 → PT ρ) : PT ρ := fun P X C => vp_in v (sL C K i) ∧ k (sG C K i v.toNatClampNeg) P X C
def bI {ρ : Type} (K i : Nat) (v x : Int32) (k : PT ρ) : PT ρ := fun P X C => vp_in v (sL C K i) ∧ k P X (wM C K i v.toNatClampNeg x)
def bZ {ρ : Type} (K i : Nat) (v x : Int32) (k : PT ρ) : PT ρ := fun P X C => (vp_in v (sL C K i) ∧ (x = 0 ∨ x = 1)) ∧ k P X (wM C K i v.toNatClampNeg x)
def bR {ρ : Type} (K i : Nat) (v : Int32) (x : Nat) (k : PT ρ) : PT ρ := fun P X C => vp_in v (sL C K i) ∧ k P X (wN C K i v.toNatClampNeg x)
def bJ {ρ : Type} (K i : Nat) (v : Int32) (x : Int64) (k : PT ρ) : PT ρ := fun P X C => vp_in v (sL C K i) ∧ k P X (wG C K i v.toNatClampNeg x)
def aLen {ρ : Type} (K i : Nat) (k : Int32 → PT ρ) : PT ρ := fun P X C => k (nI (sL C K i)) P X C
def nw {ρ : Type} (K n : Nat) (k : Nat → PT ρ) : PT ρ := fun P X C => (1 ≤ sC C ∧ n ≤ sS C) ∧ k (sK C K) P X (mk C K n)
def nwA {ρ : Type} (K : Nat) (v : Int32) (k : Nat → PT ρ) : PT ρ := fun P X C => (¬ v < 0 ∧ v.toNatClampNeg ≤ 60000000 ∧ 1 ≤ sC C ∧ v.toNatClampNeg ≤ sS C) ∧ k (sK C K) P X (mk C K v.toNatClampNeg)
def thr {ρ : Type} (E : String) : PT ρ := fun _ X C => (1 ≤ sC C ∧ 6 ≤ sS C) ∧ X E (sp C 1 6)
/-- a copy of an array -/
def cln {ρ : Type} (K i : Nat) (k : Nat → PT ρ) : PT ρ := fun P X C => (1 ≤ sC C ∧ sL C K i ≤ sS C) ∧ k (sK C K) P X (rG (rN (rM (mk C K (sL C K i)) K (sK C K) (sM C K i)) K (sK C K) (sN C K i)) K (sK C K) (sG C K i))
def lpN {σ ρ : Type} (F : (σ → PT ρ) → σ → PT ρ) : Nat → σ → PT ρ
  | 0 => fun _ _ _ _ => False
  | n + 1 => F (lpN F n)
def lp {σ ρ : Type} (F : (σ → PT ρ) → σ → PT ρ) (s : σ) : PT ρ := fun P X C => ∃ n, lpN F n s P X C
/-- can't be come to -/
def stk {ρ : Type} : PT ρ := fun _ _ _ => False
/-- a place where roads meet -/
def jo {σ ρ : Type} (rest : σ → PT ρ) (body : (σ → PT ρ) → PT ρ) : PT ρ := body rest
