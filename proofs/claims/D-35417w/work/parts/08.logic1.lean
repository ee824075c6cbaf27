/-! ===== the store's meaning over the machine's heap ===== -/
abbrev GP : Type := va_G × (Nat → ClassId) × Nat × Nat × Nat × (Nat → Nat) × (Nat → Int32) × Nat
abbrev gD (g : GP) : va_G := g.1
abbrev gA (g : GP) : Nat → ClassId := g.2.1
abbrev gz (g : GP) : Nat := g.2.2.1
abbrev gc (g : GP) : Nat := g.2.2.2.1
abbrev gs (g : GP) : Nat := g.2.2.2.2.1
abbrev gr (g : GP) : Nat → Nat := g.2.2.2.2.2.1
abbrev gx (g : GP) : Nat → Int32 := g.2.2.2.2.2.2.1
abbrev gn (g : GP) : Nat := g.2.2.2.2.2.2.2
/-- a value of the store as the machine has it -/
def dv (A : Nat → Nat) (v : Value) : Value := match v with
  | .ref n => if n = 62 then .null else .ref (A n)
  | v => v
theorem dv_i {A : Nat → Nat} (x : Int32) : dv A (.int x) = .int x := rfl
theorem dv_l {A : Nat → Nat} (x : Int64) : dv A (.long x) = .long x := rfl
theorem dv_r {A : Nat → Nat} {n : Nat} (h : n ≠ 62) : dv A (.ref n) = .ref (A n) := by simp [dv, h]
theorem dv_n {A : Nat → Nat} : dv A (.ref nul) = .null := rfl
theorem dv_cat {A : Nat → Nat} (v : Value) : (dv A v).category = v.category := by
  cases v with
  | ref n =>
    by_cases h : n = 62
    · subst h; rfl
    · rw [dv_r h]; rfl
  | _ => rfl
/-- a number of a thing that is -/
def inN (C : St) (n : Nat) : Prop := n / 64 < sK C (n % 64)
def okN (C : St) (n : Nat) : Prop := n = 62 ∨ inN C n
def okV (C : St) (v : Value) : Prop := ∀ n, v = .ref n → okN C n
theorem okV_i {C : St} (x : Int32) : okV C (.int x) := fun n h => by cases h
theorem okV_l {C : St} (x : Int64) : okV C (.long x) := fun n h => by cases h
theorem okV_r {C : St} {n : Nat} (h : okN C n) : okV C (.ref n) := fun m e => by cases e; exact h
theorem okV_u {C : St} {n : Nat} (h : okV C (.ref n)) : okN C n := h n rfl
theorem idc_mod {K i : Nat} (hK : K < 64) : idc K i % 64 = K := by unfold idc; omega
theorem idc_div {K i : Nat} (hK : K < 64) : idc K i / 64 = i := by unfold idc; omega
theorem idc_of (n : Nat) : idc (n % 64) (n / 64) = n := by unfold idc; omega
theorem inN_idc {C : St} {K i : Nat} (hK : K < 64) : inN C (idc K i) ↔ i < sK C K := by unfold inN; rw [idc_mod hK, idc_div hK]
theorem idc_nn {K i : Nat} (hK : K < 62) : idc K i ≠ 62 := by unfold idc; omega
theorem okN_idc {C : St} {K i : Nat} (hK : K < 62) : okN C (idc K i) ↔ i < sK C K := ⟨fun h => h.elim (fun e => absurd e (idc_nn hK)) (fun h => (inN_idc (by omega)).mp h), fun h => Or.inr ((inN_idc (by omega)).mpr h)⟩
theorem dv_k {A : Nat → Nat} {K i : Nat} (hK : K < 62) : dv A (.ref (idc K i)) = .ref (A (idc K i)) := dv_r (idc_nn hK)
theorem idc_inj {K i K' i' : Nat} (hK : K < 64) (hK' : K' < 64) (h : idc K i = idc K' i') : K = K' ∧ i = i' := by unfold idc at h; omega
/-- what a slot of a kind holds: 0 an int, 1 a reference, 2 a long -/
def kts : List (List Nat) := [
  [1,1,1,1,1,1,1,1,1,1,1,1,1,1,1,0,0,1,1,0,0,0,0],
  [1],
  [0,1,1,0,0,0,1,1,1,1,1],
  [0,1,0,1,1,0,1],
  [0,1,1,1,1,1,1,1,1,0,1,1,1,1,1,1,1,1,1,0,1,1,1,1,1,1,1,1,1,1,0,1,1,1,1,1,1,1,1,0,1,1,1,1,1,1,0,1,1,1,1,1,0,1,1,1,1,1,1,1,0,0,0,0,1,1,1,1,1,1,0,1,1,1,1,1,1,0,1,1,1,0,0],
  [0,0,0],
  [0,0,0,0,0],
  [1,0,0,1,1,0,0,0,1,0,0,1],
  [0,1,1,0,0,0,1,0,1],
  [1,0,0,0,0,1],
  [0,1,0,0,0,0,0,0,1,0,1],
  [1,0,0,0,0,0,0],
  [1,0,0,1,0,1],
  [0,1,0],
  [1,0,0],
  [0,0,1,1],
  [1,1,1],
  [1,0,0],
  [1,1],
  [1,1,0,0,1],
  [0]]
def kt (K j : Nat) : Nat := if K < 32 then (kts.getD K []).getD j 0 else if K < 34 then 0 else if K = 34 then 2 else 1
def sv (A : Nat → Nat) (C : St) (K i j : Nat) : Value := match kt K j with
  | 0 => .int (sM C K i j)
  | 1 => dv A (.ref (sN C K i j))
  | _ => .long (sG C K i j)
theorem sv_i {A : Nat → Nat} {C : St} {K i j : Nat} (h : kt K j = 0) : sv A C K i j = .int (sM C K i j) := by simp only [sv, h]
theorem sv_q {A : Nat → Nat} {C : St} {K i j : Nat} (h : kt K j = 1) : sv A C K i j = dv A (.ref (sN C K i j)) := by simp only [sv, h]
theorem sv_l {A : Nat → Nat} {C : St} {K i j : Nat} (h : kt K j = 2) : sv A C K i j = .long (sG C K i j) := by simp only [sv, h]
abbrev vwCl : List vw_C := [(RX1, TX1, 23), (RX2, TX2, 1), (RX3, TX3, 11), (RX4, TX4, 7), (RX5, TX5, 83), (RX6, TX6, 3), (RX7, TX7, 5), (RX8, TX8, 12), (RX9, TX9, 9), (RX10, TX10, 6), (RX11, TX11, 11), (RX12, TX12, 7), (RX13, TX13, 6), (RJ2, TJ2, 3), (RJ18, TJ18, 3), (RJ20, TJ20, 4), (RJ23, TJ23, 3), (RJ27, TJ27, 3), (RJ28, TJ28, 2), (RJ29, TJ29, 5), (RJ17, TJ17, 1)]
/-- a kind's class: its name, its fields' table, how many -/
abbrev kC (K : Nat) : vw_C := vwCl.getD K (RX1, TX1, 0)
/-- an array kind's element type -/
def aty (K : Nat) : FieldType := match K with
  | 32 => .int
  | 33 => .boolean
  | 34 => .long
  | 35 => .object "java/lang/Object"
  | 36 => .object "KeyringCourt$Person"
  | _ => .object "KeyringCourt$Service"
def OBz (o : Nat) (cC : ClassId) (N : Nat) (iS : Nat → Nat) (H : Heap) (V : Nat → Value) (n : Nat) : Prop := t_OB o cC N iS H V ∧ ∀ ce : Cell, H[o]? = some ce → ce.slots.size = n
theorem OBz.kept {o : Nat} {cC : ClassId} {N : Nat} {iS : Nat → Nat} {H H1 : Heap} {V : Nat → Value} {n : Nat} (h : OBz o cC N iS H V n) (h1 : H1[o]? = H[o]?) : OBz o cC N iS H1 V n := ⟨h.1.kept h1, fun ce q => h.2 ce (by rw [← h1]; exact q)⟩
def rep (g : GP) (A : Nat → Nat) (C : St) (H : Heap) (K i : Nat) : Prop :=
  (K < 21 → OBz (A (idc K i)) ((gD g).1 K) (kC K).2.2 ((gD g).2 K) H (sv A C K i) (sL C K i)) ∧
  (32 ≤ K → H[A (idc K i)]? = some (arrV (gA g K) (sL C K i) (sv A C K i)) ∧ sL C K i < 2 ^ 31)
/-- the slots of all cells -/
def tot (H : Heap) : Nat := (H.toList.map (fun c => c.slots.size)).sum
def Den (g : GP) (A : Nat → Nat) (C : St) (H : Heap) : Prop :=
  (∀ K i, K < 38 → i < sK C K → rep g A C H K i ∧ gz g ≤ A (idc K i) ∧ A (idc K i) < H.size) ∧
  (∀ K i K' i', K < 38 → K' < 38 → i < sK C K → i' < sK C K' → A (idc K i) = A (idc K' i') → idc K i = idc K' i') ∧
  (∀ K i j, i < sK C K → okN C (sN C K i j)) ∧
  ((∀ n, 48 ≤ n % 64 → A n = gr g n) ∧ ∀ K, 48 ≤ K → K < 62 → 256 ≤ sK C K) ∧
  (H.size + sC C ≤ gc g ∧ tot H + sS C ≤ gs g) ∧ gz g ≤ H.size
def Ext (C C' : St) (A A' : Nat → Nat) : Prop := (∀ K, sK C K ≤ sK C' K) ∧ ∀ n, inN C n → A' n = A n
theorem Ext.rf {C : St} {A : Nat → Nat} : Ext C C A A := ⟨fun _ => Nat.le_refl _, fun _ _ => rfl⟩
theorem inN.ext {C C' : St} {A A' : Nat → Nat} (h : Ext C C' A A') {n : Nat} (o : inN C n) : inN C' n := Nat.lt_of_lt_of_le o (h.1 _)
theorem okN.ext {C C' : St} {A A' : Nat → Nat} (h : Ext C C' A A') {n : Nat} (o : okN C n) : okN C' n := o.elim Or.inl (fun o => Or.inr (o.ext h))
theorem okV.ext {C C' : St} {A A' : Nat → Nat} (h : Ext C C' A A') {v : Value} (o : okV C v) : okV C' v := fun n e => (o n e).ext h
theorem dv_ext {C C' : St} {A A' : Nat → Nat} (h : Ext C C' A A') {v : Value} (o : okV C v) : dv A' v = dv A v := by
  cases v with
  | ref n =>
    by_cases e : n = 62
    · subst e; rfl
    · rw [dv_r e, dv_r e, h.2 n ((o n rfl).resolve_left e)]
  | _ => rfl
theorem Ext.tr {C C' C'' : St} {A A' A'' : Nat → Nat} (h : Ext C C' A A') (h' : Ext C' C'' A' A'') : Ext C C'' A A'' :=
  ⟨fun K => Nat.le_trans (h.1 K) (h'.1 K), fun n o => (h'.2 n (o.ext h)).trans (h.2 n o)⟩
theorem dvs_ext {C C' : St} {A A' : Nat → Nat} (h : Ext C C' A A') {l : List Value} (o : ∀ v ∈ l, okV C v) : l.map (dv A') = l.map (dv A) :=
  List.map_congr_left fun v hv => dv_ext h (o v hv)
theorem dvl_ext {C C' : St} {A A' : Nat → Nat} (h : Ext C C' A A') {l : List (Nat × Value)} (o : ∀ q ∈ l, okV C q.2) : l.map (fun q => (q.1, dv A' q.2)) = l.map (fun q => (q.1, dv A q.2)) :=
  List.map_congr_left fun q hq => by rw [dv_ext h (o q hq)]
/-! room by what the heap is -/
theorem tot_push (H : Heap) (c : Cell) : tot (H.push c) = tot H + c.slots.size := by
  simp [tot]
theorem sum_congr : ∀ (l l' : List Nat), (∀ i : Nat, l'[i]? = l[i]?) → l'.sum = l.sum := by
  intro l l' h
  have : l' = l := List.ext_getElem? h
  rw [this]
theorem tot_eq {H H' : Heap} (hz : H'.size = H.size) (h : ∀ q : Nat, (H'[q]?).map (fun c => c.slots.size) = (H[q]?).map (fun c => c.slots.size)) : tot H' = tot H := by
  unfold tot
  refine sum_congr _ _ fun i => ?_
  rw [List.getElem?_map, List.getElem?_map, Array.getElem?_toList, Array.getElem?_toList]
  exact h i
theorem tot_set {H H' : Heap} {a : Nat} {c c' : Cell} (hz : H'.size = H.size) (hc : H[a]? = some c) (hc' : H'[a]? = some c') (hs : c'.slots.size = c.slots.size) (ho : ∀ q : Nat, q ≠ a → H'[q]? = H[q]?) : tot H' = tot H := by
  refine tot_eq hz fun q => ?_
  by_cases e : q = a
  · subst e
    rw [hc, hc']
    simp [hs]
  · rw [ho q e]
theorem setSlot_size (c : Cell) (k : Nat) (v : Value) : (c.setSlot k v).slots.size = c.slots.size := by
  simp [Cell.setSlot]
theorem stand_tight {p : Program} {l : Launch} {e : Env} {R : Room} {s : State} {m : MethodId} {args : Array Value} {below : List Frame} {meth : Method} {c : Code} {T : State} {locs : List Loc} {cells slots : Nat} (X : Stand p l e R s m args below meth c T locs cells slots) :
    Stand p l e R s m args below meth c T locs (T.heap.size - s.heap.size) (tot T.heap - tot s.heap) ∧ tot s.heap ≤ tot T.heap ∧ s.heap.size ≤ T.heap.size := by
  have hh : (T.setVm s.vm).heap = T.heap := rfl
  obtain ⟨h1, h2, h3, h4, h5, h6⟩ := X.same
  rw [hh] at h2 h3 h5 h6
  have hk : ((T.heap.toList.drop s.heap.size).map (fun c => c.slots.size)).sum + tot s.heap = tot T.heap := by
    have e1 : tot T.heap = ((T.heap.toList.take s.heap.size).map (fun c => c.slots.size)).sum + ((T.heap.toList.drop s.heap.size).map (fun c => c.slots.size)).sum := by
      unfold tot
      conv => lhs; rw [← List.take_append_drop s.heap.size T.heap.toList]
      rw [List.map_append, List.sum_append]
    have e2 : ((T.heap.toList.take s.heap.size).map (fun c => c.slots.size)).sum = tot s.heap := by
      unfold tot
      refine sum_congr _ _ fun i => ?_
      rw [List.getElem?_map, List.getElem?_map, List.getElem?_take, Array.getElem?_toList, Array.getElem?_toList]
      by_cases hi : i < s.heap.size
      · rw [if_pos hi]
        have hg : s.heap[i]? = some s.heap[i] := Array.getElem?_eq_getElem hi
        obtain ⟨c', q1, -, q3, -⟩ := h6 i _ hg
        rw [q1, hg]
        simp [q3]
      · rw [if_neg hi]
        have : s.heap[i]? = none := Array.getElem?_eq_none (by omega)
        rw [this]
    omega
  refine ⟨{ X with same := ⟨h1, h2, ?_, h4, ?_, h6⟩ }, by omega, h2⟩
  · rw [hh]; omega
  · rw [hh]; omega
