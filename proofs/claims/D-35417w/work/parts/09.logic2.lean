/-! ===== what holds of the tables and of the cells that stood before ===== -/
/-- words of the tables that the list of a method doesn't carry -/
def xw : Cond → Bool
  | .fieldLinkNest .. => true
  | .methodLinkNest .. => true
  | .castable .. => true
  | .declares .. => true
  | _ => false
def yLadd : MethodName := ⟨"java/util/List", "add", "(Ljava/lang/Object;)Z"⟩
def yLget : MethodName := ⟨"java/util/List", "get", "(I)Ljava/lang/Object;"⟩
def yLsize : MethodName := ⟨"java/util/List", "size", "()I"⟩
def yLempty : MethodName := ⟨"java/util/List", "isEmpty", "()Z"⟩
def yQadd : MethodName := ⟨"java/util/Deque", "add", "(Ljava/lang/Object;)Z"⟩
def yQpoll : MethodName := ⟨"java/util/Deque", "poll", "()Ljava/lang/Object;"⟩
def yIhas : MethodName := ⟨"java/util/Iterator", "hasNext", "()Z"⟩
def yInext : MethodName := ⟨"java/util/Iterator", "next", "()Ljava/lang/Object;"⟩
def yIrem : MethodName := ⟨"java/util/Iterator", "remove", "()V"⟩
def fwL : List (String × MethodName × MethodName) := [(RJ2, yLadd, yJ2_add), (RJ2, yLget, yJ2_get), (RJ2, yLsize, yJ2_size), (RJ2, yLempty, yJ2_isEmpty), (RJ27, yQadd, yJ27_add), (RJ27, yQpoll, yJ27_poll), (RJ28, yIhas, yJ28_hasNext), (RJ28, yInext, yJ28_next), (RJ29, yIhas, yJ29_hasNext), (RJ29, yInext, yJ29_next), (RJ29, yIrem, yJ29_remove)]
theorem fwL_ok : ∀ q ∈ fwL, q.2.1.cls ≠ "java/lang/invoke/MethodHandle" ∧ q.2.1.cls ≠ "java/lang/invoke/VarHandle" := by decide +kernel
def exL : List String := ["java/lang/IllegalArgumentException", "java/lang/IllegalStateException", "java/lang/IndexOutOfBoundsException"]
def yCempty : MethodName := ⟨"java/util/Collection", "isEmpty", "()Z"⟩
def yQempty : MethodName := ⟨"java/util/Deque", "isEmpty", "()Z"⟩
theorem va_iface {s U : State} (hal : s.vm.Alike U.vm) {ref owner name desc : String} (h : va_Nw (.interfaceMethod ref owner name desc) s) : va_Nw (.interfaceMethod ref owner name desc) U := by
  have h1 : (Cond.interfaceMethod ref owner name desc).before #[] (s.setVm U.vm) = (Cond.interfaceMethod ref owner name desc).before #[] s := by
    simp only [Cond.before, Cond.holds, Cond.value, State.vm_setVm, hal.findClass, State.methodFound?_setVm hal, State.methodNamed?_setVm hal, arm_isInterface_setVm hal]
  have h2 : (Cond.interfaceMethod ref owner name desc).before #[] U = (Cond.interfaceMethod ref owner name desc).before #[] (s.setVm U.vm) := rfl
  unfold va_Nw
  rw [h2, h1]; exact h
/-- the call of Deque.isEmpty, that Collection declares -/
def va_Ie (U : State) : Prop := va_Nw (.methodLink "KeyringCourt$Flow" 71 yQempty) U ∧ va_Nw (.interfaceMethod yQempty.cls yCempty.cls "isEmpty" "()Z") U ∧ va_Nw (.publicMethod yCempty) U ∧ va_Nw (.publicMethod yJ27_isEmpty) U ∧ va_Nw (.unhidden "java/util/ArrayDeque" "isEmpty" "()Z") U ∧ va_Nw (.declares yCempty) U
theorem va_Ie.warm {s U : State} (hW : s.WarmedH U.vm) (h : va_Ie s) : va_Ie U := by
  obtain ⟨h1, h2, h3, h4, h5, h6⟩ := h
  have hal := hW.alike
  exact ⟨va_Nw.of rfl (word_at (a' := #[]) hW (Or.inl rfl) h1), va_iface hal h2, va_tabs rfl (rfl : (s.setVm U.vm).vm = U.vm) (by rw [Cond.publicMethod_setVm hal]; exact h3), va_tabs rfl (rfl : (s.setVm U.vm).vm = U.vm) (by rw [Cond.publicMethod_setVm hal]; exact h4), va_tabs rfl (rfl : (s.setVm U.vm).vm = U.vm) (by rw [Cond.unhidden_setVm hal]; exact h5), va_Nw.warmD hW h6⟩
def KX (g : GP) (U : State) : Prop := va_Mi "[Ljava/lang/Object;" (gr g (idc 52 0)) U ∧ va_Ie U ∧ ∀ E ∈ exL, ∀ E' ∈ exL, E ≠ E' → va_Nc E E' U
theorem KX.warm {g : GP} {s U : State} (hW : s.WarmedH U.vm) (h : KX g s) : KX g U := ⟨va_Mi.moved hW.alike h.1, h.2.1.warm hW, fun E a E' b c => va_Nc.moved hW.alike (h.2.2 E a E' b c)⟩
def KF (g : GP) (U : State) : Prop :=
  va_K (gD g) vwCl [] U ∧ (∀ K, 32 ≤ K → K < 38 → ArrOfT U (gA g K) (aty K) ∧ va_RA U (gA g K) (aty K)) ∧
  (∀ w ∈ lw_tbl, xw w = true → va_Nw w U) ∧ (∀ q ∈ fwL, va_Fw q.1 q.2.1 q.2.2 U) ∧
  va_AO "java/lang/Object" U ∧ va_AO "KeyringCourt$Person" U ∧ va_AO "KeyringCourt$Service" U ∧ KX g U
theorem KF.warm {g : GP} {s U : State} (hW : s.WarmedH U.vm) (h : KF g s) : KF g U := by
  obtain ⟨h1, h2, h3, h4, h5, h6, h7, h8⟩ := h
  have hal := hW.alike
  refine ⟨va_K.moved hal h1, fun K a b => ⟨arrOfT_moved hal (h2 K a b).1, (h2 K a b).2.moved hal⟩, fun w hw hx => ?_, fun q hq => va_Fw.moved (fwL_ok q hq) hal (h4 q hq), va_AO.moved hal h5, va_AO.moved hal h6, va_AO.moved hal h7, h8.warm hW⟩
  have h := h3 w hw hx
  cases w <;> first
    | exact va_Nw.warmF hW h
    | exact va_Nw.warmM hW h
    | exact va_Nw.warmC hW h
    | exact va_Nw.warmD hW h
    | (simp [xw] at hx; done)
/-- the cells that may be written: those made since the law began -/
abbrev Af (g : GP) : Nat → Prop := fun q => gz g ≤ q
def RO (g : GP) (U : State) (H : Heap) : Prop :=
  va_Z "java/util/BitSet" "$assertionsDisabled" "Z" (.int 1) (Af g) U H ∧
  va_Z "java/lang/Integer$IntegerCache" "high" "I" (.int 127) (Af g) U H ∧
  va_Z "java/lang/Integer$IntegerCache" "cache" "[Ljava/lang/Integer;" (.ref (gr g (idc 50 0))) (Af g) U H ∧
  va_T (.object "java/lang/Integer") (gr g (idc 50 0)) 256 (fun j => .ref (gr g (idc 49 j))) (Af g) U H ∧
  vb_C (fun k => gr g (idc 49 k)) (Af g) U H ∧
  va_Z "java/util/ArrayList" "DEFAULTCAPACITY_EMPTY_ELEMENTDATA" "[Ljava/lang/Object;" (.ref (gr g (idc 48 0))) (Af g) U H ∧
  va_T (.object "java/lang/Object") (gr g (idc 48 0)) 0 (fun _ => .null) (Af g) U H ∧
  va_X (gr g (idc 51 0)) (gn g) (gx g) U H ∧
  vx_Zq Bundle.tN "UNASSIGNED_STACK" Bundle.steD (Af g) U H ∧ vx_Zq Bundle.tN "SUPPRESSED_SENTINEL" Bundle.listD (Af g) U H ∧
  gr g (idc 51 0) < H.size ∧ gr g (idc 51 0) < gz g ∧ gr g (idc 48 0) < gz g
theorem RO.moved {g : GP} {u U : State} {H : Heap} (hvm : u.vm.Alike U.vm) (h : RO g u H) : RO g U H := by
  obtain ⟨h1, h2, h3, h4, h5, h6, h7, h8, h9, h10, h11⟩ := h
  exact ⟨va_Z.moved hvm h1, va_Z.moved hvm h2, va_Z.moved hvm h3, va_T.moved hvm h4, vb_C.moved hvm h5, va_Z.moved hvm h6, va_T.moved hvm h7, va_X.moved hvm h8, vx_Zq.moved hvm h9, vx_Zq.moved hvm h10, h11⟩
theorem RO.kept {g : GP} {U : State} {H H1 : Heap} (h : RO g U H) (hz : H.size ≤ H1.size) (hq : ∀ a : Nat, a < H.size → ¬ Af g a → H1[a]? = H[a]?) : RO g U H1 := by
  obtain ⟨h1, h2, h3, h4, h5, h6, h7, h8, h9, h10, h11, h12, h13⟩ := h
  exact ⟨h1.kept hq, h2.kept hq, h3.kept hq, h4.kept hq, h5.kept hq, h6.kept hq, h7.kept hq, h8.kept (hq _ h11 (Nat.not_le.mpr h12)), h9.kept hq, h10.kept hq, Nat.lt_of_lt_of_le h11 hz, h12, h13⟩
/-! ===== a method's contract over the store; what is said at a place of its body ===== -/
abbrev Cx : Type := Program × Launch × Env × Room × State × MethodId × Array Value × List Frame × Method × Code × (State → Prop)
abbrev Zx (ρ : Type) : Type := (Nat → Nat) × St × (ρ → Option Value) × (ρ → St → Prop) × (String → St → Prop)
def okO (C : St) (v : Option Value) : Prop := ∀ x, v = some x → okV C x
def Qst (g : GP) {ρ : Type} (Z : Zx ρ) : Array Value → State → Outcome → State → Prop := fun _ st o t =>
  (∃ (r : ρ) (A' : Nat → Nat) (C' : St), o = .returned ((Z.2.2.1 r).map (dv A')) ∧ Z.2.2.2.1 r C' ∧ okO C' (Z.2.2.1 r) ∧ Ext Z.2.1 C' Z.1 A' ∧ Den g A' C' t.heap) ∧ va_F (Af g) st t
def Xst (g : GP) {ρ : Type} (Z : Zx ρ) : String → State → State → Prop := fun E st t =>
  (∃ (A' : Nat → Nat) (C' : St), Z.2.2.2.2 E C' ∧ Ext Z.2.1 C' Z.1 A' ∧ Den g A' C' t.heap) ∧ va_F (Af g) st t
def Pst (g : GP) (A : Nat → Nat) (C : St) (sz tz : Nat) (U : State) : Prop := U.heap.size = sz ∧ tot U.heap = tz ∧ Den g A C U.heap ∧ KF g U ∧ RO g U U.heap
abbrev rmd (g : GP) (d sz tz : Nat) : Room := { frames := d, cells := gc g - sz, slots := gs g - tz, locals := 64 * d }
/-- the method y, called with As where the store is C, does as the program p says (words: wsv, its own word first) -/
def ImW (g : GP) (l : Launch) (d : Nat) (y : MethodName) (wsv : List Cond) {ρ : Type} (emb : ρ → Option Value) (As : List Value) (pr : PT ρ) : Prop :=
  ∀ (A : Nat → Nat) (C : St) (Po : ρ → St → Prop) (X : String → St → Prop) (sz tz : Nat), (∀ v ∈ As, okV C v) → pr Po X C →
    vx_Met l y wsv (rmd g d sz tz) (va_Pc (As.map (dv A)) (Pst g A C sz tz)) (Qst g (A, C, emb, Po, X)) (Xst g (A, C, emb, Po, X)) (gc g - sz) (gs g - tz) (Af g)
abbrev Im (g : GP) (l : Launch) (d : Nat) (y : MethodName) (b : ByteArray) (L : Nat) (r : Option FieldType) {ρ : Type} (emb : ρ → Option Value) (As : List Value) (pr : PT ρ) : Prop := ImW g l d y (ws_ y b L r) emb As pr
def eI (r : Int32) : Option Value := some (.int r)
def eJ (r : Int64) : Option Value := some (.long r)
def eR (r : Nat) : Option Value := some (.ref r)
def eV (_ : Unit) : Option Value := none
def WW (Γ : Cx) (H : Heap) (locs : List Loc) (f : JFrame) : Prop := match Γ with
  | (p, l, e, R, s, m, args, below, meth, c, Q) => W p l e R s m args below meth c H locs (H.size - s.heap.size) (tot H - tot s.heap) Q f
/-- what holds all through the walk of a body -/
def TXok (g : GP) (Γ : Cx) (own : String) (cc : ByteArray) (nL d : Nat) (tb : List ExceptionTableEntry) (rt : Option FieldType) (nm : String) {ρ : Type} (Z : Zx ρ) : Prop := match Γ with
  | (p, l, e, R, s, m, args, below, meth, c, Q) => p.tables.exec = Jvm.exec ∧ c.code = cc ∧ c.maxLocals = nL ∧ s.vm.findClass own = some m.cls ∧ (∀ w ∈ lw_all, w.before args s = true) ∧ KF g s ∧ RO g s s.heap ∧
    (d ≤ R.frames ∧ 64 * d ≤ R.locals ∧ R.cells = gc g - s.heap.size ∧ R.slots = gs g - tot s.heap) ∧ gz g ≤ s.heap.size ∧ meth.locks = false ∧ c.exceptionTable.toList = tb ∧ l.stackTraces = false ∧ meth.sig.returnType = rt ∧ meth.name = nm ∧
    (∀ t, vx_MQ below (Qst g Z) (Xst g Z) args s (gc g - s.heap.size) (gs g - tot s.heap) (Af g) t → Q t)
abbrev cs (Γ : Cx) : State := Γ.2.2.2.2.1
abbrev cm (Γ : Cx) : MethodId := Γ.2.2.2.2.2.1
def TXs (g : GP) (Γ : Cx) {ρ : Type} (Z : Zx ρ) (nL : Nat) (L : List (Nat × Value)) (st : List Value) (A : Nat → Nat) (C : St) (H : Heap) (locs : List Loc) (ls : Array Slot) : Prop :=
  lv_has ls nL (L.map (fun q => (q.1, dv A q.2))) ∧ (∀ q ∈ L, okV C q.2) ∧ (∀ v ∈ st, okV C v) ∧ Den g A C H ∧ va_S (Af g) (cs Γ).heap H locs ∧ Ext Z.2.1 C Z.1 A
abbrev Mx : Type := String × ByteArray × Nat × Nat × List ExceptionTableEntry × Option FieldType × String
/-- at pc, with the locals L and the stack st, the rest of the body does as pr says -/
def TX (g : GP) (Γ : Cx) (M : Mx) {ρ : Type} (Z : Zx ρ) {τ : Type} (Po : τ → St → Prop) (pc : Nat) (L : List (Nat × Value)) (st : List Value) (pr : PT τ) : Prop :=
  TXok g Γ M.1 M.2.1 M.2.2.1 M.2.2.2.1 M.2.2.2.2.1 M.2.2.2.2.2.1 M.2.2.2.2.2.2 Z →
    ∀ (A : Nat → Nat) (C : St) (H : Heap) (locs : List Loc) (ls : Array Slot), TXs g Γ Z M.2.2.1 L st A C H locs ls → pr Po Z.2.2.2.2 C → WW Γ H locs (F0 (cm Γ) pc ls (st.map (dv A)))
theorem W.tight {p : Program} {l : Launch} {e : Env} {R : Room} {s : State} {m : MethodId} {args : Array Value} {below : List Frame} {meth : Method} {c : Code} {H : Heap} {locs : List Loc} {cells slots : Nat} {Q : State → Prop} {f : JFrame}
    (k : tot s.heap ≤ tot H → s.heap.size ≤ H.size → W p l e R s m args below meth c H locs (H.size - s.heap.size) (tot H - tot s.heap) Q f) : W p l e R s m args below meth c H locs cells slots Q f := by
  intro T hT X
  obtain ⟨X', h1, h2⟩ := stand_tight X
  rw [hT] at X' h1 h2
  exact k h1 h2 T hT X'
theorem met_of_vx {l : Launch} {y : MethodName} {ws : List Cond} {rm : Room} {Pc : Array Value → State → Prop} {Qc : Array Value → State → Outcome → State → Prop} {XC : String → State → State → Prop} {mc ms : Nat} {free : Addr → Prop} (h : vx_Met l y ws rm Pc Qc XC mc ms free) (hX : ∀ E st t, ¬ XC E st t) : Met l y ws rm Pc Qc mc ms free := by
  intro p e ha hc hk s m args below hf hap hP hK
  obtain ⟨n, o, h1, h2, h3, h4⟩ := h p e ha hc hk s m args below hf hap hP hK
  refine ⟨n, o, h1, h2, h3, ?_⟩
  rcases h4 with h4 | ⟨q, -, E, ce, L, hx, -⟩
  · exact h4
  · exact absurd hx (hX _ _ _)
theorem Pst_blind {g : GP} {A : Nat → Nat} {C : St} {sz tz : Nat} {av : List Value} : FrameBlind (va_Pc av (Pst g A C sz tz)) := by
  intro a U f mk q
  obtain ⟨q0, q1, q2, q3, q4, q5⟩ := q
  exact ⟨q0, q1, q2, q3, KF.warm (s := U) (U := U.calling f mk a) (State.WarmedH.refl U) q4, RO.moved (u := U) (U := U.calling f mk a) (Vm.Alike.refl U.vm) q5⟩
/-- the start of a body -/
theorem tx_start {g : GP} {l : Launch} (hl : l.stackTraces = false) (d : Nat) (y : MethodName) (b : ByteArray) (nL : Nat) (rt : Option FieldType) {ρ : Type} {emb : ρ → Option Value} {As : List Value} {pr : PT ρ} (hy : plainName y.cls = true) (hen : (lg_sl As).length ≤ nL)
    (k : ∀ (Γ : Cx) (Z : Zx ρ), Γ.2.1 = l → Z.2.2.1 = emb → TX g Γ (y.cls, b, nL, d, [], rt, y.name) Z Z.2.2.2.1 0 (lv_args 0 As) [] pr) : Im g l d y b nL rt emb As pr := by
  intro A C Po X sz tz hok hpr
  refine vx_ofW (cc := b) (maxL := nL) (ret := rt) hy rfl ?_
  intro p e s m args below meth c s₁ B hml htab hv
  obtain ⟨rfl, hsz, htz, hDen, hKF, hRO⟩ := hv
  have hts := atoms_spec (ws := ws_ y b nL rt) B.pre
  have hts : ∀ w ∈ lw_all, w.before _ s = true := fun w h => hts w (List.mem_cons_of_mem _ h)
  have hown : s.vm.findClass y.cls = some m.cls := findClass_of_methodNamed B.named
  have hnm : meth.name = y.name := (name_of_methodNamed B.named B.method).1
  have hle : ∀ vs : List Value, (lg_sl (vs.map (dv A))).length = (lg_sl vs).length := by
    intro vs
    induction vs with
    | nil => rfl
    | cons v vs ih =>
      have h1 : lg_sl (v :: vs) = (if v.category = 2 then [Slot.val v, .second] else [.val v]) ++ lg_sl vs := by simp [lg_sl]
      have h2 : lg_sl ((v :: vs).map (dv A)) = (if v.category = 2 then [Slot.val (dv A v), .second] else [.val (dv A v)]) ++ lg_sl (vs.map (dv A)) := by simp [lg_sl, dv_cat]
      rw [h1, h2, List.length_append, List.length_append, ih]
      split <;> rfl
  have hla : ∀ (vs : List Value) (i : Nat), lv_args i (vs.map (dv A)) = (lv_args i vs).map (fun q => (q.1, dv A q.2)) := by
    intro vs
    induction vs with
    | nil => intro i; rfl
    | cons v vs ih => intro i; simp only [List.map_cons, lv_args, dv_cat, ih]
  have hmem : ∀ (vs : List Value) (i : Nat), ∀ q ∈ lv_args i vs, q.2 ∈ vs := by
    intro vs
    induction vs with
    | nil => intro i q h; cases h
    | cons v vs ih =>
      intro i q h
      simp only [lv_args] at h
      rcases List.mem_cons.mp h with rfl | h
      · exact List.mem_cons_self
      · exact List.mem_cons_of_mem _ (ih _ q h)
  have hlv := lv_entry (As.map (dv A)) (n := nL) (by rw [hle]; exact hen)
  rw [lg_entry_eq]
  generalize (lg_sl (As.map (dv A)) ++ List.replicate (nL - (lg_sl (As.map (dv A))).length) Slot.unset).toArray = ls at hlv ⊢
  rw [hla] at hlv
  refine W.tight fun _ _ => ?_
  have hD : Den g A C s.heap := hDen
  refine k (p, l, e, _, s, m, (As.map (dv A)).toArray, below, meth, c, _) (A, C, emb, Po, X) rfl rfl ⟨B.exec, B.bytes, hml, hown, hts, hKF, hRO, ⟨Nat.le_refl _, Nat.le_refl _, by subst hsz; rfl, by subst htz; rfl⟩, hD.2.2.2.2.2, B.notSynchronized, ?_, hl, B.returns, hnm, ?_⟩ A C s.heap [] ls ⟨hlv, fun q hq => hok _ (hmem _ _ q hq), fun v hv => (by cases hv), hD, va_S.rf, Ext.rf⟩ hpr
  · cases hh : c.exceptionTable.toList with
    | nil => rfl
    | cons x xs => exact (htab x (by rw [hh]; exact List.mem_cons_self)).elim
  · intro t ht
    subst hsz; subst htz
    exact ht
