/-! ===== the rules: clones ===== -/
section R11
variable {g : GP} {Γ : Cx} {M : Mx} {ρ α : Type} {Z : Zx ρ} {L L' : List (Nat × Value)} {st : List Value} {τ : Type} {Po : τ → St → Prop} {pr pr2 : PT τ}
def clC (C : St) (K i : Nat) : St := rG (rN (rM (mk C K (sL C K i)) K (sK C K) (sM C K i)) K (sK C K) (sN C K i)) K (sK C K) (sG C K i)
theorem cl_more {C : St} {K i : Nat} : More C (clC C K i) K := ⟨rfl, fun K' i' h => by
  refine ⟨?_, ?_, ?_, ?_⟩
  · show row3 (row3 (sM C) K (sK C K) _) K (sK C K) _ K' i' = _
    rw [row3_n h, row3_n h]
  · show row3 (row3 (sN C) K (sK C K) _) K (sK C K) _ K' i' = _
    rw [row3_n h, row3_n h]
  · show row3 (row3 (sG C) K (sK C K) _) K (sK C K) _ K' i' = _
    rw [row3_n h, row3_n h]
  · show up2 (sL C) K (sK C K) _ K' i' = _
    rw [up2_n h]⟩
theorem cl_M {C : St} {K i j : Nat} : sM (clC C K i) K (sK C K) j = sM C K i j := by
  show row3 (sM (mk C K (sL C K i))) K (sK C K) (sM C K i) K (sK C K) j = _
  rw [row3_s]
theorem cl_N {C : St} {K i j : Nat} : sN (clC C K i) K (sK C K) j = sN C K i j := by
  show row3 (sN (mk C K (sL C K i))) K (sK C K) (sN C K i) K (sK C K) j = _
  rw [row3_s]
theorem cl_G {C : St} {K i j : Nat} : sG (clC C K i) K (sK C K) j = sG C K i j := by
  show row3 (sG (mk C K (sL C K i))) K (sK C K) (sG C K i) K (sK C K) j = _
  rw [row3_s]
theorem cl_L {C : St} {K i : Nat} : sL (clC C K i) K (sK C K) = sL C K i := by
  show up2 (sL C) K (sK C K) _ K (sK C K) = _
  rw [up2_s]
theorem cl_sv {A A' : Nat → Nat} {C : St} {H : Heap} {K i j : Nat} (hD : Den g A C H) (hE : Ext C (clC C K i) A A') (hi : i < sK C K) : sv A' (clC C K i) K (sK C K) j = sv A C K i j := by
  unfold sv
  rw [cl_M, cl_N, cl_G, dv_ext hE (okV_r (hD.2.2.1 K i j hi))]
theorem x_clnA (pc : Nat) {idx K i : Nat} {ad : String} {kk : Nat → PT τ} (hK : (K = 32 ∧ ad = "[I") ∨ (K = 34 ∧ ad = "[J")) (hq : Cond.methodLink M.1 idx ⟨ad, "clone", "()Ljava/lang/Object;"⟩ ∈ lw_all) (hs : Cond.sameMethod ad "java/lang/Object" "clone" "()Ljava/lang/Object;" ∈ lw_all) (hn : Cond.native ⟨"java/lang/Object", "clone", "()Ljava/lang/Object;"⟩ ∈ lw_all) (hi' : Cond.instanceMethod ⟨"java/lang/Object", "clone", "()Ljava/lang/Object;"⟩ ∈ lw_all)
    (hse : Cond.selects ad ⟨ad, "clone", "()Ljava/lang/Object;"⟩ ⟨"java/lang/Object", "clone", "()Ljava/lang/Object;"⟩ ∈ lw_all) (hc : Cond.castable ad "java/lang/Cloneable" ∈ lw_tbl) (hdd : 1 ≤ M.2.2.2.1) (hst : (st.map fun v => v.category).sum ≤ 8) (hd : decode M.2.1 pc = .ok (.invokevirtual idx, 3)) (k1 : ∀ j : Nat, TX g Γ M Z Po (pc + 3) L (.ref (idc K j) :: st) (kk j)) : TX g Γ M Z Po pc L (.ref (idc K i) :: st) (cln K i kk) := by
  obtain ⟨p, l, e, R, s, m, args, below, meth, c, Q⟩ := Γ
  intro F A C H locs ls S hp
  obtain ⟨⟨hc1, hs1⟩, hp⟩ := hp
  have hp : kk (sK C K) Po Z.2.2.2.2 (clC C K i) := hp
  have hK38 : 32 ≤ K ∧ K < 38 := by rcases hK with h | h <;> omega
  have hi : i < sK C K := (okN_idc (by omega)).mp (okV_u (okh S.2.2.1))
  have hD := S.2.2.2.1
  have hKF : KF g s := F.2.2.2.2.2.1
  have hts := F.2.2.2.2.1
  obtain ⟨hrep, hlo, hhi⟩ := hD.1 K i (by omega) hi
  obtain ⟨ha, hlen⟩ := hrep.2 (by omega)
  obtain ⟨hAr, hRA⟩ := hKF.2.1 K (by omega) (by omega)
  obtain ⟨r1, r2, hRc, hRs⟩ := F.2.2.2.2.2.2.2.1
  have e1 : M.2.2.2.1 ≤ R.frames := r1
  have e2 : 64 * M.2.2.2.1 ≤ R.locals := r2
  have e3 : R.cells = gc g - s.heap.size := hRc
  have e4 : R.slots = gs g - tot s.heap := hRs
  obtain ⟨b1, b2⟩ := hD.2.2.2.2.1
  have hsum := hst_dv (A := A) hst
  have hnm : s.vm.findClass ad = some (gA g K) := by
    rcases hK with ⟨h1, h2⟩ | ⟨h1, h2⟩ <;> subst h1 <;> subst h2 <;> exact hRA
  obtain ⟨c0, t0', f1, f2, f3⟩ := Cond.castable_spec (va_Nw.use (A := args) rfl (hKF.2.2.1 _ hc rfl))
  cases hnm.symm.trans f1
  show WW _ H locs (F0 m pc ls (dv A (.ref (idc K i)) :: st.map (dv A)))
  rw [dv_k (by omega)]
  refine W.tight fun u1 u2 => ?_
  intro T hT X
  have hcellT : T.heap[A (idc K i)]? = some (arrV (gA g K) (sL C K i) (sv A C K i)) := by rw [hT]; exact ha
  obtain ⟨-, kA, hkA, comp, hkind⟩ := State.isArrayOf_alike X.warmed.alike (hAr (sL C K i) (sv A C K i))
  obtain ⟨-, kS, hkS, compS, hkindS⟩ := hAr (sL C K i) (sv A C K i)
  obtain ⟨vm', X', stp⟩ := X.cloneArray F.1 F.2.2.2.1 (hts _ hq) (hts _ hs) (hts _ hn) (hts _ hi') (hts _ hse) (a := A (idc K i)) (cell := arrV (gA g K) (sL C K i) (sv A C K i)) hcellT (fun k h => by cases h) (fun h => by cases h) hnm f2 f3
    (fun j v hv => by
      have hk' : T.vm.classes[gA g K]? = some kA := hkA
      have hj : j < sL C K i := by
        have := (Array.getElem?_eq_some_iff.mp hv).1
        rwa [arrV_size] at this
      rw [arrV_read _ _ hj] at hv
      have hv : sv A C K i j = v := Option.some.inj hv
      have hft : fits (aty K) v = true := by
        rw [← hv]
        rcases hK with ⟨h1, -⟩ | ⟨h1, -⟩ <;> subst h1
        · rw [sv_i (kt_32 _)]; rfl
        · rw [sv_l (kt_34 _)]; rfl
      show T.fitsSlot (gA g K) .none j v = true
      simpa [State.fitsSlot, State.slotType?, hk', hkind] using hft)
    (g := F0 m pc ls (.ref (A (idc K i)) :: st.map (dv A))) rfl (by rw [F.2.2.1]; exact S.1.1) rfl (by rw [F.2.1]; exact hd) (by omega) (by show 2 * 0 + _ + 14 ≤ _; omega) (by omega) (by rw [arrV_size]; omega) (hloader := Vm.clonesLoader_of_array hkS hkindS)
  have hcellE : ({ cls := (arrV (gA g K) (sL C K i) (sv A C K i)).cls, slots := (arrV (gA g K) (sL C K i) (sv A C K i)).slots } : Cell) = arrV (gA g K) (sL C K i) (sv A C K i) := rfl
  rw [hcellE] at X' stp
  have hmr : More C (clC C K i) K := cl_more
  have hE : Ext C (clC C K i) A (up1 A (idc K (sK C K)) H.size) := hmr.ext (by omega)
  have hD' : Den g (up1 A (idc K (sK C K)) H.size) (clC C K i) (H.push (arrV (gA g K) (sL C K i) (sv A C K i))) := by
    refine hD.more (by omega) hmr ?_ ?_ ⟨fun h => absurd h (by omega), fun _ => ⟨?_, ?_⟩⟩ (fun j => ?_)
    · show sC C - 1 + 1 ≤ sC C; omega
    · rw [arrV_size]; show sS C - sL C K i + sL C K i ≤ sS C; omega
    · rw [up1_s, Array.getElem?_push_size, cl_L]
      congr 2
      funext j
      exact (cl_sv hD hE hi).symm
    · rw [cl_L]; exact hlen
    · rw [cl_N]; exact hmr.oN (hD.2.2.1 K i j hi)
  have K1 := k1 (sK C K) F _ (clC C K i) _ locs ls (TXs_x S hE (okc (okV_r (Or.inr (hmr.new (by omega)))) (fun v hv => (okt S.2.2.1 v hv).ext hE)) hD' (va_S_push S.2.2.2.2.1)) hp
  rw [List.map_cons, dv_k (by omega), up1_s, dvs_ext hE (okt S.2.2.1)] at K1
  obtain ⟨t, a1, b1⟩ := (W.tight fun _ _ => K1) ((T.setVm vm').pushCell (arrV (gA g K) (sL C K i) (sv A C K i))) (by rw [← hT]; rfl) X'
  refine ⟨t, stp t ?_, b1⟩
  rw [hT]
  exact a1
/-- BitSet's superclasses -/
theorem bs_loader {s : State} {args : Array Value} {cB : ClassId} (hB : s.vm.findClass "java/util/BitSet" = some cB) (h1 : (Cond.superclass "java/util/BitSet" "java/lang/Object").before args s = true) (h2 : (Cond.noSuperclass "java/lang/Object").before args s = true) : s.vm.clonesLoader cB = false ∧ ∃ cO kB, s.vm.findClass "java/lang/Object" = some cO ∧ s.vm.classes[cB]? = some kB ∧ kB.super = some cO ∧ kB.isInterface = false := by
  obtain ⟨cO, kB, kO, hO, hkB, hkO, hsup, -, -, hni⟩ := Cond.superclass_spec hB h1
  obtain ⟨cO', kO', hO', hkO', hno, -, -⟩ := Cond.noSuperclass_spec h2
  cases hO.symm.trans hO'
  cases hkO.symm.trans hkO'
  obtain ⟨kB', hkB', hnB⟩ := Vm.findClass_spec hB
  cases hkB.symm.trans hkB'
  obtain ⟨kO', hkO2, hnO⟩ := Vm.findClass_spec hO
  cases hkO.symm.trans hkO2
  refine ⟨?_, cO, kB, hO, hkB, hsup, hni⟩
  have hmem : ∀ x ∈ cB :: s.vm.superclasses cB, x = cB ∨ x = cO := by
    intro x hx
    rcases List.mem_cons.mp hx with h | h
    · exact Or.inl h
    · right
      unfold Vm.superclasses at h
      rw [Vm.superclassesAux, hkB] at h
      simp only [Option.bind_some, hsup] at h
      rcases List.mem_cons.mp h with h | h
      · exact h
      · exfalso
        cases hz : s.vm.classes.size with
        | zero => rw [hz] at h; simp [Vm.superclassesAux] at h
        | succ n =>
          rw [hz, Vm.superclassesAux, hkO] at h
          simp [hno] at h
  unfold Vm.clonesLoader
  rw [Bool.and_eq_false_iff]
  right
  rw [List.any_eq_false]
  intro x hx
  rcases hmem x hx with h | h <;> subst h
  · rw [hkB]; simp [hnB]
  · rw [hkO]; simp [hnO]
end R11
section R12
variable {g : GP} {Γ : Cx} {M : Mx} {ρ α : Type} {Z : Zx ρ} {L L' : List (Nat × Value)} {st : List Value} {τ : Type} {Po : τ → St → Prop} {pr pr2 : PT τ}
def oCl : MethodName := ⟨"java/lang/Object", "clone", "()Ljava/lang/Object;"⟩
theorem st_cloneT {p : Program} {l : Launch} {e : Env} {R : Room} {s : State} {m : MethodId} {args : Array Value} {below : List Frame} {meth : Method} {c : Code} {T : State} {locs : List Loc} {cells slots : Nat} (X : Stand p l e R s m args below meth c T locs cells slots) (hexec : p.tables.exec = Jvm.exec) {own : String} {index : Nat} (hown : s.vm.findClass own = some m.cls)
    (hlink : (Cond.methodLink own index oCl).before args s = true) (hsame : (Cond.sameMethod "java/lang/Object" "java/lang/Object" "clone" "()Ljava/lang/Object;").before args s = true)
    (hnat : (Cond.native oCl).before args s = true) (hinst : (Cond.instanceMethod oCl).before args s = true)
    {dk : Class} {cn : ClassId} (hd9 : s.vm.classes[m.cls]? = some dk) (hnid : dk.isInterface = false) (hcn : s.vm.findClass "java/lang/Object" = some cn) (hsuper : dk.super = some cn)
    {a : Addr} {cell : Cell} {kC : Class} {cC : ClassId} (hcell : T.heap[a]? = some cell) (hobj : ∀ k, cell.vm ≠ .statics k) (hknown : cell.vm ≠ .unknown) (hkc : s.vm.classes[cell.cls]? = some kC)
    (hC : s.vm.findClass "java/lang/Cloneable" = some cC) (hasg : s.vm.assignable cell.cls cC = true) (hfit : ∀ i v, cell.slots[i]? = some v → T.fitsSlot cell.cls .none i v = true)
    {gF : JFrame} (hg : gF.method = m) (hsize : gF.locals.size = c.maxLocals) {rest : List Value} (hstack : gF.stack = .ref a :: rest) (hdg : decode c.code gF.pc = .ok (.invokespecial index, 3))
    (hframes : 1 ≤ R.frames) (hlocals : 2 * gF.monitorRoom + (rest.map fun v => v.category).sum + 14 ≤ R.locals) (hcells : cells + 1 ≤ R.cells) (hslots : slots + cell.slots.size ≤ R.slots)
    (hloader : s.vm.clonesLoader cell.cls = false) :
    ∃ vm', Stand p l e R s m args below meth c ((T.setVm vm').pushCell { cls := cell.cls, slots := cell.slots }) locs (cells + 1) (slots + cell.slots.size) ∧
      ∀ target, Steps p.tables e below (((T.setVm vm').pushCell { cls := cell.cls, slots := cell.slots }).setTop { gF with pc := gF.pc + 3, stack := .ref T.heap.size :: rest }) target → Steps p.tables e below (T.setTop gF) target := by
  obtain ⟨r, kO, methO, hnO, hmO, hkO, N⟩ := NativeOf.of_instance hnat hinst (ps := []) (ret := some (.object "java/lang/Object")) (by decide +kernel)
  obtain ⟨r', methO', hnO', hmO', -, habs⟩ := Cond.instanceMethod_spec hinst
  cases hnO.symm.trans hnO'
  cases hmO.symm.trans hmO'
  have hrc : r.cls = cn := Option.some.inj ((findClass_of_methodNamed hnO).symm.trans hcn)
  have hsub : s.vm.isSubclass cn r.cls = true := by
    rw [hrc]; unfold Vm.isSubclass; rw [Vm.isSubclassAux]; simp
  obtain ⟨vm', X', step⟩ := X.invokespecialUp hexec hown hlink hsame hnO hmO N.static habs (by decide) hd9 hnid hcn hsuper hsub hcell hobj hkc hg (argsL := []) (rest := rest) (by rw [N.sig]; rfl) hstack hdg
  refine ⟨vm', X'.pushed _, fun target hrest => step target ?_⟩
  subst hg
  have hA' : s.vm.Alike vm' := X'.warmed.alike
  obtain ⟨kO', N'⟩ := N.alike hA'
  obtain ⟨ck', hck', -⟩ := hA'.2.2 _ _ hkc
  obtain ⟨kC2, hkC2, -⟩ := Vm.findClass_spec hC
  obtain ⟨kC', hkC', -⟩ := hA'.2.2 _ _ hkC2
  have hroom := X.room
  simp only [State.hasRoom, Bool.and_eq_true, decide_eq_true_eq] at hroom
  have h1 := X.heapSize
  have h2 := X.used
  exact Steps.cloneOf (g := { gF with stack := rest }) (ig := .invokespecial index) (len := 3) p X'.here [] N'
    (X'.notFull (g := { gF with stack := rest }) hsize (vars := nativeFrameWords "java/lang/Object" "clone" 1) hframes (by rw [show nativeFrameWords "java/lang/Object" "clone" 1 = 3 from by decide]; exact hlocals))
    hcell hobj hknown ⟨ck', hck'⟩ (by show vm'.findClass _ = _; rw [hA'.findClass]; exact hC) ⟨kC', hkC'⟩ (by show vm'.assignable _ _ = _; rw [hA'.assignable]; exact hasg) (Launch.admits_finalization X.admits)
    (by show T.heap.size < _; omega) (by show T.slotsUsed + _ ≤ _; omega) (fun i v hv => by rw [State.fitsSlot_setVm (X.warmed.alike.symm.trans hA')]; exact hfit i v hv) hdg hrest (by show vm'.clonesLoader _ = false; rw [hA'.clonesLoader]; exact hloader)
end R12
