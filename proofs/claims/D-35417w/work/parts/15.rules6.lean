/-! ===== the rules: ends of a body ===== -/
theorem sbn_tot {s U : State} {locs : List Loc} {k n : Nat} (h : s.sameButNew U locs k n) : tot U.heap ≤ tot s.heap + n := by
  obtain ⟨h1, h2, h3, h4, h5, h6⟩ := h
  have e1 : tot U.heap = ((U.heap.toList.take s.heap.size).map (fun c => c.slots.size)).sum + ((U.heap.toList.drop s.heap.size).map (fun c => c.slots.size)).sum := by
    unfold tot
    conv => lhs; rw [← List.take_append_drop s.heap.size U.heap.toList]
    rw [List.map_append, List.sum_append]
  have e2 : ((U.heap.toList.take s.heap.size).map (fun c => c.slots.size)).sum = tot s.heap := by
    unfold tot
    refine sum_congr _ _ fun i => ?_
    rw [List.getElem?_map, List.getElem?_map, List.getElem?_take, Array.getElem?_toList, Array.getElem?_toList]
    by_cases hi : i < s.heap.size
    · rw [if_pos hi]
      have hg : s.heap[i]? = some s.heap[i] := Array.getElem?_eq_getElem hi
      obtain ⟨c', q1, -, q3, -⟩ := h6 i _ hg
      rw [q1, hg]
      simp [q3]
    · rw [if_neg hi]
      have : s.heap[i]? = none := Array.getElem?_eq_none (by omega)
      rw [this]
  omega
/-- the words of a throw, by their places -/
theorem lw_inT (ws : List Cond) (ps : List Nat) (hp : ws = ps.filterMap (fun i => lw_tbl[i]?)) : ∀ w ∈ ws, w ∈ lw_tbl := by
  intro w h
  rw [hp] at h
  obtain ⟨i, -, hi⟩ := List.mem_filterMap.mp h
  exact List.mem_of_getElem? hi
/-- own may throw a new cls, by the entries ik (its class) and ic (its constructor) -/
def TA (own : String) (ik ic : Nat) (cls : String) (names : List String) : Prop :=
  Bundle.fit cls = true ∧ (∀ n ∈ names, Bundle.fit n = true) ∧ Cond.classLink own ik cls ∈ lw_all ∧ Cond.initialized cls ∈ lw_all ∧ (∀ w ∈ vx_at0 own ic cls names, w ∈ lw_tbl ∧ (goodWord w || xw w) = true) ∧ (∀ w ∈ Cond.classLink own ik cls :: Cond.initialized cls :: vx_at0 own ic cls names, vx_ot w = true) ∧ names.length ≤ 2
section R7
variable {p : Program} {l : Launch} {e : Env} {R : Room} {s : State} {m : MethodId} {args : Array Value} {below : List Frame} {meth : Method} {c : Code} {H : Heap} {locs : List Loc} {cells slots : Nat} {free : Addr → Prop} {Qc : Array Value → State → Outcome → State → Prop} {XC : String → State → State → Prop} {ls : Array Slot} {rest : List Value}
/-- as vx_throw0, and how much was made (its proof follows the kit's) -/
theorem tx_throw0 {cc : ByteArray} {pc : Nat} (hexec : p.tables.exec = Jvm.exec) (hb : c.code = cc) (hl : l.stackTraces = false) {own cls : String} {names : List String} {ik ic mc ms : Nat} {A : Nat → Prop}
    (hown : s.vm.findClass own = some m.cls) (hcls : Bundle.fit cls = true) (hnames : ∀ n ∈ names, Bundle.fit n = true)
    (hk : (Cond.classLink own ik cls).before args s = true) (hini : (Cond.initialized cls).before args s = true) (hat : ∀ w ∈ vx_at0 own ic cls names, w.before args s = true)
    (hgood : ∀ w ∈ Cond.classLink own ik cls :: Cond.initialized cls :: vx_at0 own ic cls names, vx_ot w = true)
    (hU : vx_Zq Bundle.tN "UNASSIGNED_STACK" Bundle.steD A s s.heap) (hN : vx_Zq Bundle.tN "SUPPRESSED_SENTINEL" Bundle.listD A s s.heap) (hS : va_S A s.heap H locs) (hsize : ls.size = c.maxLocals)
    (d0 : decode cc pc = .ok (.new ik, 3)) (d3 : decode cc (pc + 3) = .ok (.dup, 1)) (d4 : decode cc (pc + 4) = .ok (.invokespecial ic, 3)) (d7 : decode cc (pc + 7) = .ok (.athrow, 1))
    (hout : ∀ x ∈ c.exceptionTable.toList, covers x (pc + 7) = false)
    (hRframes : names.length + 3 < R.frames) (hRlocals : (rest.map fun v => v.category).sum + (13 * (names.length + 1) + 42) ≤ R.locals) (hRcells : cells + 1 ≤ R.cells) (hRslots : slots + 6 ≤ R.slots) (hlocks : meth.locks = false)
    (hx : ∀ t : State, s.vm.Alike t.vm → H.size ≤ t.heap.size → (∀ q : Nat, q < H.size → t.heap[q]? = H[q]?) → t.heap.size ≤ H.size + 1 → tot t.heap ≤ tot H + 6 → XC cls s t)
    (hf : ∀ z ∈ locs, free z.base) (hc : cells + 1 ≤ mc) (hs : slots + 6 ≤ ms) :
    W p l e R s m args below meth c H locs cells slots (vx_MQ below Qc XC args s mc ms free) (F0 m pc ls rest) := by
  intro T hT X
  have htr : e.platform.stackTraces = false := (show e.platform.stackTraces = l.stackTraces by rw [X.admits.platform]).trans hl
  have Y := vx_rebase X (R' := { frames := R.frames, locals := R.locals, cells := 1, slots := 6 }) (Nat.le_refl _) (Nat.le_refl _) hRcells hRslots
  obtain ⟨s', hA⟩ : ∃ z, z = (T.setVm s.vm).setFrames (.invoking m args :: below) := ⟨_, rfl⟩
  rw [← hA] at Y
  have hvm : s'.vm = s.vm := by rw [hA]; rfl
  have hhp : s'.heap = H := by rw [hA]; exact hT
  have hW0 : s.WarmedH s'.vm := by rw [hvm]; exact State.WarmedH.refl s
  have hat' : ∀ w ∈ vx_at0 own ic cls names, w.before args s' = true := fun w hw => vx_ot_at hW0 hvm.symm (hgood w (List.mem_cons_of_mem _ (List.mem_cons_of_mem _ hw))) (hat w hw)
  have hk' : (Cond.classLink own ik cls).before args s' = true := vx_ot_at hW0 hvm.symm (hgood _ List.mem_cons_self) hk
  have hini' : (Cond.initialized cls).before args s' = true := vx_ot_at hW0 hvm.symm (hgood _ (List.mem_cons_of_mem _ List.mem_cons_self)) hini
  have hU' : vx_Zq Bundle.tN "UNASSIGNED_STACK" Bundle.steD A s' s'.heap := by rw [hhp]; exact vx_Zq.moved hW0.alike (hU.kept hS.2.1)
  have hN' : vx_Zq Bundle.tN "SUPPRESSED_SENTINEL" Bundle.listD A s' s'.heap := by rw [hhp]; exact vx_Zq.moved hW0.alike (hN.kept hS.2.1)
  have h : ∀ w ∈ Bundle.ownAtoms0 own ic cls names, w.before args s' = true := vx_own hat' (vx_isRefq hU'.1) (vx_isRefq hN'.1) hU'.2.word hN'.2.word
  have hown' : s'.vm.findClass own = some m.cls := by rw [hvm]; exact hown
  have hins : (Cond.instantiable cls 6).before args s' = true := h _ (by simp [Bundle.ownAtoms0])
  obtain ⟨vm₁, cX, kX, hfX, hkX, -, -, X₁, st1⟩ := Y.newCold hexec (own := own) (C := cls) (index := ik) (n := 6) hown' hk' hins hini'
    (g := F0 m pc ls rest) rfl (by rw [hb]; exact d0) (Nat.le_refl _) (Nat.le_refl _)
  generalize hT1 : (T.setVm vm₁).pushCell { cls := cX, slots := kX.instanceTypes.map defaultValue, vm := .none } = T1 at X₁ st1
  have hcat : (Value.ref T.heap.size).category = 1 := rfl
  have hcellA : T1.heap[T.heap.size]? = some (freshCell cX kX) := by rw [← hT1]; exact State.heap_pushCell_size _ _
  have d3' : decode c.code (pc + 3) = .ok (.dup, 1) := by rw [hb]; exact d3
  obtain ⟨U, hsteps, hrun, hend, hW, hsame, ce, hce, hO⟩ := X₁.ctorThrow0 hexec htr (own := own) (cls := cls) (names := names) (ic := ic) hown' hcls hnames h (fun x hx => nomatch hx) hfX hkX hcellA (by rw [hhp, hT]; exact Nat.le_refl _)
    (g := { method := m, pc := pc + 4, locals := ls, stack := .ref T.heap.size :: .ref T.heap.size :: rest, locked := none }) rfl hsize rfl rfl (rest := rest) rfl
    (by rw [hb]; exact d4) (by rw [hb]; exact d7) hout hRframes (by simp only [List.map_cons, List.sum_cons, hcat]; omega) hlocks
  have hz1 : U.heap.size ≤ H.size + 1 := by
    have := hsame.2.2.1
    rw [hhp] at this
    exact this
  have hz2 : tot U.heap ≤ tot H + 6 := by
    have := sbn_tot hsame
    rw [hhp] at this
    exact this
  obtain ⟨f1, f2⟩ := vx_frame hsame
  rw [hhp] at f1 f2
  have hWs : s.WarmedH U.vm := State.WarmedH.trans hW0 hW
  have hcl : s.vm.findClass cls = some ce.cls := by
    have h9 := hO.cls
    rw [hvm] at h9
    exact h9
  have hall : s.sameButNew ({ U with vm := s.vm } : State) locs mc ms := by
    subst hA
    obtain ⟨e1, e2⟩ := hsame
    rw [State.setFrames_setFrames] at e1
    have h2 : (T.setVm s.vm).sameButNew ({ U with vm := s.vm } : State) [] (0 + 1) (0 + 6) := ⟨e1, e2⟩
    have h3 := X.same.trans h2
    rw [List.append_nil] at h3
    exact h3.mono hc hs
  refine ⟨U, ?_, .threw T.heap.size, hrun, hend, Or.inr ⟨T.heap.size, rfl, cls, ce, locs, hx U hWs.alike f1 (fun q hq => f2 q hq (fun z hz => nomatch hz)) hz1 hz2, hce, hO.vm, hcl, hWs, hall, hf⟩⟩
  refine st1 _ ?_
  show Steps p.tables e below (T1.setTop { method := m, pc := pc + 3, locals := ls, stack := .ref T.heap.size :: rest, locked := none }) _
  jvm_step X₁.here [X₁.here.top, hexec, d3', Value.category]
  exact hsteps
end R7
section R8
variable {g : GP} {Γ : Cx} {M : Mx} {ρ : Type} {L L' : List (Nat × Value)} {st : List Value}
theorem Den.spent {A : Nat → Nat} {C : St} {H H' : Heap} {a b : Nat} (h : Den g A C H) (ha : a ≤ sC C) (hb : b ≤ sS C) (h1 : H.size ≤ H'.size) (h2 : ∀ q : Nat, q < H.size → H'[q]? = H[q]?) (h3 : H'.size ≤ H.size + a) (h4 : tot H' ≤ tot H + b) : Den g A (sp C a b) H' := by
  obtain ⟨k1, k2, k3, k4, k5, k6⟩ := h
  refine ⟨fun K i hK hi => ?_, k2, k3, k4, ⟨?_, ?_⟩, Nat.le_trans k6 h1⟩
  · obtain ⟨r1, r2, r3⟩ := k1 K i hK hi
    refine ⟨⟨fun x => (r1.1 x).kept (h2 _ r3), fun x => ?_⟩, r2, Nat.lt_of_lt_of_le r3 h1⟩
    rw [h2 _ r3]
    exact r1.2 x
  · show H'.size + (sC C - a) ≤ _
    omega
  · show tot H' + (sS C - b) ≤ _
    omega
/-- 'throw new E()', out of a body without handlers -/
theorem x_thr {Z : Zx ρ} {τ : Type} {Po : τ → St → Prop} (pc : Nat) {ik ic : Nat} {cls : String} {names : List String} (hb : M.2.2.2.2.1 = []) (ta : TA M.1 ik ic cls names) (d0 : decode M.2.1 pc = .ok (.new ik, 3)) (d3 : decode M.2.1 (pc + 3) = .ok (.dup, 1)) (d4 : decode M.2.1 (pc + 4) = .ok (.invokespecial ic, 3)) (d7 : decode M.2.1 (pc + 7) = .ok (.athrow, 1))
    (hd : 6 ≤ M.2.2.2.1) (hst : (st.map fun v => v.category).sum ≤ 8) : TX g Γ M Z Po pc L st (thr cls) := by
  obtain ⟨p, l, e, R, s, m, args, below, meth, c, Q⟩ := Γ
  intro F A C H locs ls S hp
  obtain ⟨⟨hc1, hs1⟩, hX⟩ := hp
  obtain ⟨t1, t2, t3, t4, t5, t6, t7⟩ := ta
  have hts := F.2.2.2.2.1
  have hKF : KF g s := F.2.2.2.2.2.1
  have hRO : RO g s s.heap := F.2.2.2.2.2.2.1
  obtain ⟨r1, r2, hRc, hRs⟩ := F.2.2.2.2.2.2.2.1
  have htab : c.exceptionTable.toList = M.2.2.2.2.1 := F.2.2.2.2.2.2.2.2.2.2.1
  have hlk : meth.locks = false := F.2.2.2.2.2.2.2.2.2.1
  have hlt : l.stackTraces = false := F.2.2.2.2.2.2.2.2.2.2.2.1
  have hQ := F.2.2.2.2.2.2.2.2.2.2.2.2.2.2
  have hD := S.2.2.2.1
  obtain ⟨b1, b2⟩ := hD.2.2.2.2.1
  have e1 : R.cells = gc g - s.heap.size := hRc
  have e2 : R.slots = gs g - tot s.heap := hRs
  have e3 : M.2.2.2.1 ≤ R.frames := r1
  have e4 : 64 * M.2.2.2.1 ≤ R.locals := r2
  refine W.tight fun u1 u2 => ?_
  have K := tx_throw0 (p := p) (l := l) (e := e) (R := R) (s := s) (m := m) (args := args) (below := below) (meth := meth) (c := c) (H := H) (locs := locs) (cells := H.size - s.heap.size) (slots := tot H - tot s.heap) (free := Af g) (Qc := Qst g Z) (XC := Xst g Z) (ls := ls) (rest := st.map (dv A)) (mc := gc g - s.heap.size) (ms := gs g - tot s.heap)
    F.1 F.2.1 hlt F.2.2.2.1 t1 t2 (hts _ t3) (hts _ t4)
    (fun w hw => by
      obtain ⟨w1, w2⟩ := t5 w hw
      rcases Bool.or_eq_true _ _ |>.mp w2 with h | h
      · exact hts w (lw_g w1 h)
      · have hz := hKF.2.2.1 w w1 h
        have hot : w.onTables = true := by cases w <;> first | rfl | (simp [xw] at h; done)
        exact va_Nw.use hot hz) t6 hRO.2.2.2.2.2.2.2.2.1 hRO.2.2.2.2.2.2.2.2.2.1 S.2.2.2.2.1 (by rw [F.2.2.1]; exact S.1.1) d0 d3 d4 d7 (fun x hx => by rw [htab, hb] at hx; cases hx) (by omega) (by have := hst_dv (A := A) hst; omega) (by omega) (by omega) hlk
    (fun t hal z1 z2 z3 z4 => ⟨⟨A, sp C 1 6, hX, S.2.2.2.2.2, hD.spent hc1 hs1 z1 z2 z3 z4⟩, ⟨Nat.le_trans S.2.2.2.2.1.1 z1, fun q q1 q2 => (z2 q (Nat.lt_of_lt_of_le q1 S.2.2.2.2.1.1)).trans (S.2.2.2.2.1.2.1 q q1 q2)⟩⟩) S.2.2.2.2.1.2.2 (by omega) (by omega)
  intro T hT X
  obtain ⟨t, a1, b1⟩ := K T hT X
  exact ⟨t, a1, hQ t b1⟩
/-- the common end -/
theorem tx_end {Z : Zx ρ} {p : Program} {l : Launch} {e : Env} {R : Room} {s : State} {m : MethodId} {args : Array Value} {below : List Frame} {meth : Method} {c : Code} {Q : State → Prop} {H : Heap} {locs : List Loc} {f : JFrame}
    (F : TXok g (p, l, e, R, s, m, args, below, meth, c, Q) M.1 M.2.1 M.2.2.1 M.2.2.2.1 M.2.2.2.2.1 M.2.2.2.2.2.1 M.2.2.2.2.2.2 Z) {A : Nat → Nat} {C : St} (hD : Den g A C H)
    (k : W p l e R s m args below meth c H locs (gc g - s.heap.size) (gs g - tot s.heap) (MQ below (Qst g Z) args s (gc g - s.heap.size) (gs g - tot s.heap) (Af g)) f) : WW (p, l, e, R, s, m, args, below, meth, c, Q) H locs f := by
  have hQ := F.2.2.2.2.2.2.2.2.2.2.2.2.2.2
  obtain ⟨b1, b2⟩ := hD.2.2.2.2.1
  have K := W.widen (p := p) (l := l) (e := e) (R := R) (s := s) (m := m) (args := args) (below := below) (meth := meth) (c := c) (H := H) (locs := locs) (cells := H.size - s.heap.size) (slots := tot H - tot s.heap) (k := gc g - s.heap.size) (n := gs g - tot s.heap) (by omega) (by omega) (vx_ret (XC := Xst g Z) k)
  intro T hT X
  obtain ⟨t, a1, b1⟩ := K T hT X
  exact ⟨t, a1, hQ t b1⟩
theorem x_iret {Z : Zx Int32} (pc : Nat) {v : Int32} (hz : Z.2.2.1 = eI) (hr : M.2.2.2.2.2.1 = some .int) (hd : decode M.2.1 pc = .ok (.ireturn, 1)) : TX g Γ M Z Z.2.2.2.1 pc L [.int v] (rt v) := by
  obtain ⟨p, l, e, R, s, m, args, below, meth, c, Q⟩ := Γ
  intro F A C H locs ls S hp
  have hrt : meth.sig.returnType = M.2.2.2.2.2.1 := F.2.2.2.2.2.2.2.2.2.2.2.2.1
  have hlk : meth.locks = false := F.2.2.2.2.2.2.2.2.2.1
  exact tx_end F S.2.2.2.1 (W.iret F.1 F.2.1 (hrt.trans hr) (fun t ht hW => ⟨⟨v, A, C, by rw [hz]; rfl, hp, by rw [hz]; exact fun x hx => by cases hx; exact okV_i _, S.2.2.2.2.2, by rw [ht]; exact S.2.2.2.1⟩, va_S.F S.2.2.2.2.1 ht⟩) S.2.2.2.2.1.2.2 hd hlk)
theorem x_zret {Z : Zx Int32} (pc : Nat) {v : Int32} (hz : Z.2.2.1 = eI) (hr : M.2.2.2.2.2.1 = some .boolean) (hd : decode M.2.1 pc = .ok (.ireturn, 1)) : TX g Γ M Z Z.2.2.2.1 pc L [.int v] (asr (v = 0 ∨ v = 1) (rt v)) := by
  obtain ⟨p, l, e, R, s, m, args, below, meth, c, Q⟩ := Γ
  intro F A C H locs ls S hp
  obtain ⟨hv, hp⟩ := hp
  have hrt : meth.sig.returnType = M.2.2.2.2.2.1 := F.2.2.2.2.2.2.2.2.2.2.2.2.1
  have hlk : meth.locks = false := F.2.2.2.2.2.2.2.2.2.1
  exact tx_end F S.2.2.2.1 (W.zret F.1 F.2.1 (hrt.trans hr) (by rcases hv with h | h <;> subst h <;> rfl) (fun t ht hW => ⟨⟨v, A, C, by rw [hz]; rfl, hp, by rw [hz]; exact fun x hx => by cases hx; exact okV_i _, S.2.2.2.2.2, by rw [ht]; exact S.2.2.2.1⟩, va_S.F S.2.2.2.2.1 ht⟩) S.2.2.2.2.1.2.2 hd hlk)
theorem x_lret {Z : Zx Int64} (pc : Nat) {v : Int64} (hz : Z.2.2.1 = eJ) (hr : M.2.2.2.2.2.1 = some .long) (hd : decode M.2.1 pc = .ok (.lreturn, 1)) : TX g Γ M Z Z.2.2.2.1 pc L [.long v] (rt v) := by
  obtain ⟨p, l, e, R, s, m, args, below, meth, c, Q⟩ := Γ
  intro F A C H locs ls S hp
  have hrt : meth.sig.returnType = M.2.2.2.2.2.1 := F.2.2.2.2.2.2.2.2.2.2.2.2.1
  have hlk : meth.locks = false := F.2.2.2.2.2.2.2.2.2.1
  exact tx_end F S.2.2.2.1 (W.lret F.1 F.2.1 (hrt.trans hr) (fun t ht hW => ⟨⟨v, A, C, by rw [hz]; rfl, hp, by rw [hz]; exact fun x hx => by cases hx; exact okV_l _, S.2.2.2.2.2, by rw [ht]; exact S.2.2.2.1⟩, va_S.F S.2.2.2.2.1 ht⟩) S.2.2.2.2.1.2.2 hd hlk)
theorem x_vret {Z : Zx Unit} (pc : Nat) (hz : Z.2.2.1 = eV) (hr : M.2.2.2.2.2.1 = none) (hd : decode M.2.1 pc = .ok (.return_, 1)) : TX g Γ M Z Z.2.2.2.1 pc L [] (rt ()) := by
  obtain ⟨p, l, e, R, s, m, args, below, meth, c, Q⟩ := Γ
  intro F A C H locs ls S hp
  have hrt : meth.sig.returnType = M.2.2.2.2.2.1 := F.2.2.2.2.2.2.2.2.2.2.2.2.1
  have hlk : meth.locks = false := F.2.2.2.2.2.2.2.2.2.1
  exact tx_end F S.2.2.2.1 (W.vret F.1 F.2.1 (hrt.trans hr) (fun t ht hW => ⟨⟨(), A, C, by rw [hz]; rfl, hp, by rw [hz]; exact (fun x hx => by cases hx), S.2.2.2.2.2, by rw [ht]; exact S.2.2.2.1⟩, va_S.F S.2.2.2.2.1 ht⟩) S.2.2.2.2.1.2.2 hd hlk)
theorem x_aret {Z : Zx Nat} (pc : Nat) {v : Nat} (hz : Z.2.2.1 = eR) (hr : (∃ n, M.2.2.2.2.2.1 = some (.object n)) ∨ ∃ t, M.2.2.2.2.2.1 = some (.array t)) (hd : decode M.2.1 pc = .ok (.areturn, 1)) : TX g Γ M Z Z.2.2.2.1 pc L [.ref v] (rt v) := by
  obtain ⟨p, l, e, R, s, m, args, below, meth, c, Q⟩ := Γ
  intro F A C H locs ls S hp
  have hrt : meth.sig.returnType = M.2.2.2.2.2.1 := F.2.2.2.2.2.2.2.2.2.2.2.2.1
  have hlk : meth.locks = false := F.2.2.2.2.2.2.2.2.2.1
  obtain ⟨ty, hty, hty2⟩ : ∃ ty, M.2.2.2.2.2.1 = some ty ∧ ((∃ n, ty = .object n) ∨ ∃ t, ty = .array t) := by
    rcases hr with ⟨n, h⟩ | ⟨n, h⟩
    · exact ⟨_, h, Or.inl ⟨_, rfl⟩⟩
    · exact ⟨_, h, Or.inr ⟨_, rfl⟩⟩
  have hvv : dv A (.ref v) = .null ∨ ∃ a, dv A (.ref v) = .ref a := by
    by_cases h : v = 62
    · subst h; exact Or.inl rfl
    · exact Or.inr ⟨_, dv_r h⟩
  exact tx_end F S.2.2.2.1 (W.aret F.1 F.2.1 (hrt.trans hty) hty2 hvv (fun t ht hW => ⟨⟨v, A, C, by rw [hz]; rfl, hp, by rw [hz]; exact fun x hx => by cases hx; exact okh S.2.2.1, S.2.2.2.2.2, by rw [ht]; exact S.2.2.2.1⟩, va_S.F S.2.2.2.2.1 ht⟩) S.2.2.2.2.1.2.2 hd hlk)
end R8
