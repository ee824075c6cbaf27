/-! ===== the rules: three calls more; the start of a body with handlers ===== -/
section RB
variable {g : GP} {Γ : Cx} {M : Mx} {ρ α : Type} {Z : Zx ρ} {L L' : List (Nat × Value)} {st : List Value} {τ : Type} {Po : τ → St → Prop} {pr pr2 : PT τ}
/-- the start of a body with handlers -/
theorem tx_startW {l : Launch} (hl : l.stackTraces = false) (d : Nat) (y : MethodName) (b : ByteArray) (nL : Nat) (rt : Option FieldType) (hh : List (Nat × Nat × Nat × Nat)) {ρ : Type} {emb : ρ → Option Value} {As : List Value} {pr : PT ρ} (hy : plainName y.cls = true) (hen : (lg_sl As).length ≤ nL)
    (k : ∀ (Γ : Cx) (Z : Zx ρ), Γ.2.1 = l → Z.2.2.1 = emb → TX g Γ (y.cls, b, nL, d, tableOf hh, rt, y.name) Z Z.2.2.2.1 0 (lv_args 0 As) [] pr) : ImH g l d y b nL rt hh emb As pr := by
  intro A C Po X sz tz hok hpr
  refine vx_ofWH (cc := b) (maxL := nL) (ret := rt) (hh := hh) hy rfl ?_
  intro p e s m args below meth c s₁ B hml hv
  obtain ⟨rfl, hsz, htz, hDen, hKF, hRO⟩ := hv
  have hts := atoms_spec (ws := wsW_ y b nL rt hh) B.pre
  have htab : c.exceptionTable.toList = tableOf hh := vx_table (l := l) (x := y) B (hts _ List.mem_cons_self)
  have hts : ∀ w ∈ lw_all, w.before _ s = true := fun w h => hts w (List.mem_cons_of_mem _ h)
  have hown : s.vm.findClass y.cls = some m.cls := findClass_of_methodNamed B.named
  have hnm : meth.name = y.name := (name_of_methodNamed B.named B.method).1
  have hle : ∀ vs : List Value, (lg_sl (vs.map (dv A))).length = (lg_sl vs).length := by
    intro vs
    induction vs with
    | nil => rfl
    | cons v vs ih =>
      have h1 : lg_sl (v :: vs) = (if v.category = 2 then [Slot.val v, .second] else [.val v]) ++ lg_sl vs := by simp [lg_sl]
      have h2 : lg_sl ((v :: vs).map (dv A)) = (if v.category = 2 then [Slot.val (dv A v), .second] else [.val (dv A v)]) ++ lg_sl (vs.map (dv A)) := by simp [lg_sl, dv_cat]
      rw [h1, h2, List.length_append, List.length_append, ih]
      split <;> rfl
  have hla : ∀ (vs : List Value) (i : Nat), lv_args i (vs.map (dv A)) = (lv_args i vs).map (fun q => (q.1, dv A q.2)) := by
    intro vs
    induction vs with
    | nil => intro i; rfl
    | cons v vs ih => intro i; simp only [List.map_cons, lv_args, dv_cat, ih]
  have hmem : ∀ (vs : List Value) (i : Nat), ∀ q ∈ lv_args i vs, q.2 ∈ vs := by
    intro vs
    induction vs with
    | nil => intro i q h; cases h
    | cons v vs ih =>
      intro i q h
      simp only [lv_args] at h
      rcases List.mem_cons.mp h with rfl | h
      · exact List.mem_cons_self
      · exact List.mem_cons_of_mem _ (ih _ q h)
  have hlv := lv_entry (As.map (dv A)) (n := nL) (by rw [hle]; exact hen)
  rw [lg_entry_eq]
  generalize (lg_sl (As.map (dv A)) ++ List.replicate (nL - (lg_sl (As.map (dv A))).length) Slot.unset).toArray = ls at hlv ⊢
  rw [hla] at hlv
  refine W.tight fun _ _ => ?_
  have hD : Den g A C s.heap := hDen
  refine k (p, l, e, _, s, m, (As.map (dv A)).toArray, below, meth, c, _) (A, C, emb, Po, X) rfl rfl ⟨B.exec, B.bytes, hml, hown, hts, hKF, hRO, ⟨Nat.le_refl _, Nat.le_refl _, by subst hsz; rfl, by subst htz; rfl⟩, hD.2.2.2.2.2, B.notSynchronized, htab, hl, B.returns, hnm, ?_⟩ A C s.heap [] ls ⟨hlv, fun q hq => hok _ (hmem _ _ q hq), fun v hv => (by cases hv), hD, va_S.rf, Ext.rf⟩ hpr
  intro t ht
  subst hsz; subst htz
  exact ht
/-- a nest mate's static method that may throw -/
theorem x_cSnx (pc : Nat) {idx nb n : Nat} {y : MethodName} {b : ByteArray} {r : Option FieldType} {host : String} (d : Nat) (As : List Value) (st : List Value) {emb : α → Option Value} {f : PT α} {kk : α → PT τ} (hb : M.2.2.2.2.1 = []) (hc : CSn M.1 idx host y b nb r n) (hI : Im g Γ.2.1 d y b nb r emb As f) (hdd : d + 1 ≤ M.2.2.2.1 ∧ nb ≤ 45) (hn : As.length = n) (hst : (st.map fun v => v.category).sum ≤ 8) (hd : decode M.2.1 pc = .ok (.invokestatic idx, 3)) (k1 : ∀ q : α, TX g Γ M Z Po (pc + 3) L ((emb q).toList ++ st) (kk q)) : TX g Γ M Z Po pc L (As.reverse ++ st) (bnd f kk) := by
  obtain ⟨p, l, e, R, s, m, args, below, meth, c, Q⟩ := Γ
  intro F A C H locs ls S hp
  have hoA : ∀ v ∈ As, okV C v := fun v hv => S.2.2.1 v (List.mem_append_left _ (List.mem_reverse.mpr hv))
  have hos : ∀ v ∈ st, okV C v := fun v hv => S.2.2.1 v (List.mem_append_right _ hv)
  have hM := hI A C (fun q C' => kk q Po Z.2.2.2.2 C') Z.2.2.2.2 H.size (tot H) hoA hp
  have hpre : ∀ U : State, U.heap = H → s.WarmedH U.vm → Pst g A C H.size (tot H) U := fun U hU hW => tx_pre S.2.2.2.1 F.2.2.2.2.2.1 F.2.2.2.2.2.2.1 S.2.2.2.2.1 hU hW
  show WW _ H locs (F0 m pc ls ((As.reverse ++ st).map (dv A)))
  rw [List.map_append, List.map_reverse]
  refine W.tight fun t1 t2 => ?_
  exact tx_goX (vx_runSN (tx_fix F) hM (⟨va_cnB n F.2.2.2.2.1 (lw_meth hc.2.2.2.1) rfl rfl rfl (F.2.2.2.2.2.1.2.2.1 _ hc.1 rfl) (F.2.2.2.2.1 _ hc.2.2.1) hc.2.2.2.2 (tx_fr F hdd), F.2.2.2.2.1 _ hc.2.1, trivial⟩) ⟨Pst_blind, fun U hU hW => ⟨rfl, hpre U hU hW⟩⟩ rfl (by rw [List.length_map]; exact hn) S.1.1 rfl (lv_room (hst_dv hst)) hd (tx_room F S.2.2.2.1 t2 t1)) S hos
    (fun E ce q9 A' C' H' locs' hX S' h1 h2 h3 => tx_out hb F S' hX h1 h2 h3)
    (fun q A' C' H' locs' hPo S' => k1 q F A' C' H' locs' ls S' hPo)
/-- Deque.isEmpty, that Collection declares, on an ArrayDeque -/
theorem va_callIFU {p : Program} {l : Launch} {e : Env} {R : Room} {s : State} {m : MethodId} {args : Array Value} {below : List Frame} {meth : Method} {c : Code} {T : State} {locs : List Loc} {cells slots : Nat} (X : Stand p l e R s m args below meth c T locs cells slots) (hexec : p.tables.exec = Jvm.exec) {bytes : ByteArray} {maxL : Nat} {ret : Option FieldType} {count : Nat}
    (hown : s.vm.findClass "KeyringCourt$Flow" = some m.cls) (hIe : va_Ie s) (hcast : va_Nw (.castable "java/util/ArrayDeque" "java/util/Deque") s)
    (hsel : (Cond.selects "java/util/ArrayDeque" yCempty yJ27_isEmpty).before args s = true) (hinst : (Cond.instanceMethod yJ27_isEmpty).before args s = true) (hcode : (Cond.code yJ27_isEmpty bytes maxL ret).before args s = true)
    {W : Nat} {Pre : Pt → Array Value → Prop} {Post : Pt → Array Value → Option Value → Pt → Prop} (hK : Back l R p e below s args yJ27_isEmpty 5 W Pre Post)
    {b : Addr} {cellB : Cell} {kB : Class} (hcell : T.heap[b]? = some cellB) (hobj : cellB.vm.isStatics = false) (hcls : s.vm.findClass "java/util/ArrayDeque" = some cellB.cls) (hkB : s.vm.classes[cellB.cls]? = some kB)
    {gF : JFrame} (hg : gF.method = m) (hsize : gF.locals.size = c.maxLocals) {rest : List Value}
    (hstack : gF.stack = .ref b :: rest) (hW : 2 * gF.monitorRoom + (rest.map fun v => v.category).sum ≤ W) (hdg : decode c.code gF.pc = .ok (.invokeinterface 71 count, 5))
    (hpre : ∀ vm₁, s.WarmedH vm₁ → Pre ⟨T.setVm vm₁, locs, cells, slots⟩ #[Value.ref b]) :
    ∃ (v : Option Value) (vm₁ : Vm) (B : Pt), s.WarmedH vm₁ ∧ Stand p l e R s m args below meth c B.U B.locs B.cells B.slots ∧ Post ⟨T.setVm vm₁, locs, cells, slots⟩ #[Value.ref b] v B ∧
      ∀ target, Steps p.tables e below (B.U.setTop { gF with pc := gF.pc + 5, stack := v.toList ++ rest }) target → Steps p.tables e below (T.setTop gF) target := by
  obtain ⟨i1, i2, i3, i4, i5, i6⟩ := hIe
  have i1 := va_Nw.use (A := args) rfl i1
  have i2 := va_Nw.use (A := args) rfl i2
  have i3 := va_Nw.use (A := args) rfl i3
  have i4 := va_Nw.use (A := args) rfl i4
  have i5 := va_Nw.use (A := args) rfl i5
  have i6 := va_Nw.use (A := args) rfl i6
  obtain ⟨r0, r, hn, hrm, hstR, hsigR⟩ := Cond.declares_spec i6
  obtain ⟨hnameR, hdescR⟩ := name_of_methodNamed hn hrm
  obtain ⟨mk, methM, hnamed, hmethM, -, habM⟩ := Cond.instanceMethod_spec hinst
  obtain ⟨c2, r2, m2, q1, q2, q3, q4, -⟩ := Cond.selects_spec hsel
  cases hcls.symm.trans q1
  obtain ⟨cL, kL, r1, hcL, hkL, hiL, hfoundL, hn1⟩ := Cond.interfaceMethod_spec i2
  cases hn.symm.trans hn1
  have q2' : r2 = r0 := by
    obtain ⟨c9, k9, h9, h10, hdecl9⟩ : ∃ c9 k9, s.vm.findClass yCempty.cls = some c9 ∧ s.vm.classes[c9]? = some k9 ∧ True := by
      obtain ⟨k9, h9, -⟩ := className_of_methodNamed hn
      exact ⟨_, k9, findClass_of_methodNamed hn, h9, trivial⟩
    have := State.methodFound?_of_named hn (by decide)
    exact Option.some.inj (q2.symm.trans this)
  subst q2'
  cases hnamed.symm.trans q3
  have hselP : selectMethod e.platform s.vm cellB.cls r2 = .method mk := by rw [Launch.admits_selectMethod X.admits]; exact q4
  have hpubM : hasFlag methM.accessFlags Acc.public_ = true := Cond.publicMethod_spec hnamed hmethM i4
  have hway : ((cellB.cls :: s.vm.superclasses cellB.cls).any fun k => (declaredIn s.vm r.name r.desc k).any fun (_, z) => z.isPrivate || z.isStatic) = false := by
    rw [hnameR, hdescR]; exact Cond.unhidden_spec hcls i5
  obtain ⟨c3, t3, w1, w2, w3⟩ := Cond.castable_spec (va_Nw.use (A := args) rfl hcast)
  cases hcls.symm.trans w1
  obtain ⟨vm₁, X₁, hstep₁⟩ := X.invokeinterfaceUp hexec hown i1 i2 i6 i3 (by decide) (by decide) w2 hcell (fun z h => by rw [h] at hobj; cases hobj) hkB w3 hn hrm hselP hmethM hway hpubM habM (g := gF) hg (argsL := []) (rest := rest) (by
      have := hsigR
      rw [show parseMethodDescriptor yCempty.desc = some ⟨[], some .boolean⟩ from by decide +kernel] at this
      rw [← Option.some.inj this]
      rfl) hstack hdg
  obtain ⟨v, B, X', hpost, hsteps⟩ := hK m meth c ⟨T.setVm vm₁, locs, cells, slots⟩ { gF with stack := rest } (.invokeinterface 71 count) mk #[Value.ref b] X₁ hg hsize hdg hW (X₁.named hnamed) (hpre vm₁ X₁.warmed)
  exact ⟨v, vm₁, B, X₁.warmed, X', hpost, fun target h => hstep₁ _ fun acts => by rw [doInvoke_state]; exact hsteps.trans h⟩
end RB
section RC
variable {g : GP} {Γ : Cx} {M : Mx} {ρ α : Type} {Z : Zx ρ} {L L' : List (Nat × Value)} {st : List Value} {τ : Type} {Po : τ → St → Prop} {pr pr2 : PT τ}
theorem x_cFe (pc : Nat) {nb count i : Nat} {b : ByteArray} {r : Option FieldType} (d : Nat) (st : List Value) {emb : α → Option Value} {f : PT α} {kk : α → PT τ} (hown : M.1 = "KeyringCourt$Flow") (q1 : Cond.selects "java/util/ArrayDeque" yCempty yJ27_isEmpty ∈ lw_all) (q2 : Cond.instanceMethod yJ27_isEmpty ∈ lw_all) (q3 : Cond.initialized yJ27_isEmpty.cls ∈ lw_all) (q4 : Cond.code yJ27_isEmpty b nb r ∈ lw_all) (q5 : Cond.castable "java/util/ArrayDeque" "java/util/Deque" ∈ lw_tbl)
    (hI : Im g Γ.2.1 d yJ27_isEmpty b nb r emb [.ref (idc 17 i)] f) (hdd : d + 1 ≤ M.2.2.2.1 ∧ nb ≤ 45) (hst : (st.map fun v => v.category).sum ≤ 8) (hd : decode M.2.1 pc = .ok (.invokeinterface 71 count, 5)) (k1 : ∀ q : α, TX g Γ M Z Po (pc + 5) L ((emb q).toList ++ st) (kk q)) : TX g Γ M Z Po pc L (.ref (idc 17 i) :: st) (bn0 f kk) := by
  obtain ⟨p, l, e, R, s, m, args, below, meth, c, Q⟩ := Γ
  intro F A C H locs ls S hp
  have hor : okV C (.ref (idc 17 i)) := S.2.2.1 _ List.mem_cons_self
  have hos : ∀ v ∈ st, okV C v := fun v hv => S.2.2.1 v (List.mem_cons_of_mem _ hv)
  have hi : i < sK C 17 := (okN_idc (by omega)).mp (okV_u hor)
  have hM := hI A C (fun q C' => kk q Po Z.2.2.2.2 C') (fun _ _ => False) H.size (tot H) (fun v hv => by rw [List.mem_singleton.mp hv]; exact hor) hp
  rw [List.map_cons, List.map_nil, dv_k (by omega)] at hM
  have hM := met_of_vx hM Qst_no
  have hpre : ∀ U : State, U.heap = H → s.WarmedH U.vm → Pst g A C H.size (tot H) U := fun U hU hW => tx_pre S.2.2.2.1 F.2.2.2.2.2.1 F.2.2.2.2.2.2.1 S.2.2.2.2.1 hU hW
  show WW _ H locs (F0 m pc ls (dv A (.ref (idc 17 i)) :: st.map (dv A)))
  rw [dv_k (by omega)]
  obtain ⟨cell, g1, g2, g3, g4⟩ := tx_cell S.2.2.2.1 F.2.2.2.2.2.1 (K := 17) (i := i) (by omega) hi
  have hts := F.2.2.2.2.1
  have hKF : KF g s := F.2.2.2.2.2.1
  have hown' : s.vm.findClass "KeyringCourt$Flow" = some m.cls := by rw [← hown]; exact F.2.2.2.1
  obtain ⟨hfr, hlo⟩ := tx_fr F (d := d) (nb := nb) (sz := H.size) (tz := tot H) hdd
  refine W.tight fun t1 t2 => ?_
  obtain ⟨hf1, hf2⟩ := tx_room F S.2.2.2.1 t2 t1
  have hws : ∀ w ∈ ws_ yJ27_isEmpty b nb r, ∀ (a' : Array Value) (U : State), s.WarmedH U.vm → w.before a' U = true := pay_in hts (lw_meth q4)
  have hK : Back l R p e below s args yJ27_isEmpty 5 8 (PreOf R (gc g - H.size) (gs g - tot H) (va_Pc [.ref (A (idc 17 i))] (Pst g A C H.size (tot H)))) (PostOf (Qst g (A, C, emb, (fun q C' => kk q Po Z.2.2.2.2 C'), (fun _ _ => False))) (gc g - H.size) (gs g - tot H) (Af g)) :=
    back_of (bytes := b) (maxL := nb) (ret := r) hM Pst_blind rfl rfl hfr hlo hws List.mem_cons_self (fun a' U hW => word_at hW (Or.inl (by first | rfl | simp [Cond.onTables, Cond.keeps, Cond.steady])) (hts _ q3))
  obtain ⟨kB, hkB, -⟩ := g4.2
  have hrun : va_Run5 p l e R s m args below meth c H locs (H.size - s.heap.size) (tot H - tot s.heap) (gc g - H.size) (gs g - tot H) (F0 m pc ls (.ref (A (idc 17 i)) :: st.map (dv A))) (st.map (dv A)) (Qst g (A, C, emb, (fun q C' => kk q Po Z.2.2.2.2 C'), (fun _ _ => False)) #[.ref (A (idc 17 i))]) (Af g) := by
    intro T hT X
    obtain ⟨v, vm₁, ⟨U', l2, c2, s2⟩, hW₁, X', ⟨g', mk, t, L9, e1, e2, hq, h1, hL, h2, h3⟩, stp⟩ := va_callIFU X F.1 hown' hKF.2.2.2.2.2.2.2.2.1 (hKF.2.2.1 _ q5 rfl) (hts _ q1) (hts _ q2) (hts _ q4) hK (by rw [hT]; exact g1) (by rw [g2]; rfl) g3 hkB (gF := F0 m pc ls (.ref (A (idc 17 i)) :: st.map (dv A))) rfl (by rw [F.2.2.1]; exact S.1.1) (rest := st.map (dv A)) rfl (lv_room (hst_dv hst)) (by rw [F.2.1]; exact hd)
      (fun vm₁ hW₁ => ⟨hf1, hf2, ⟨rfl, hpre (T.setVm vm₁) hT hW₁⟩⟩)
    dsimp only [Pt.U, Pt.locs, Pt.cells, Pt.slots] at X' e1 e2 h1 h2 h3 stp
    subst h1; subst h2; subst h3
    exact ⟨v, (T.setVm vm₁).calling g' mk #[Value.ref (A (idc 17 i))], t, U', L9, hT, X', hL, e1, e2, hq, stp⟩
  exact tx_go5 hrun S hos (fun q A' C' H' locs' hPo S' => k1 q F A' C' H' locs' ls S' hPo)
end RC
/-- .. a method that the class overrides -/
def CA (own : String) (idx K : Nat) (owner : String) (x y : MethodName) (b : ByteArray) (nb : Nat) (r : Option FieldType) (n : Nat) : Prop := Cond.methodLink own idx x ∈ lw_all ∧ Cond.sameMethod x.cls owner x.name x.desc ∈ lw_all ∧ Cond.selects (kC K).1 x y ∈ lw_all ∧ Cond.instanceMethod y ∈ lw_all ∧ Cond.initialized y.cls ∈ lw_all ∧ Cond.code y b nb r ∈ lw_all ∧ Cond.declares ⟨owner, x.name, x.desc⟩ ∈ lw_tbl ∧ owner ≠ "java/lang/invoke/MethodHandle" ∧ owner ≠ "java/lang/invoke/VarHandle" ∧ (parseMethodDescriptor x.desc).map (fun d => d.parameters.length) = some n
section RD
variable {g : GP} {Γ : Cx} {M : Mx} {ρ α : Type} {Z : Zx ρ} {L L' : List (Nat × Value)} {st : List Value} {τ : Type} {Po : τ → St → Prop} {pr pr2 : PT τ}
theorem x_cA (pc : Nat) {idx nb n : Nat} {y xm : MethodName} {b : ByteArray} {r : Option FieldType} {owner : String} {K i : Nat} (d : Nat) (As : List Value) (st : List Value) {emb : α → Option Value} {f : PT α} {kk : α → PT τ} (hK : K < 21) (hc : CA M.1 idx K owner xm y b nb r n) (hI : Im g Γ.2.1 d y b nb r emb (.ref (idc K i) :: As) f) (hdd : d + 1 ≤ M.2.2.2.1 ∧ nb ≤ 45) (hn : As.length = n) (hst : (st.map fun v => v.category).sum ≤ 8) (hd : decode M.2.1 pc = .ok (.invokevirtual idx, 3)) (k1 : ∀ q : α, TX g Γ M Z Po (pc + 3) L ((emb q).toList ++ st) (kk q)) : TX g Γ M Z Po pc L (As.reverse ++ .ref (idc K i) :: st) (bn0 f kk) := by
  obtain ⟨p, l, e, R, s, m, args, below, meth, c, Q⟩ := Γ
  intro F A C H locs ls S hp
  have hoA : ∀ v ∈ As, okV C v := fun v hv => S.2.2.1 v (List.mem_append_left _ (List.mem_reverse.mpr hv))
  have hor : okV C (.ref (idc K i)) := S.2.2.1 _ (List.mem_append_right _ List.mem_cons_self)
  have hos : ∀ v ∈ st, okV C v := fun v hv => S.2.2.1 v (List.mem_append_right _ (List.mem_cons_of_mem _ hv))
  have hi : i < sK C K := (okN_idc (by omega)).mp (okV_u hor)
  have hM := hI A C (fun q C' => kk q Po Z.2.2.2.2 C') (fun _ _ => False) H.size (tot H) (okc hor hoA) hp
  rw [List.map_cons, dv_k (by omega)] at hM
  have hM := met_of_vx hM Qst_no
  have hpre : ∀ U : State, U.heap = H → s.WarmedH U.vm → Pst g A C H.size (tot H) U := fun U hU hW => tx_pre S.2.2.2.1 F.2.2.2.2.2.1 F.2.2.2.2.2.2.1 S.2.2.2.2.1 hU hW
  show WW _ H locs (F0 m pc ls ((As.reverse ++ .ref (idc K i) :: st).map (dv A)))
  rw [List.map_append, List.map_reverse, List.map_cons, dv_k (by omega)]
  obtain ⟨cell, g1, g2, g3, g4⟩ := tx_cell S.2.2.2.1 F.2.2.2.2.2.1 (K := K) (i := i) (by omega) hi
  refine W.tight fun t1 t2 => ?_
  exact tx_go (va_runU (tx_fix F) hM (va_cwA n F.2.2.2.2.1 (lw_U hc.1 hc.2.1 hc.2.2.1 hc.2.2.2.1 hc.2.2.2.2.1 hc.2.2.2.2.2.1) rfl rfl rfl (F.2.2.2.2.2.1.2.2.1 _ hc.2.2.2.2.2.2.1 rfl) hc.2.2.2.2.2.2.2 (tx_fr F hdd)) ⟨Pst_blind, ⟨cell, g1, by rw [g2]; rfl, g3⟩, fun U hU hW => ⟨rfl, hpre U hU hW⟩⟩ rfl (by rw [List.length_map]; exact hn) S.1.1 rfl (lv_room (hst_dv hst)) hd (tx_room F S.2.2.2.1 t2 t1)) S hos (fun q A' C' H' locs' hPo S' => k1 q F A' C' H' locs' ls S' hPo)
/-- a part of the program that ends in one place -/
theorem x_bndj {α : Type} {q : PT α} {kk : α → PT τ} {pc : Nat} (pcj : Nat) (Lf : α → List (Nat × Value)) (sf : α → List Value) (k1 : ∀ u, TX g Γ M Z Po pcj (Lf u) (sf u) (kk u)) (k2 : (∀ u, TX g Γ M Z (fun r C' => kk r Po Z.2.2.2.2 C') pcj (Lf u) (sf u) (rt u)) → TX g Γ M Z (fun r C' => kk r Po Z.2.2.2.2 C') pc L st q) : TX g Γ M Z Po pc L st (bnd q kk) :=
  k2 (fun u => x_rtk (k1 u))
theorem x_stI {pc : Nat} {q : Int32} (k : TX g Γ M Z Po pc L (.int q :: st) pr) : TX g Γ M Z Po pc L ((eI q).toList ++ st) pr := k
theorem x_stJ {pc : Nat} {q : Int64} (k : TX g Γ M Z Po pc L (.long q :: st) pr) : TX g Γ M Z Po pc L ((eJ q).toList ++ st) pr := k
theorem x_stR {pc : Nat} {q : Nat} (k : TX g Γ M Z Po pc L (.ref q :: st) pr) : TX g Γ M Z Po pc L ((eR q).toList ++ st) pr := k
theorem x_stV {pc : Nat} {q : Unit} (k : TX g Γ M Z Po pc L st pr) : TX g Γ M Z Po pc L ((eV q).toList ++ st) pr := k
theorem x_iflt (pc tgt : Nat) {off : Int} (hd : decode M.2.1 pc = .ok (.goto off, 3)) (ht : (pc : Int) + off = (tgt : Int)) (k : TX g Γ M Z Po tgt L st pr) : TX g Γ M Z Po pc L st pr := x_goto pc tgt hd ht k
/-- a switch's value that is none of the cases -/
theorem sw_out {x : Int32} {lo hi : Int} (h : ∀ n : Nat, lo + n ≤ hi → x.toInt ≠ lo + n) : x.toInt < lo ∨ hi < x.toInt := by
  by_cases h1 : x.toInt < lo
  · exact Or.inl h1
  · by_cases h2 : hi < x.toInt
    · exact Or.inr h2
    · exfalso
      exact h (x.toInt - lo).toNat (by omega) (by omega)
theorem i32_ne {x v : Int32} {n : Int} (h : ¬ x = v) (hv : v.toInt = n) : x.toInt ≠ n := fun e => h (Int32.toInt_inj.mp (e.trans hv.symm))
end RD
def mxI (x y : Int32) : Int32 := if x < y then y else x
def mnI (x y : Int32) : Int32 := if y < x then y else x
section RE
variable {g : GP} {Γ : Cx} {M : Mx} {ρ α : Type} {Z : Zx ρ} {L L' : List (Nat × Value)} {st : List Value} {τ : Type} {Po : τ → St → Prop} {pr pr2 : PT τ}
theorem x_mmax (pc : Nat) {idx : Nat} {x y : Int32} (hq : Cond.methodLink M.1 idx Lib.Math.max.name ∈ lw_all) (q2 : Cond.static Lib.Math.max.name ∈ lw_all) (q3 : Cond.initialized "java/lang/Math" ∈ lw_all) (q4 : Cond.code Lib.Math.max.name Lib.Math.max.code 2 (some .int) ∈ lw_all) (hdd : 1 ≤ M.2.2.2.1) (hst : (st.map fun v => v.category).sum ≤ 8) (hd : decode M.2.1 pc = .ok (.invokestatic idx, 3)) (k1 : TX g Γ M Z Po (pc + 3) L (.int (mxI x y) :: st) pr) : TX g Γ M Z Po pc L (.int y :: .int x :: st) pr := by
  obtain ⟨p, l, e, R, s, m, args, below, meth, c, Q⟩ := Γ
  intro F A C H locs ls S hp
  have hts := F.2.2.2.2.1
  obtain ⟨r1, r2, hRc, hRs⟩ := F.2.2.2.2.2.2.2.1
  have e1 : M.2.2.2.1 ≤ R.frames := r1
  have e2 : 64 * M.2.2.2.1 ≤ R.locals := r2
  have hsum := hst_dv (A := A) hst
  refine W.tight fun t1 t2 => ?_
  obtain ⟨h1, h2⟩ := tx_room F S.2.2.2.1 t2 t1
  exact va_mmax F.1 F.2.1 (by rw [F.2.2.1]; exact S.1.1.symm) F.2.2.2.1 (hts _ hq) (hts _ q2) (hts _ q3) (hts _ q4) (by omega) (by omega) (by omega) (by omega) hd (k1 F A C H locs ls (TXs_st S (okc (okV_i _) (okt (okt S.2.2.1)))) hp)
theorem x_mmin (pc : Nat) {idx : Nat} {x y : Int32} (hq : Cond.methodLink M.1 idx Lib.Math.min.name ∈ lw_all) (q2 : Cond.static Lib.Math.min.name ∈ lw_all) (q3 : Cond.initialized "java/lang/Math" ∈ lw_all) (q4 : Cond.code Lib.Math.min.name Lib.Math.min.code 2 (some .int) ∈ lw_all) (hdd : 1 ≤ M.2.2.2.1) (hst : (st.map fun v => v.category).sum ≤ 8) (hd : decode M.2.1 pc = .ok (.invokestatic idx, 3)) (k1 : TX g Γ M Z Po (pc + 3) L (.int (mnI x y) :: st) pr) : TX g Γ M Z Po pc L (.int y :: .int x :: st) pr := by
  obtain ⟨p, l, e, R, s, m, args, below, meth, c, Q⟩ := Γ
  intro F A C H locs ls S hp
  have hts := F.2.2.2.2.1
  obtain ⟨r1, r2, hRc, hRs⟩ := F.2.2.2.2.2.2.2.1
  have e1 : M.2.2.2.1 ≤ R.frames := r1
  have e2 : 64 * M.2.2.2.1 ≤ R.locals := r2
  have hsum := hst_dv (A := A) hst
  refine W.tight fun t1 t2 => ?_
  obtain ⟨h1, h2⟩ := tx_room F S.2.2.2.1 t2 t1
  exact va_mmin F.1 F.2.1 (by rw [F.2.2.1]; exact S.1.1.symm) F.2.2.2.1 (hts _ hq) (hts _ q2) (hts _ q3) (hts _ q4) (by omega) (by omega) (by omega) (by omega) hd (k1 F A C H locs ls (TXs_st S (okc (okV_i _) (okt (okt S.2.2.1)))) hp)
end RE
