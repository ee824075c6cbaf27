/-! ===== the rules: calls ===== -/
theorem Qst_no {g : GP} {ρ : Type} {A : Nat → Nat} {C : St} {emb : ρ → Option Value} {Po : ρ → St → Prop} (E : String) (st t : State) : ¬ Xst g ((A, C, emb, Po, fun _ _ => False) : Zx ρ) E st t := by
  rintro ⟨⟨_, _, h, _⟩, _⟩
  exact h
theorem tx_pre {g : GP} {s U : State} {A : Nat → Nat} {C : St} {H : Heap} {locs : List Loc} (hD : Den g A C H) (hKF : KF g s) (hRO : RO g s s.heap) (hS : va_S (Af g) s.heap H locs) (hU : U.heap = H) (hW : s.WarmedH U.vm) : Pst g A C H.size (tot H) U :=
  ⟨by rw [hU], by rw [hU], by rw [hU]; exact hD, KF.warm hW hKF, by rw [hU]; exact RO.moved hW.alike (hRO.kept hS.1 hS.2.1)⟩
theorem okO_list {C : St} {v : Option Value} {st : List Value} (h1 : okO C v) (h2 : ∀ x ∈ st, okV C x) : ∀ x ∈ v.toList ++ st, okV C x := by
  intro x hx
  rcases List.mem_append.mp hx with h | h
  · cases v with
    | none => cases h
    | some y => exact h1 x (by rw [List.mem_singleton.mp h])
  · exact h2 x h
theorem toList_map {v : Option Value} {f : Value → Value} : (v.map f).toList = v.toList.map f := by cases v <;> rfl
section R5
variable {g : GP} {Γ : Cx} {M : Mx} {ρ α : Type} {Z : Zx ρ} {L L' : List (Nat × Value)} {st : List Value} {τ : Type} {Po : τ → St → Prop} {pr pr2 : PT τ}
variable {p : Program} {l : Launch} {e : Env} {R : Room} {s : State} {m : MethodId} {args : Array Value} {below : List Frame} {meth : Method} {c : Code} {Q : State → Prop} {locs : List Loc} {A : Nat → Nat} {C : St} {H : Heap} {ls : Array Slot} {pc : Nat}

theorem tx_go {emb : α → Option Value} {Po : α → St → Prop} {X : String → St → Prop} {st0 : List Value} {a : Array Value} {nL : Nat} {cells slots : Nat} (hr : va_Run p l e R s m args below meth c H locs cells slots (gc g - H.size) (gs g - tot H) (F0 m pc ls st0) (st.map (dv A)) (Qst g (A, C, emb, Po, X) a) (Af g)) {st9 : List Value} (S : TXs g (p, l, e, R, s, m, args, below, meth, c, Q) Z nL L st9 A C H locs ls) (hst : ∀ v ∈ st, okV C v)
    (k1 : ∀ (r : α) (A' : Nat → Nat) (C' : St) (H' : Heap) (locs' : List Loc), Po r C' → TXs g (p, l, e, R, s, m, args, below, meth, c, Q) Z nL L ((emb r).toList ++ st) A' C' H' locs' ls → WW (p, l, e, R, s, m, args, below, meth, c, Q) H' locs' (F0 m (pc + 3) ls (((emb r).toList ++ st).map (dv A')))) :
    W p l e R s m args below meth c H locs cells slots Q (F0 m pc ls st0) := by
  intro T hT X0
  obtain ⟨v, st₀, t, T', Lc, h0, X', hL, e1, e2, ⟨⟨r, A', C', hv, hPo, hok, hE, hD⟩, hF⟩, stp⟩ := hr T hT X0
  obtain ⟨k2, k3, k4⟩ := vx_keep h0 e1 S.2.2.2.2.1 (fun q _ h => h) (fun q h => h) hL hF
  have hv2 : v = (emb r).map (dv A') := Outcome.returned.inj hv
  have K := k1 r A' C' T'.heap (locs ++ Lc) hPo (TXs_x S hE (okO_list hok (fun x hx => (hst x hx).ext hE)) (by rw [e1]; exact hD) k4)
  rw [List.map_append, dvs_ext hE hst, ← toList_map, ← hv2] at K
  obtain ⟨t2, a1, b1⟩ := (W.tight fun _ _ => K) T' rfl X'
  exact ⟨t2, stp t2 a1, b1⟩
theorem tx_go5 {emb : α → Option Value} {Po : α → St → Prop} {X : String → St → Prop} {st0 : List Value} {a : Array Value} {nL : Nat} {cells slots : Nat} (hr : va_Run5 p l e R s m args below meth c H locs cells slots (gc g - H.size) (gs g - tot H) (F0 m pc ls st0) (st.map (dv A)) (Qst g (A, C, emb, Po, X) a) (Af g)) {st9 : List Value} (S : TXs g (p, l, e, R, s, m, args, below, meth, c, Q) Z nL L st9 A C H locs ls) (hst : ∀ v ∈ st, okV C v)
    (k1 : ∀ (r : α) (A' : Nat → Nat) (C' : St) (H' : Heap) (locs' : List Loc), Po r C' → TXs g (p, l, e, R, s, m, args, below, meth, c, Q) Z nL L ((emb r).toList ++ st) A' C' H' locs' ls → WW (p, l, e, R, s, m, args, below, meth, c, Q) H' locs' (F0 m (pc + 5) ls (((emb r).toList ++ st).map (dv A')))) :
    W p l e R s m args below meth c H locs cells slots Q (F0 m pc ls st0) := by
  intro T hT X0
  obtain ⟨v, st₀, t, T', Lc, h0, X', hL, e1, e2, ⟨⟨r, A', C', hv, hPo, hok, hE, hD⟩, hF⟩, stp⟩ := hr T hT X0
  obtain ⟨k2, k3, k4⟩ := vx_keep h0 e1 S.2.2.2.2.1 (fun q _ h => h) (fun q h => h) hL hF
  have hv2 : v = (emb r).map (dv A') := Outcome.returned.inj hv
  have K := k1 r A' C' T'.heap (locs ++ Lc) hPo (TXs_x S hE (okO_list hok (fun x hx => (hst x hx).ext hE)) (by rw [e1]; exact hD) k4)
  rw [List.map_append, dvs_ext hE hst, ← toList_map, ← hv2] at K
  obtain ⟨t2, a1, b1⟩ := (W.tight fun _ _ => K) T' rfl X'
  exact ⟨t2, stp t2 a1, b1⟩
theorem vx_Wtight {f : JFrame} {q : Addr} {cells slots : Nat} (k : vx_W p l e R s m args below meth c H locs (H.size - s.heap.size) (tot H - tot s.heap) Q f q) : vx_W p l e R s m args below meth c H locs cells slots Q f q := by
  intro T hT X
  obtain ⟨X', h1, h2⟩ := stand_tight X
  rw [hT] at X' h1 h2
  exact k T hT X'
/-- a callee that may throw: behind it, or out of this body -/
theorem tx_goX {emb : α → Option Value} {Po : α → St → Prop} {X : String → St → Prop} {st0 : List Value} {a : Array Value} {nL : Nat} {cells slots : Nat} (hr : vx_Run p l e R s m args below meth c H locs cells slots (gc g - H.size) (gs g - tot H) (F0 m pc ls st0) (st.map (dv A)) (Qst g (A, C, emb, Po, X) a) (Xst g (A, C, emb, Po, X)) (Af g)) {st9 : List Value} (S : TXs g (p, l, e, R, s, m, args, below, meth, c, Q) Z nL L st9 A C H locs ls) (hst : ∀ v ∈ st, okV C v)
    (kx : ∀ (E : String) (ce : Cell) (q9 : Addr) (A' : Nat → Nat) (C' : St) (H' : Heap) (locs' : List Loc), X E C' → TXs g (p, l, e, R, s, m, args, below, meth, c, Q) Z nL L st A' C' H' locs' ls → H'[q9]? = some ce → ce.vm = .none → s.vm.findClass E = some ce.cls → vx_W p l e R s m args below meth c H' locs' (H'.size - s.heap.size) (tot H' - tot s.heap) Q (F0 m pc ls (st.map (dv A'))) q9)
    (k1 : ∀ (r : α) (A' : Nat → Nat) (C' : St) (H' : Heap) (locs' : List Loc), Po r C' → TXs g (p, l, e, R, s, m, args, below, meth, c, Q) Z nL L ((emb r).toList ++ st) A' C' H' locs' ls → WW (p, l, e, R, s, m, args, below, meth, c, Q) H' locs' (F0 m (pc + 3) ls (((emb r).toList ++ st).map (dv A')))) :
    W p l e R s m args below meth c H locs cells slots Q (F0 m pc ls st0) := by
  intro T hT X0
  rcases hr T hT X0 with ⟨v, st₀, t, T', Lc, h0, X', hL, e1, e2, ⟨⟨r, A', C', hv, hPo, hok, hE, hD⟩, hF⟩, stp⟩ | ⟨q, st₀, t, T', Lc, E, ce, h0, X', hL, e1, e2, ⟨⟨A', C', hXE, hE, hD⟩, hF⟩, hce, hcv, hcl, stp⟩
  · obtain ⟨k2, k3, k4⟩ := vx_keep h0 e1 S.2.2.2.2.1 (fun q _ h => h) (fun q h => h) hL hF
    have hv2 : v = (emb r).map (dv A') := Outcome.returned.inj hv
    have K := k1 r A' C' T'.heap (locs ++ Lc) hPo (TXs_x S hE (okO_list hok (fun x hx => (hst x hx).ext hE)) (by rw [e1]; exact hD) k4)
    rw [List.map_append, dvs_ext hE hst, ← toList_map, ← hv2] at K
    obtain ⟨t2, a1, b1⟩ := (W.tight fun _ _ => K) T' rfl X'
    exact ⟨t2, stp t2 a1, b1⟩
  · obtain ⟨k2, k3, k4⟩ := vx_keep h0 e1 S.2.2.2.2.1 (fun q _ h => h) (fun q h => h) hL hF
    have K := kx E ce q A' C' T'.heap (locs ++ Lc) hXE (TXs_x S hE (fun x hx => (hst x hx).ext hE) (by rw [e1]; exact hD) k4) (by rw [e1]; exact hce) hcv hcl
    rw [dvs_ext hE hst] at K
    obtain ⟨t2, a1, b1⟩ := (vx_Wtight K) T' rfl X'
    exact ⟨t2, stp.trans a1, b1⟩
/-- out of a body without handlers -/
theorem tx_out {E : String} {ce : Cell} {q9 : Addr} {rest : List Value} (hb : M.2.2.2.2.1 = []) (F : TXok g (p, l, e, R, s, m, args, below, meth, c, Q) M.1 M.2.1 M.2.2.1 M.2.2.2.1 M.2.2.2.2.1 M.2.2.2.2.2.1 M.2.2.2.2.2.2 Z) (S : TXs g (p, l, e, R, s, m, args, below, meth, c, Q) Z M.2.2.1 L st A C H locs ls) (hX : Z.2.2.2.2 E C) (h1 : H[q9]? = some ce) (h2 : ce.vm = .none) (h3 : s.vm.findClass E = some ce.cls) :
    vx_W p l e R s m args below meth c H locs (H.size - s.heap.size) (tot H - tot s.heap) Q (F0 m pc ls rest) q9 := by
  have htab : c.exceptionTable.toList = M.2.2.2.2.1 := F.2.2.2.2.2.2.2.2.2.2.1
  have hlk : meth.locks = false := F.2.2.2.2.2.2.2.2.2.1
  have hQ := F.2.2.2.2.2.2.2.2.2.2.2.2.2.2
  have hD := S.2.2.2.1
  have K := vx_out (p := p) (l := l) (e := e) (R := R) (m := m) (args := args) (below := below) (meth := meth) (c := c) (H := H) (locs := locs) (cells := H.size - s.heap.size) (slots := tot H - tot s.heap) (free := Af g) (Qc := Qst g Z) (XC := Xst g Z) (pc := pc) (ls := ls) (rest := rest) (mc := gc g - s.heap.size) (ms := gs g - tot s.heap) (fun x hx => by rw [htab, hb] at hx; cases hx) hlk h1 h2 h3
    (fun t ht hal => ⟨⟨A, C, hX, S.2.2.2.2.2, by rw [ht]; exact hD⟩, va_S.F S.2.2.2.2.1 ht⟩) S.2.2.2.2.1.2.2 (by have := hD.2.2.2.2.1.1; omega) (by have := hD.2.2.2.2.1.2; omega)
  intro T hT X
  obtain ⟨t, a1, b1⟩ := K T hT X
  exact ⟨t, a1, hQ t b1⟩
theorem tx_room (F : TXok g (p, l, e, R, s, m, args, below, meth, c, Q) M.1 M.2.1 M.2.2.1 M.2.2.2.1 M.2.2.2.2.1 M.2.2.2.2.2.1 M.2.2.2.2.2.2 Z) (hD : Den g A C H) (h1 : s.heap.size ≤ H.size) (h2 : tot s.heap ≤ tot H) : (H.size - s.heap.size) + (gc g - H.size) ≤ R.cells ∧ (tot H - tot s.heap) + (gs g - tot H) ≤ R.slots := by
  obtain ⟨-, -, hRc, hRs⟩ := F.2.2.2.2.2.2.2.1
  have b := hD.2.2.2.2.1
  have e1 : R.cells = gc g - s.heap.size := hRc
  have e2 : R.slots = gs g - tot s.heap := hRs
  omega
theorem tx_fr (F : TXok g (p, l, e, R, s, m, args, below, meth, c, Q) M.1 M.2.1 M.2.2.1 M.2.2.2.1 M.2.2.2.2.1 M.2.2.2.2.2.1 M.2.2.2.2.2.2 Z) {d nb sz tz : Nat} (hdd : d + 1 ≤ M.2.2.2.1 ∧ nb ≤ 45) : (rmd g d sz tz).frames + 1 ≤ R.frames ∧ 8 + (nb + 11) + (rmd g d sz tz).locals ≤ R.locals := by
  obtain ⟨r1, r2, -, -⟩ := F.2.2.2.2.2.2.2.1
  have e1 : M.2.2.2.1 ≤ R.frames := r1
  have e2 : 64 * M.2.2.2.1 ≤ R.locals := r2
  exact ⟨by show d + 1 ≤ _; omega, by show 8 + (nb + 11) + 64 * d ≤ _; omega⟩
theorem tx_fix (F : TXok g (p, l, e, R, s, m, args, below, meth, c, Q) M.1 M.2.1 M.2.2.1 M.2.2.2.1 M.2.2.2.2.1 M.2.2.2.2.2.1 M.2.2.2.2.2.2 Z) : CallFix p m c M.2.1 M.2.2.1 s args lw_all M.1 := ⟨F.1, F.2.1, F.2.2.1, F.2.2.2.1, F.2.2.2.2.1⟩
theorem hst_dv {st : List Value} (h : (st.map fun v => v.category).sum ≤ 8) : ((st.map (dv A)).map fun v => v.category).sum ≤ 8 := by
  have hsum : ((st.map (dv A)).map fun v => v.category).sum = (st.map fun v => v.category).sum := by
    rw [List.map_map]; congr 1; exact List.map_congr_left fun v _ => dv_cat v
  rw [hsum]; exact h
end R5
/-! what a call's entry says -/
def hdn (y : MethodName) (n : Nat) : Prop := y.cls ≠ "java/lang/invoke/MethodHandle" ∧ y.cls ≠ "java/lang/invoke/VarHandle" ∧ (parseMethodDescriptor y.desc).map (fun d => d.parameters.length) = some n
def CS (own : String) (idx : Nat) (y : MethodName) (b : ByteArray) (nb : Nat) (r : Option FieldType) (n : Nat) : Prop := Cond.methodLink own idx y ∈ lw_all ∧ Cond.static y ∈ lw_all ∧ Cond.initialized y.cls ∈ lw_all ∧ Cond.code y b nb r ∈ lw_all ∧ hdn y n
def CV (own : String) (idx : Nat) (y : MethodName) (b : ByteArray) (nb : Nat) (r : Option FieldType) (n : Nat) : Prop := Cond.methodLink own idx y ∈ lw_all ∧ Cond.instanceMethod y ∈ lw_all ∧ Cond.selects y.cls y y ∈ lw_all ∧ Cond.initialized y.cls ∈ lw_all ∧ Cond.code y b nb r ∈ lw_all ∧ hdn y n
def CN (own : String) (idx : Nat) (y : MethodName) (b : ByteArray) (nb : Nat) (n : Nat) : Prop := Cond.methodLink own idx y ∈ lw_all ∧ Cond.instanceMethod y ∈ lw_all ∧ Cond.initialized y.cls ∈ lw_all ∧ Cond.code y b nb none ∈ lw_all ∧ y.name = "<init>" ∧ hdn y n
/-- .. of a nest mate's private -/
def CSn (own : String) (idx : Nat) (host : String) (y : MethodName) (b : ByteArray) (nb : Nat) (r : Option FieldType) (n : Nat) : Prop := Cond.methodLinkNest own idx y host ∈ lw_tbl ∧ Cond.static y ∈ lw_all ∧ Cond.initialized y.cls ∈ lw_all ∧ Cond.code y b nb r ∈ lw_all ∧ hdn y n
def CVn (own : String) (idx : Nat) (host : String) (y : MethodName) (b : ByteArray) (nb : Nat) (r : Option FieldType) (n : Nat) : Prop := Cond.methodLinkNest own idx y host ∈ lw_tbl ∧ Cond.instanceMethod y ∈ lw_all ∧ Cond.selects y.cls y y ∈ lw_all ∧ Cond.initialized y.cls ∈ lw_all ∧ Cond.code y b nb r ∈ lw_all ∧ hdn y n
def CNn (own : String) (idx : Nat) (host : String) (y : MethodName) (b : ByteArray) (nb : Nat) (n : Nat) : Prop := Cond.methodLinkNest own idx y host ∈ lw_tbl ∧ Cond.instanceMethod y ∈ lw_all ∧ Cond.initialized y.cls ∈ lw_all ∧ Cond.code y b nb none ∈ lw_all ∧ y.name = "<init>" ∧ hdn y n
/-- .. through an interface, on the class of kind K -/
def CF (own : String) (idx K : Nat) (x y : MethodName) (b : ByteArray) (nb : Nat) (r : Option FieldType) (n : Nat) : Prop := Cond.methodLink own idx x ∈ lw_all ∧ Cond.selects (kC K).1 x y ∈ lw_all ∧ Cond.instanceMethod y ∈ lw_all ∧ Cond.initialized y.cls ∈ lw_all ∧ Cond.code y b nb r ∈ lw_all ∧ ((kC K).1, x, y) ∈ fwL ∧ hdn x n
/-- .. a method that the class has from owner -/
def CU (own : String) (idx K : Nat) (owner : String) (x y : MethodName) (b : ByteArray) (nb : Nat) (r : Option FieldType) (n : Nat) : Prop := Cond.methodLink own idx x ∈ lw_all ∧ Cond.sameMethod x.cls owner x.name x.desc ∈ lw_all ∧ Cond.selects (kC K).1 x y ∈ lw_all ∧ Cond.instanceMethod y ∈ lw_all ∧ Cond.initialized y.cls ∈ lw_all ∧ Cond.code y b nb r ∈ lw_all ∧ y = ⟨owner, x.name, x.desc⟩ ∧ owner ≠ "java/lang/invoke/MethodHandle" ∧ owner ≠ "java/lang/invoke/VarHandle" ∧ (parseMethodDescriptor x.desc).map (fun d => d.parameters.length) = some n
theorem lw_F {own : String} {idx : Nat} {C : String} {x y : MethodName} {b : ByteArray} {L : Nat} {r : Option FieldType} (h1 : Cond.methodLink own idx x ∈ lw_all) (h2 : Cond.selects C x y ∈ lw_all) (h3 : Cond.instanceMethod y ∈ lw_all) (h4 : Cond.initialized y.cls ∈ lw_all) (h5 : Cond.code y b L r ∈ lw_all) : GoodIn lw_all (va_wsF own idx C x y (ws_ y b L r)) := by
  refine lw_app ?_ (lw_meth h5)
  intro w hw
  simp only [List.mem_cons, List.not_mem_nil, or_false] at hw
  rcases hw with e | e | e | e
  · rw [e]; exact h1
  · rw [e]; exact h2
  · rw [e]; exact h3
  · rw [e]; exact h4
theorem lw_U {own : String} {idx : Nat} {C owner : String} {x y : MethodName} {b : ByteArray} {L : Nat} {r : Option FieldType} (h1 : Cond.methodLink own idx x ∈ lw_all) (h2 : Cond.sameMethod x.cls owner x.name x.desc ∈ lw_all) (h3 : Cond.selects C x y ∈ lw_all) (h4 : Cond.instanceMethod y ∈ lw_all) (h5 : Cond.initialized y.cls ∈ lw_all) (h6 : Cond.code y b L r ∈ lw_all) : GoodIn lw_all (va_wsU own idx C owner x y (ws_ y b L r)) := by
  refine lw_app ?_ (lw_meth h6)
  intro w hw
  simp only [List.mem_cons, List.not_mem_nil, or_false] at hw
  rcases hw with e | e | e | e | e
  · rw [e]; exact h1
  · rw [e]; exact h2
  · rw [e]; exact h3
  · rw [e]; exact h4
  · rw [e]; exact h5
section R6
variable {g : GP} {Γ : Cx} {M : Mx} {ρ α : Type} {Z : Zx ρ} {L L' : List (Nat × Value)} {st : List Value} {τ : Type} {Po : τ → St → Prop} {pr pr2 : PT τ}

theorem x_cS (pc : Nat) {idx nb n : Nat} {y : MethodName} {b : ByteArray} {r : Option FieldType} (d : Nat) (As : List Value) (st : List Value) {emb : α → Option Value} {f : PT α} {kk : α → PT τ} (hc : CS M.1 idx y b nb r n) (hI : Im g Γ.2.1 d y b nb r emb As f) (hdd : d + 1 ≤ M.2.2.2.1 ∧ nb ≤ 45) (hn : As.length = n) (hst : (st.map fun v => v.category).sum ≤ 8) (hd : decode M.2.1 pc = .ok (.invokestatic idx, 3)) (k1 : ∀ q : α, TX g Γ M Z Po (pc + 3) L ((emb q).toList ++ st) (kk q)) : TX g Γ M Z Po pc L (As.reverse ++ st) (bn0 f kk) := by
  obtain ⟨p, l, e, R, s, m, args, below, meth, c, Q⟩ := Γ
  intro F A C H locs ls S hp
  have hoA : ∀ v ∈ As, okV C v := fun v hv => S.2.2.1 v (List.mem_append_left _ (List.mem_reverse.mpr hv))
  have hos : ∀ v ∈ st, okV C v := fun v hv => S.2.2.1 v (List.mem_append_right _ hv)
  have hM := hI A C (fun q C' => kk q Po Z.2.2.2.2 C') (fun _ _ => False) H.size (tot H) hoA hp
  have hM := met_of_vx hM Qst_no
  have hpre : ∀ U : State, U.heap = H → s.WarmedH U.vm → Pst g A C H.size (tot H) U := fun U hU hW => tx_pre S.2.2.2.1 F.2.2.2.2.2.1 F.2.2.2.2.2.2.1 S.2.2.2.2.1 hU hW
  show WW _ H locs (F0 m pc ls ((As.reverse ++ st).map (dv A)))
  rw [List.map_append, List.map_reverse]
  refine W.tight fun t1 t2 => ?_
  exact tx_go (va_runS (tx_fix F) hM (va_cwS n F.2.2.2.2.1 (lw_S hc.1 hc.2.1 hc.2.2.1 hc.2.2.2.1) rfl rfl rfl hc.2.2.2.2 (tx_fr F hdd)) ⟨Pst_blind, fun U hU hW => ⟨rfl, hpre U hU hW⟩⟩ rfl (by rw [List.length_map]; exact hn) S.1.1 rfl (lv_room (hst_dv hst)) hd (tx_room F S.2.2.2.1 t2 t1)) S hos (fun q A' C' H' locs' hPo S' => k1 q F A' C' H' locs' ls S' hPo)
theorem x_cSx (pc : Nat) {idx nb n : Nat} {y : MethodName} {b : ByteArray} {r : Option FieldType} (d : Nat) (As : List Value) (st : List Value) {emb : α → Option Value} {f : PT α} {kk : α → PT τ} (hb : M.2.2.2.2.1 = []) (hc : CS M.1 idx y b nb r n) (hI : Im g Γ.2.1 d y b nb r emb As f) (hdd : d + 1 ≤ M.2.2.2.1 ∧ nb ≤ 45) (hn : As.length = n) (hst : (st.map fun v => v.category).sum ≤ 8) (hd : decode M.2.1 pc = .ok (.invokestatic idx, 3)) (k1 : ∀ q : α, TX g Γ M Z Po (pc + 3) L ((emb q).toList ++ st) (kk q)) : TX g Γ M Z Po pc L (As.reverse ++ st) (bnd f kk) := by
  obtain ⟨p, l, e, R, s, m, args, below, meth, c, Q⟩ := Γ
  intro F A C H locs ls S hp
  have hoA : ∀ v ∈ As, okV C v := fun v hv => S.2.2.1 v (List.mem_append_left _ (List.mem_reverse.mpr hv))
  have hos : ∀ v ∈ st, okV C v := fun v hv => S.2.2.1 v (List.mem_append_right _ hv)
  have hM := hI A C (fun q C' => kk q Po Z.2.2.2.2 C') Z.2.2.2.2 H.size (tot H) hoA hp
  have hpre : ∀ U : State, U.heap = H → s.WarmedH U.vm → Pst g A C H.size (tot H) U := fun U hU hW => tx_pre S.2.2.2.1 F.2.2.2.2.2.1 F.2.2.2.2.2.2.1 S.2.2.2.2.1 hU hW
  show WW _ H locs (F0 m pc ls ((As.reverse ++ st).map (dv A)))
  rw [List.map_append, List.map_reverse]
  refine W.tight fun t1 t2 => ?_
  exact tx_goX (vx_runS (tx_fix F) hM (va_cwS n F.2.2.2.2.1 (lw_S hc.1 hc.2.1 hc.2.2.1 hc.2.2.2.1) rfl rfl rfl hc.2.2.2.2 (tx_fr F hdd)) ⟨Pst_blind, fun U hU hW => ⟨rfl, hpre U hU hW⟩⟩ rfl (by rw [List.length_map]; exact hn) S.1.1 rfl (lv_room (hst_dv hst)) hd (tx_room F S.2.2.2.1 t2 t1)) S hos
    (fun E ce q9 A' C' H' locs' hX S' h1 h2 h3 => tx_out hb F S' hX h1 h2 h3)
    (fun q A' C' H' locs' hPo S' => k1 q F A' C' H' locs' ls S' hPo)
theorem x_cV (pc : Nat) {idx nb n : Nat} {y : MethodName} {b : ByteArray} {r : Option FieldType} {K i : Nat} (d : Nat) (As : List Value) (st : List Value) {emb : α → Option Value} {f : PT α} {kk : α → PT τ} (hK : K < 21 ∧ (kC K).1 = y.cls) (hc : CV M.1 idx y b nb r n) (hI : Im g Γ.2.1 d y b nb r emb (.ref (idc K i) :: As) f) (hdd : d + 1 ≤ M.2.2.2.1 ∧ nb ≤ 45) (hn : As.length = n) (hst : (st.map fun v => v.category).sum ≤ 8) (hd : decode M.2.1 pc = .ok (.invokevirtual idx, 3)) (k1 : ∀ q : α, TX g Γ M Z Po (pc + 3) L ((emb q).toList ++ st) (kk q)) : TX g Γ M Z Po pc L (As.reverse ++ .ref (idc K i) :: st) (bn0 f kk) := by
  obtain ⟨p, l, e, R, s, m, args, below, meth, c, Q⟩ := Γ
  intro F A C H locs ls S hp
  have hoA : ∀ v ∈ As, okV C v := fun v hv => S.2.2.1 v (List.mem_append_left _ (List.mem_reverse.mpr hv))
  have hor : okV C (.ref (idc K i)) := S.2.2.1 _ (List.mem_append_right _ List.mem_cons_self)
  have hos : ∀ v ∈ st, okV C v := fun v hv => S.2.2.1 v (List.mem_append_right _ (List.mem_cons_of_mem _ hv))
  have hi : i < sK C K := (okN_idc (by omega)).mp (okV_u hor)
  have hM := hI A C (fun q C' => kk q Po Z.2.2.2.2 C') (fun _ _ => False) H.size (tot H) (okc hor hoA) hp
  rw [List.map_cons, dv_k (by omega)] at hM
  have hM := met_of_vx hM Qst_no
  have hpre : ∀ U : State, U.heap = H → s.WarmedH U.vm → Pst g A C H.size (tot H) U := fun U hU hW => tx_pre S.2.2.2.1 F.2.2.2.2.2.1 F.2.2.2.2.2.2.1 S.2.2.2.2.1 hU hW
  show WW _ H locs (F0 m pc ls ((As.reverse ++ .ref (idc K i) :: st).map (dv A)))
  rw [List.map_append, List.map_reverse, List.map_cons, dv_k (by omega)]
  obtain ⟨cell, g1, g2, g3, g4⟩ := tx_cell S.2.2.2.1 F.2.2.2.2.2.1 (K := K) (i := i) (by omega) hi
  refine W.tight fun t1 t2 => ?_
  exact tx_go (va_runV (tx_fix F) hM (cwV n F.2.2.2.2.1 (lw_V hc.1 hc.2.1 hc.2.2.1 hc.2.2.2.1 hc.2.2.2.2.1) rfl rfl rfl ⟨rfl, hc.2.2.2.2.2⟩ (tx_fr F hdd)) ⟨Pst_blind, ⟨cell, g1, by rw [g2]; rfl, by rw [← hK.2]; exact g3⟩, fun U hU hW => ⟨rfl, hpre U hU hW⟩⟩ rfl (by rw [List.length_map]; exact hn) S.1.1 rfl (lv_room (hst_dv hst)) hd (tx_room F S.2.2.2.1 t2 t1)) S hos (fun q A' C' H' locs' hPo S' => k1 q F A' C' H' locs' ls S' hPo)
theorem x_cVx (pc : Nat) {idx nb n : Nat} {y : MethodName} {b : ByteArray} {r : Option FieldType} {K i : Nat} (d : Nat) (As : List Value) (st : List Value) {emb : α → Option Value} {f : PT α} {kk : α → PT τ} (hK : K < 21 ∧ (kC K).1 = y.cls) (hb : M.2.2.2.2.1 = []) (hc : CV M.1 idx y b nb r n) (hI : Im g Γ.2.1 d y b nb r emb (.ref (idc K i) :: As) f) (hdd : d + 1 ≤ M.2.2.2.1 ∧ nb ≤ 45) (hn : As.length = n) (hst : (st.map fun v => v.category).sum ≤ 8) (hd : decode M.2.1 pc = .ok (.invokevirtual idx, 3)) (k1 : ∀ q : α, TX g Γ M Z Po (pc + 3) L ((emb q).toList ++ st) (kk q)) : TX g Γ M Z Po pc L (As.reverse ++ .ref (idc K i) :: st) (bnd f kk) := by
  obtain ⟨p, l, e, R, s, m, args, below, meth, c, Q⟩ := Γ
  intro F A C H locs ls S hp
  have hoA : ∀ v ∈ As, okV C v := fun v hv => S.2.2.1 v (List.mem_append_left _ (List.mem_reverse.mpr hv))
  have hor : okV C (.ref (idc K i)) := S.2.2.1 _ (List.mem_append_right _ List.mem_cons_self)
  have hos : ∀ v ∈ st, okV C v := fun v hv => S.2.2.1 v (List.mem_append_right _ (List.mem_cons_of_mem _ hv))
  have hi : i < sK C K := (okN_idc (by omega)).mp (okV_u hor)
  have hM := hI A C (fun q C' => kk q Po Z.2.2.2.2 C') Z.2.2.2.2 H.size (tot H) (okc hor hoA) hp
  rw [List.map_cons, dv_k (by omega)] at hM
  have hpre : ∀ U : State, U.heap = H → s.WarmedH U.vm → Pst g A C H.size (tot H) U := fun U hU hW => tx_pre S.2.2.2.1 F.2.2.2.2.2.1 F.2.2.2.2.2.2.1 S.2.2.2.2.1 hU hW
  show WW _ H locs (F0 m pc ls ((As.reverse ++ .ref (idc K i) :: st).map (dv A)))
  rw [List.map_append, List.map_reverse, List.map_cons, dv_k (by omega)]
  obtain ⟨cell, g1, g2, g3, g4⟩ := tx_cell S.2.2.2.1 F.2.2.2.2.2.1 (K := K) (i := i) (by omega) hi
  refine W.tight fun t1 t2 => ?_
  exact tx_goX (vx_runV (tx_fix F) hM (cwV n F.2.2.2.2.1 (lw_V hc.1 hc.2.1 hc.2.2.1 hc.2.2.2.1 hc.2.2.2.2.1) rfl rfl rfl ⟨rfl, hc.2.2.2.2.2⟩ (tx_fr F hdd)) ⟨Pst_blind, ⟨cell, g1, by rw [g2]; rfl, by rw [← hK.2]; exact g3⟩, fun U hU hW => ⟨rfl, hpre U hU hW⟩⟩ rfl (by rw [List.length_map]; exact hn) S.1.1 rfl (lv_room (hst_dv hst)) hd (tx_room F S.2.2.2.1 t2 t1)) S hos
    (fun E ce q9 A' C' H' locs' hX S' h1 h2 h3 => tx_out hb F S' hX h1 h2 h3)
    (fun q A' C' H' locs' hPo S' => k1 q F A' C' H' locs' ls S' hPo)
theorem x_cI (pc : Nat) {idx nb n : Nat} {y : MethodName} {b : ByteArray} {K i : Nat} (d : Nat) (As : List Value) (st : List Value) {emb : α → Option Value} {f : PT α} {kk : α → PT τ} (hK : K < 62) (hc : CN M.1 idx y b nb n) (hI : Im g Γ.2.1 d y b nb none emb (.ref (idc K i) :: As) f) (hdd : d + 1 ≤ M.2.2.2.1 ∧ nb ≤ 45) (hn : As.length = n) (hst : (st.map fun v => v.category).sum ≤ 8) (hd : decode M.2.1 pc = .ok (.invokespecial idx, 3)) (k1 : ∀ q : α, TX g Γ M Z Po (pc + 3) L ((emb q).toList ++ st) (kk q)) : TX g Γ M Z Po pc L (As.reverse ++ .ref (idc K i) :: st) (bn0 f kk) := by
  obtain ⟨p, l, e, R, s, m, args, below, meth, c, Q⟩ := Γ
  intro F A C H locs ls S hp
  have hoA : ∀ v ∈ As, okV C v := fun v hv => S.2.2.1 v (List.mem_append_left _ (List.mem_reverse.mpr hv))
  have hor : okV C (.ref (idc K i)) := S.2.2.1 _ (List.mem_append_right _ List.mem_cons_self)
  have hos : ∀ v ∈ st, okV C v := fun v hv => S.2.2.1 v (List.mem_append_right _ (List.mem_cons_of_mem _ hv))
  have hM := hI A C (fun q C' => kk q Po Z.2.2.2.2 C') (fun _ _ => False) H.size (tot H) (okc hor hoA) hp
  rw [List.map_cons, dv_k (by omega)] at hM
  have hM := met_of_vx hM Qst_no
  have hpre : ∀ U : State, U.heap = H → s.WarmedH U.vm → Pst g A C H.size (tot H) U := fun U hU hW => tx_pre S.2.2.2.1 F.2.2.2.2.2.1 F.2.2.2.2.2.2.1 S.2.2.2.2.1 hU hW
  show WW _ H locs (F0 m pc ls ((As.reverse ++ .ref (idc K i) :: st).map (dv A)))
  rw [List.map_append, List.map_reverse, List.map_cons, dv_k (by omega)]
  refine W.tight fun t1 t2 => ?_
  exact tx_go (va_runI (tx_fix F) hM (cwI n F.2.2.2.2.1 (lw_meth hc.2.2.2.1) rfl rfl rfl (F.2.2.2.2.1 _ hc.2.2.1) (F.2.2.2.2.1 _ hc.1) (F.2.2.2.2.1 _ hc.2.1) hc.2.2.2.2.1 hc.2.2.2.2.2 (tx_fr F hdd)) ⟨Pst_blind, fun U hU hW => ⟨rfl, hpre U hU hW⟩⟩ rfl (by rw [List.length_map]; exact hn) S.1.1 rfl (lv_room (hst_dv hst)) hd (tx_room F S.2.2.2.1 t2 t1)) S hos (fun q A' C' H' locs' hPo S' => k1 q F A' C' H' locs' ls S' hPo)
theorem x_cSn (pc : Nat) {idx nb n : Nat} {y : MethodName} {b : ByteArray} {r : Option FieldType} {host : String} (d : Nat) (As : List Value) (st : List Value) {emb : α → Option Value} {f : PT α} {kk : α → PT τ} (hc : CSn M.1 idx host y b nb r n) (hI : Im g Γ.2.1 d y b nb r emb As f) (hdd : d + 1 ≤ M.2.2.2.1 ∧ nb ≤ 45) (hn : As.length = n) (hst : (st.map fun v => v.category).sum ≤ 8) (hd : decode M.2.1 pc = .ok (.invokestatic idx, 3)) (k1 : ∀ q : α, TX g Γ M Z Po (pc + 3) L ((emb q).toList ++ st) (kk q)) : TX g Γ M Z Po pc L (As.reverse ++ st) (bn0 f kk) := by
  obtain ⟨p, l, e, R, s, m, args, below, meth, c, Q⟩ := Γ
  intro F A C H locs ls S hp
  have hoA : ∀ v ∈ As, okV C v := fun v hv => S.2.2.1 v (List.mem_append_left _ (List.mem_reverse.mpr hv))
  have hos : ∀ v ∈ st, okV C v := fun v hv => S.2.2.1 v (List.mem_append_right _ hv)
  have hM := hI A C (fun q C' => kk q Po Z.2.2.2.2 C') (fun _ _ => False) H.size (tot H) hoA hp
  have hM := met_of_vx hM Qst_no
  have hpre : ∀ U : State, U.heap = H → s.WarmedH U.vm → Pst g A C H.size (tot H) U := fun U hU hW => tx_pre S.2.2.2.1 F.2.2.2.2.2.1 F.2.2.2.2.2.2.1 S.2.2.2.2.1 hU hW
  show WW _ H locs (F0 m pc ls ((As.reverse ++ st).map (dv A)))
  rw [List.map_append, List.map_reverse]
  refine W.tight fun t1 t2 => ?_
  exact tx_go (va_runSN (tx_fix F) hM (⟨va_cnB n F.2.2.2.2.1 (lw_meth hc.2.2.2.1) rfl rfl rfl (F.2.2.2.2.2.1.2.2.1 _ hc.1 rfl) (F.2.2.2.2.1 _ hc.2.2.1) hc.2.2.2.2 (tx_fr F hdd), F.2.2.2.2.1 _ hc.2.1, trivial⟩) ⟨Pst_blind, fun U hU hW => ⟨rfl, hpre U hU hW⟩⟩ rfl (by rw [List.length_map]; exact hn) S.1.1 rfl (lv_room (hst_dv hst)) hd (tx_room F S.2.2.2.1 t2 t1)) S hos (fun q A' C' H' locs' hPo S' => k1 q F A' C' H' locs' ls S' hPo)
theorem x_cVn (pc : Nat) {idx nb n : Nat} {y : MethodName} {b : ByteArray} {r : Option FieldType} {host : String} {K i : Nat} (d : Nat) (As : List Value) (st : List Value) {emb : α → Option Value} {f : PT α} {kk : α → PT τ} (hK : K < 21 ∧ (kC K).1 = y.cls) (hc : CVn M.1 idx host y b nb r n) (hI : Im g Γ.2.1 d y b nb r emb (.ref (idc K i) :: As) f) (hdd : d + 1 ≤ M.2.2.2.1 ∧ nb ≤ 45) (hn : As.length = n) (hst : (st.map fun v => v.category).sum ≤ 8) (hd : decode M.2.1 pc = .ok (.invokevirtual idx, 3)) (k1 : ∀ q : α, TX g Γ M Z Po (pc + 3) L ((emb q).toList ++ st) (kk q)) : TX g Γ M Z Po pc L (As.reverse ++ .ref (idc K i) :: st) (bn0 f kk) := by
  obtain ⟨p, l, e, R, s, m, args, below, meth, c, Q⟩ := Γ
  intro F A C H locs ls S hp
  have hoA : ∀ v ∈ As, okV C v := fun v hv => S.2.2.1 v (List.mem_append_left _ (List.mem_reverse.mpr hv))
  have hor : okV C (.ref (idc K i)) := S.2.2.1 _ (List.mem_append_right _ List.mem_cons_self)
  have hos : ∀ v ∈ st, okV C v := fun v hv => S.2.2.1 v (List.mem_append_right _ (List.mem_cons_of_mem _ hv))
  have hi : i < sK C K := (okN_idc (by omega)).mp (okV_u hor)
  have hM := hI A C (fun q C' => kk q Po Z.2.2.2.2 C') (fun _ _ => False) H.size (tot H) (okc hor hoA) hp
  rw [List.map_cons, dv_k (by omega)] at hM
  have hM := met_of_vx hM Qst_no
  have hpre : ∀ U : State, U.heap = H → s.WarmedH U.vm → Pst g A C H.size (tot H) U := fun U hU hW => tx_pre S.2.2.2.1 F.2.2.2.2.2.1 F.2.2.2.2.2.2.1 S.2.2.2.2.1 hU hW
  show WW _ H locs (F0 m pc ls ((As.reverse ++ .ref (idc K i) :: st).map (dv A)))
  rw [List.map_append, List.map_reverse, List.map_cons, dv_k (by omega)]
  obtain ⟨cell, g1, g2, g3, g4⟩ := tx_cell S.2.2.2.1 F.2.2.2.2.2.1 (K := K) (i := i) (by omega) hi
  refine W.tight fun t1 t2 => ?_
  exact tx_go (va_runVN (tx_fix F) hM (⟨va_cnB n F.2.2.2.2.1 (lw_meth hc.2.2.2.2.1) rfl rfl rfl (F.2.2.2.2.2.1.2.2.1 _ hc.1 rfl) (F.2.2.2.2.1 _ hc.2.2.2.1) hc.2.2.2.2.2 (tx_fr F hdd), F.2.2.2.2.1 _ hc.2.1, F.2.2.2.2.1 _ hc.2.2.1⟩) ⟨Pst_blind, ⟨cell, g1, by rw [g2]; rfl, by rw [← hK.2]; exact g3⟩, fun U hU hW => ⟨rfl, hpre U hU hW⟩⟩ rfl (by rw [List.length_map]; exact hn) S.1.1 rfl (lv_room (hst_dv hst)) hd (tx_room F S.2.2.2.1 t2 t1)) S hos (fun q A' C' H' locs' hPo S' => k1 q F A' C' H' locs' ls S' hPo)
theorem x_cIn (pc : Nat) {idx nb n : Nat} {y : MethodName} {b : ByteArray} {host : String} {K i : Nat} (d : Nat) (As : List Value) (st : List Value) {emb : α → Option Value} {f : PT α} {kk : α → PT τ} (hK : K < 62) (hc : CNn M.1 idx host y b nb n) (hI : Im g Γ.2.1 d y b nb none emb (.ref (idc K i) :: As) f) (hdd : d + 1 ≤ M.2.2.2.1 ∧ nb ≤ 45) (hn : As.length = n) (hst : (st.map fun v => v.category).sum ≤ 8) (hd : decode M.2.1 pc = .ok (.invokespecial idx, 3)) (k1 : ∀ q : α, TX g Γ M Z Po (pc + 3) L ((emb q).toList ++ st) (kk q)) : TX g Γ M Z Po pc L (As.reverse ++ .ref (idc K i) :: st) (bn0 f kk) := by
  obtain ⟨p, l, e, R, s, m, args, below, meth, c, Q⟩ := Γ
  intro F A C H locs ls S hp
  have hoA : ∀ v ∈ As, okV C v := fun v hv => S.2.2.1 v (List.mem_append_left _ (List.mem_reverse.mpr hv))
  have hor : okV C (.ref (idc K i)) := S.2.2.1 _ (List.mem_append_right _ List.mem_cons_self)
  have hos : ∀ v ∈ st, okV C v := fun v hv => S.2.2.1 v (List.mem_append_right _ (List.mem_cons_of_mem _ hv))
  have hM := hI A C (fun q C' => kk q Po Z.2.2.2.2 C') (fun _ _ => False) H.size (tot H) (okc hor hoA) hp
  rw [List.map_cons, dv_k (by omega)] at hM
  have hM := met_of_vx hM Qst_no
  have hpre : ∀ U : State, U.heap = H → s.WarmedH U.vm → Pst g A C H.size (tot H) U := fun U hU hW => tx_pre S.2.2.2.1 F.2.2.2.2.2.1 F.2.2.2.2.2.2.1 S.2.2.2.2.1 hU hW
  show WW _ H locs (F0 m pc ls ((As.reverse ++ .ref (idc K i) :: st).map (dv A)))
  rw [List.map_append, List.map_reverse, List.map_cons, dv_k (by omega)]
  refine W.tight fun t1 t2 => ?_
  exact tx_go (va_runIN (tx_fix F) hM (⟨va_cnB n F.2.2.2.2.1 (lw_meth hc.2.2.2.1) rfl rfl rfl (F.2.2.2.2.2.1.2.2.1 _ hc.1 rfl) (F.2.2.2.2.1 _ hc.2.2.1) hc.2.2.2.2.2 (tx_fr F hdd), hc.2.2.2.2.1, F.2.2.2.2.1 _ hc.2.1⟩) ⟨Pst_blind, fun U hU hW => ⟨rfl, hpre U hU hW⟩⟩ rfl (by rw [List.length_map]; exact hn) S.1.1 rfl (lv_room (hst_dv hst)) hd (tx_room F S.2.2.2.1 t2 t1)) S hos (fun q A' C' H' locs' hPo S' => k1 q F A' C' H' locs' ls S' hPo)
theorem x_cF (pc : Nat) {idx nb n : Nat} {y xm : MethodName} {b : ByteArray} {r : Option FieldType} {count : Nat} {K i : Nat} (d : Nat) (As : List Value) (st : List Value) {emb : α → Option Value} {f : PT α} {kk : α → PT τ} (hK : K < 21) (hc : CF M.1 idx K xm y b nb r n) (hI : Im g Γ.2.1 d y b nb r emb (.ref (idc K i) :: As) f) (hdd : d + 1 ≤ M.2.2.2.1 ∧ nb ≤ 45) (hn : As.length = n) (hst : (st.map fun v => v.category).sum ≤ 8) (hd : decode M.2.1 pc = .ok (.invokeinterface idx count, 5)) (k1 : ∀ q : α, TX g Γ M Z Po (pc + 5) L ((emb q).toList ++ st) (kk q)) : TX g Γ M Z Po pc L (As.reverse ++ .ref (idc K i) :: st) (bn0 f kk) := by
  obtain ⟨p, l, e, R, s, m, args, below, meth, c, Q⟩ := Γ
  intro F A C H locs ls S hp
  have hoA : ∀ v ∈ As, okV C v := fun v hv => S.2.2.1 v (List.mem_append_left _ (List.mem_reverse.mpr hv))
  have hor : okV C (.ref (idc K i)) := S.2.2.1 _ (List.mem_append_right _ List.mem_cons_self)
  have hos : ∀ v ∈ st, okV C v := fun v hv => S.2.2.1 v (List.mem_append_right _ (List.mem_cons_of_mem _ hv))
  have hi : i < sK C K := (okN_idc (by omega)).mp (okV_u hor)
  have hM := hI A C (fun q C' => kk q Po Z.2.2.2.2 C') (fun _ _ => False) H.size (tot H) (okc hor hoA) hp
  rw [List.map_cons, dv_k (by omega)] at hM
  have hM := met_of_vx hM Qst_no
  have hpre : ∀ U : State, U.heap = H → s.WarmedH U.vm → Pst g A C H.size (tot H) U := fun U hU hW => tx_pre S.2.2.2.1 F.2.2.2.2.2.1 F.2.2.2.2.2.2.1 S.2.2.2.2.1 hU hW
  show WW _ H locs (F0 m pc ls ((As.reverse ++ .ref (idc K i) :: st).map (dv A)))
  rw [List.map_append, List.map_reverse, List.map_cons, dv_k (by omega)]
  obtain ⟨cell, g1, g2, g3, g4⟩ := tx_cell S.2.2.2.1 F.2.2.2.2.2.1 (K := K) (i := i) (by omega) hi
  refine W.tight fun t1 t2 => ?_
  exact tx_go5 (va_runF g4 (tx_fix F) hM (va_cwF n F.2.2.2.2.1 (lw_F hc.1 hc.2.1 hc.2.2.1 hc.2.2.2.1 hc.2.2.2.2.1) rfl rfl rfl (F.2.2.2.2.2.1.2.2.2.1 _ hc.2.2.2.2.2.1) hc.2.2.2.2.2.2 (tx_fr F hdd)) ⟨Pst_blind, ⟨cell, g1, by rw [g2]; rfl, g3⟩, fun U hU hW => ⟨rfl, hpre U hU hW⟩⟩ rfl (by rw [List.length_map]; exact hn) S.1.1 rfl (lv_room (hst_dv hst)) hd (tx_room F S.2.2.2.1 t2 t1)) S hos (fun q A' C' H' locs' hPo S' => k1 q F A' C' H' locs' ls S' hPo)
theorem x_cU (pc : Nat) {idx nb n : Nat} {y xm : MethodName} {b : ByteArray} {r : Option FieldType} {owner : String} {K i : Nat} (d : Nat) (As : List Value) (st : List Value) {emb : α → Option Value} {f : PT α} {kk : α → PT τ} (hK : K < 21) (hc : CU M.1 idx K owner xm y b nb r n) (hI : Im g Γ.2.1 d y b nb r emb (.ref (idc K i) :: As) f) (hdd : d + 1 ≤ M.2.2.2.1 ∧ nb ≤ 45) (hn : As.length = n) (hst : (st.map fun v => v.category).sum ≤ 8) (hd : decode M.2.1 pc = .ok (.invokevirtual idx, 3)) (k1 : ∀ q : α, TX g Γ M Z Po (pc + 3) L ((emb q).toList ++ st) (kk q)) : TX g Γ M Z Po pc L (As.reverse ++ .ref (idc K i) :: st) (bn0 f kk) := by
  obtain ⟨p, l, e, R, s, m, args, below, meth, c, Q⟩ := Γ
  intro F A C H locs ls S hp
  have hoA : ∀ v ∈ As, okV C v := fun v hv => S.2.2.1 v (List.mem_append_left _ (List.mem_reverse.mpr hv))
  have hor : okV C (.ref (idc K i)) := S.2.2.1 _ (List.mem_append_right _ List.mem_cons_self)
  have hos : ∀ v ∈ st, okV C v := fun v hv => S.2.2.1 v (List.mem_append_right _ (List.mem_cons_of_mem _ hv))
  have hi : i < sK C K := (okN_idc (by omega)).mp (okV_u hor)
  have hM := hI A C (fun q C' => kk q Po Z.2.2.2.2 C') (fun _ _ => False) H.size (tot H) (okc hor hoA) hp
  rw [List.map_cons, dv_k (by omega)] at hM
  have hM := met_of_vx hM Qst_no
  have hpre : ∀ U : State, U.heap = H → s.WarmedH U.vm → Pst g A C H.size (tot H) U := fun U hU hW => tx_pre S.2.2.2.1 F.2.2.2.2.2.1 F.2.2.2.2.2.2.1 S.2.2.2.2.1 hU hW
  show WW _ H locs (F0 m pc ls ((As.reverse ++ .ref (idc K i) :: st).map (dv A)))
  rw [List.map_append, List.map_reverse, List.map_cons, dv_k (by omega)]
  obtain ⟨cell, g1, g2, g3, g4⟩ := tx_cell S.2.2.2.1 F.2.2.2.2.2.1 (K := K) (i := i) (by omega) hi
  refine W.tight fun t1 t2 => ?_
  exact tx_go (va_runU (tx_fix F) hM (va_cwU n F.2.2.2.2.1 (lw_U hc.1 hc.2.1 hc.2.2.1 hc.2.2.2.1 hc.2.2.2.2.1 hc.2.2.2.2.2.1) rfl rfl rfl hc.2.2.2.2.2.2.1 hc.2.2.2.2.2.2.2 (tx_fr F hdd)) ⟨Pst_blind, ⟨cell, g1, by rw [g2]; rfl, g3⟩, fun U hU hW => ⟨rfl, hpre U hU hW⟩⟩ rfl (by rw [List.length_map]; exact hn) S.1.1 rfl (lv_room (hst_dv hst)) hd (tx_room F S.2.2.2.1 t2 t1)) S hos (fun q A' C' H' locs' hPo S' => k1 q F A' C' H' locs' ls S' hPo)
end R6
