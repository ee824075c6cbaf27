/-! ===== the law's start and end over the walk ===== -/
def R_law : String := "KeyringCourtLaw"
def lw_P (b : Addr) (xs : List Int32) (args : Array Value) (s : State) : Prop := args = #[.ref b] ∧ s.IntsAt b xs ∧ xs.length ≤ 144 ∧ (Jvm.Cond.and given_1 narrow_1).before args s = true
def lw_Q (_ : Array Value) (s : State) (o : Outcome) (t : State) : Prop := o = .returned (some (.int 1)) ∧ Framed s o t [] 1200144 5496634
def lw_Z (below : List Frame) (a : Array Value) (s : State) : State → Prop := fun t => ∃ o, t.status = .running ∧ Ended t below o ∧ lw_Q a s o t
/-- the law's own end, with 1 on the stack, nothing written that was there before, its room as the claim has it -/
theorem lw_ret {p : Program} {l : Launch} {e : Env} {s : State} {m : MethodId} {below : List Frame} {meth : Method} {c : Code} {b : Nat} (hx : p.tables.exec = Jvm.exec) (hb : c.code = code) (hr : meth.sig.returnType = ret) (hlocks : meth.locks = false) {pc : Nat} {H : Heap} {ls : Array Slot} (hdg : decode code pc = .ok (.ireturn, 1)) : W p l e room_1 s m #[Value.ref b] below meth c H [] 1200144 5496634 (lw_Z below #[Value.ref b] s) (F0 m pc ls [.int 1]) := by
  intro T hT X
  obtain ⟨fs, hret, hrun, hended, hW, hframe⟩ := X.leave (v := some (.int 1)) (hlocks := hlocks) (fun h => by rw [hr] at h; cases h)
  have hmeth' : T.vm.method? m = some meth := X.method'
  refine ⟨T.setFrames fs, ?_, .returned (some (.int 1)), hrun, hended, rfl, ⟨_, rfl⟩, hW, hframe⟩
  jvm_step X.here [X.here.top, hx, hb, hdg, hmeth', hr, ret, narrow_b1]
  (try refine ⟨rfl, ?_⟩); (try refine ⟨rfl, ?_⟩)
  first | (intro acts; rw [hret _ acts rfl rfl rfl]) | rw [hret _ _ rfl rfl rfl]
  exact Steps.refl _
/-- what holds at the law's entry: the machine, the code, the tables' words (any of lw_tbl by 'hts w (by decide +kernel)'), the script of L ints xs at the cell b, what the Statement gives of the start (any of its parts by flat_of_before) -/
def lw_At (p : Program) (s : State) (m : MethodId) (meth : Method) (c : Code) (b L : Nat) (xs : Nat → Int32) : Prop :=
  p.tables.exec = Jvm.exec ∧ c.code = code ∧ meth.sig.returnType = ret ∧ c.maxLocals = 7 ∧ s.vm.findClass R_law = some m.cls ∧ (∀ w ∈ lw_tbl, w.before #[Value.ref b] s = true) ∧ va_X b L xs s s.heap ∧ b < s.heap.size ∧ meth.locks = false ∧ (Jvm.Cond.and given_1 narrow_1).before #[Value.ref b] s = true
def St0 : St := (fun _ _ _ => 0, fun _ _ _ => nul, fun _ _ _ => 0, fun _ _ => 0, fun K => if K < 48 then 0 else 256, 1200144, 5496634)
theorem va_eqT {args : Array Value} {s : State} {t : Term} {z : Int32} (h : (Cond.eq t (.int z)).before args s = true) : t.eval args s none [] s = some (.int z) := by
  cases hv : t.eval args s none [] s with
  | none => simp [Cond.before, Cond.holds, Cond.value, hv] at h
  | some w =>
    have hz : (Term.int z).eval args s none [] s = some (.int z) := rfl
    simp only [Cond.before, Cond.holds, Cond.value, hv, hz] at h
    cases w <;> simp_all
theorem kinst : ∀ K, K < 21 → ∃ n, Cond.instantiable (kC K).1 n ∈ lw_all :=
  k21 ⟨_, q123⟩ ⟨_, q133⟩ ⟨_, q528⟩ ⟨_, q647⟩ ⟨_, q2411⟩ ⟨_, q852⟩ ⟨_, q1139⟩ ⟨_, q1381⟩ ⟨_, q1605⟩ ⟨_, q1857⟩ ⟨_, q1894⟩ ⟨_, q1952⟩ ⟨_, q2273⟩ ⟨_, q139⟩ ⟨_, q504⟩ ⟨_, q536⟩ ⟨_, q945⟩ ⟨_, q1225⟩ ⟨_, q1416⟩ ⟨_, q1422⟩ ⟨_, q1249⟩
theorem arr_prim {s : State} {args : Array Value} {ty : FieldType} (h : (Cond.arrayClass ty).before args s = true) (hty : ∀ C, ty ≠ .object C) : ∃ cA : ClassId, ArrOfT s cA ty ∧ va_RA s cA ty := by
  obtain ⟨cA, kA, comp, h1, h2, h3⟩ := Cond.arrayClass_spec h
  refine ⟨cA, fun n z => ⟨fun k h => (by cases h), kA, h2, comp, h3⟩, ?_⟩
  cases ty with
  | object C => exact absurd rfl (hty C)
  | _ => exact h1
theorem arr_obj {s : State} {args : Array Value} {C : String} (h : (Cond.arrayOver (.object C)).before args s = true) : ∃ cA : ClassId, ArrOfT s cA (.object C) ∧ va_RA s cA (.object C) := by
  obtain ⟨comp, cA, kA, h1, h2, h3, h4, h5⟩ := Cond.arrayOver_spec h
  exact ⟨cA, fun n z => ⟨fun k h => (by cases h), kA, h3, comp, h4⟩, kA, comp, h3, h4, h1, h5⟩
theorem tot_same {s t : State} {L : List Loc} {k n : Nat} (h : s.sameButNew t L k n) (hL : ∀ q ∈ L, s.heap.size ≤ q.base) : s.sameButNew t [] k n :=
  h.weaken (fun y hy hlt => absurd hlt (Nat.not_lt.mpr (hL y hy))) (Nat.le_refl _) (Nat.le_refl _)
set_option maxHeartbeats 4000000 in
theorem whole_of (hlaw : ∀ g : GP, gn g ≤ 144 → f_L_law g (fun r _ => r = 1) (fun _ _ => False) St0) {p : Program} {e : Env} {s : State} {m : MethodId} {below : List Frame} {meth : Method} {c : Code} (l : Launch) (hflags : l.flags = flags0) {b L : Nat} {xs : Nat → Int32} (hL : L ≤ 144) (C0 : lw_At p s m meth c b L xs) : W p l e room_1 s m #[Value.ref b] below meth c s.heap [] 0 0 (lw_Z below #[Value.ref b] s) (entryFrame m ([Value.ref b] : List Value).toArray 7) := by
  obtain ⟨hx, hb, hr, hml, hown, ht, hX, hbl, hlocks, hgv⟩ := C0
  have ha : ∀ w ∈ lw_all, w.before #[Value.ref b] s = true := fun w h => ht w (List.mem_filter.mp h).1
  have hs := flat_of_before _ hgv
  have hst : l.stackTraces = false := by
    unfold Launch.stackTraces
    rw [hflags]
    decide +kernel
  have hA : ∀ a : Nat, a < s.heap.size → ¬ (s.heap.size ≤ a) := fun a h => Nat.not_le.mpr h
  -- the classes
  have hcls : ∀ K : Nat, ∃ q : ClassId × (Nat → Nat), K < 21 → u_Kn s (kC K).1 (kC K).2.1 (kC K).2.2 q.1 q.2 := by
    intro K
    by_cases hK : K < 21
    · obtain ⟨n, hn⟩ := kinst K hK
      obtain ⟨cC, iS, h⟩ := u_known ha (kin K hK) (ha _ hn)
      exact ⟨(cC, iS), fun _ => h⟩
    · exact ⟨(0, fun _ => 0), fun h => absurd h hK⟩
  obtain ⟨fc, hfc⟩ := Classical.axiomOfChoice hcls
  have harr : ∀ K : Nat, ∃ cA : ClassId, 32 ≤ K → K < 38 → ArrOfT s cA (aty K) ∧ va_RA s cA (aty K) := by
    intro K
    by_cases hK : 32 ≤ K ∧ K < 38
    · have : ∃ cA : ClassId, ArrOfT s cA (aty K) ∧ va_RA s cA (aty K) := by
        rcases (by omega : K = 32 ∨ K = 33 ∨ K = 34 ∨ K = 35 ∨ K = 36 ∨ K = 37) with h | h | h | h | h | h <;> subst h
        · exact arr_prim (ha _ q526) (fun C h => by cases h)
        · exact arr_prim (ha _ q2666) (fun C h => by cases h)
        · exact arr_prim (ha _ q527) (fun C h => by cases h)
        · exact arr_obj (ht _ q151)
        · exact arr_obj (ht _ q131)
        · exact arr_obj (ht _ q502)
      obtain ⟨cA, h⟩ := this
      exact ⟨cA, fun _ _ => h⟩
    · exact ⟨0, fun h1 h2 => absurd ⟨h1, h2⟩ hK⟩
  obtain ⟨fa, hfa⟩ := Classical.axiomOfChoice harr
  -- the cells read only
  have hlenC : (Term.length (.static "java/lang/Integer$IntegerCache" "cache" "[Ljava/lang/Integer;")).eval #[Value.ref b] s none [] s = some (.int (Int32.ofNat 256)) := va_eqT (hs _ (by decide +kernel))
  obtain ⟨ad, hadC, hadE⟩ := vb_Cof (args := #[Value.ref b]) (s := s) (A := fun q => s.heap.size ≤ q) (st := .static "java/lang/Integer$IntegerCache" "cache" "[Ljava/lang/Integer;") rfl hlenC (hs _ (by decide +kernel)) hA
  obtain ⟨tc, htc, hTC⟩ := va_Tof (args := #[Value.ref b]) (s := s) (A := fun q => s.heap.size ≤ q) (tm := .static "java/lang/Integer$IntegerCache" "cache" "[Ljava/lang/Integer;") (ty := .object "java/lang/Integer") (N := 256) (f := fun j => .ref (ad j)) (by decide) (hs _ (by decide +kernel)) hlenC hadE hA
  have hlenD : (Term.length (.static "java/util/ArrayList" "DEFAULTCAPACITY_EMPTY_ELEMENTDATA" "[Ljava/lang/Object;")).eval #[Value.ref b] s none [] s = some (.int (Int32.ofNat 0)) := va_eqT (hs _ (by decide +kernel))
  obtain ⟨td, htd, hTD⟩ := va_Tof (args := #[Value.ref b]) (s := s) (A := fun q => s.heap.size ≤ q) (tm := .static "java/util/ArrayList" "DEFAULTCAPACITY_EMPTY_ELEMENTDATA" "[Ljava/lang/Object;") (ty := .object "java/lang/Object") (N := 0) (f := fun _ => .null) (by decide) (hs _ (by decide +kernel)) hlenD (fun j hj => absurd hj (Nat.not_lt_zero j)) hA
  obtain ⟨mi, hmi⟩ := va_Mi.of (args := #[Value.ref b]) (C := "[Ljava/lang/Object;") (hs _ (by decide +kernel))
  have htdl : td < s.heap.size := by
    obtain ⟨cell, h, -⟩ := hTD
    exact (Array.getElem?_eq_some_iff.mp h).1
  let gr0 : Nat → Nat := fun n => if n % 64 = 48 then td else if n % 64 = 49 then ad (n / 64) else if n % 64 = 50 then tc else if n % 64 = 51 then b else mi
  let g : GP := ((fun K => (fc K).1, fun K => (fc K).2), fa, s.heap.size, s.heap.size + 1200144, tot s.heap + 5496634, gr0, xs, L)
  have e48 : gr0 (idc 48 0) = td := rfl
  have e50 : gr0 (idc 50 0) = tc := rfl
  have e51 : gr0 (idc 51 0) = b := rfl
  have e52 : gr0 (idc 52 0) = mi := rfl
  have e49 : ∀ j, gr0 (idc 49 j) = ad j := by
    intro j
    have h1 : idc 49 j % 64 = 49 := by unfold idc; omega
    have h2 : idc 49 j / 64 = j := by unfold idc; omega
    show (if idc 49 j % 64 = 48 then td else if idc 49 j % 64 = 49 then ad (idc 49 j / 64) else _) = _
    rw [h1, h2]; rfl
  have hKF : KF g s := by
    refine ⟨⟨fun K q hq => ?_, fun k q hq => by simp at hq⟩, fun K h1 h2 => hfa K h1 h2, fun w hw hx => ?_, fun q hq => ?_, va_AO.of (ht _ q151), va_AO.of (ht _ q131), va_AO.of (ht _ q502), ?_, ?_, ?_⟩
    · have hK : K < 21 := (List.getElem?_eq_some_iff.mp hq).1
      rw [kcl hK] at hq
      cases hq
      exact hfc K hK
    · refine va_Nw.of ?_ (ht w hw)
      cases w <;> first | rfl | (simp [xw] at hx; done)
    · simp only [fwL, List.mem_cons, List.not_mem_nil, or_false] at hq
      rcases hq with h | h | h | h | h | h | h | h | h | h | h <;> subst h
      · exact va_Fw.of (ht _ q872) (ht _ q871) (ht _ q876) (ht _ q874) (ht _ q770)
      · exact va_Fw.of (ht _ q994) (ht _ q993) (ht _ q998) (ht _ q996) (ht _ q770)
      · exact va_Fw.of (ht _ q769) (ht _ q768) (ht _ q774) (ht _ q772) (ht _ q770)
      · exact va_Fw.of (ht _ q1183) (ht _ q1182) (ht _ q1187) (ht _ q1185) (ht _ q770)
      · exact va_Fw.of (ht _ q1264) (ht _ q1263) (ht _ q1269) (ht _ q1267) (ht _ q1265)
      · exact va_Fw.of (ht _ q1310) (ht _ q1309) (ht _ q1314) (ht _ q1312) (ht _ q1265)
      · exact va_Fw.of (ht _ q1455) (ht _ q1454) (ht _ q1476) (ht _ q1474) (ht _ q1472)
      · exact va_Fw.of (ht _ q1491) (ht _ q1490) (ht _ q1579) (ht _ q1577) (ht _ q1472)
      · exact va_Fw.of (ht _ q1455) (ht _ q1454) (ht _ q1486) (ht _ q1484) (ht _ q1482)
      · exact va_Fw.of (ht _ q1491) (ht _ q1490) (ht _ q1593) (ht _ q1591) (ht _ q1482)
      · exact va_Fw.of (ht _ q2157) (ht _ q2156) (ht _ q2223) (ht _ q2222) (ht _ q1482)
    · exact hmi
    · exact ⟨va_Nw.of rfl (hs (Cond.methodLink "KeyringCourt$Flow" 71 yQempty) (by decide +kernel)), va_Nw.of rfl (hs (Cond.interfaceMethod yQempty.cls yCempty.cls "isEmpty" "()Z") (by decide +kernel)), va_Nw.of rfl (ht _ q1299), va_Nw.of rfl (ht _ q1304), va_Nw.of rfl (ht _ q1302), va_Nw.of rfl (ht _ q1300)⟩
    · intro E hE E' hE' hne
      simp only [exL, List.mem_cons, List.not_mem_nil, or_false] at hE hE'
      rcases hE with h | h | h <;> rcases hE' with h' | h' | h' <;> subst h <;> subst h' <;> first | exact absurd rfl hne | exact va_Nc.of (hs _ (by decide +kernel))
  have hRO : RO g s s.heap := by
    refine ⟨va_Zof (ht _ q646) (ha _ q92) (va_eqi (hs _ (by decide +kernel))) hA, va_Zof (ht _ q1245) (ha _ q107) (va_eqi (hs _ (by decide +kernel))) hA, va_Zof (ht _ q1247) (ha _ q107) htc hA, ?_, ?_, va_Zof (ht _ q500) (ha _ q75) htd hA, hTD, hX, vx_Zqof (ht _ q181) (ha _ q76) (hs _ (by decide +kernel)) hA, vx_Zqof (ht _ q183) (ha _ q76) (hs _ (by decide +kernel)) hA, hbl, hbl, htdl⟩
    · have : (fun j => Value.ref (gr0 (idc 49 j))) = fun j => .ref (ad j) := by funext j; rw [e49]
      show va_T _ tc 256 (fun j => Value.ref (gr0 (idc 49 j))) _ _ _
      rw [this]; exact hTC
    · have : (fun j => gr0 (idc 49 j)) = ad := by funext j; rw [e49]
      show vb_C (fun j => gr0 (idc 49 j)) _ _ _
      rw [this]; exact hadC
  have hDen : Den g gr0 St0 s.heap := by
    refine ⟨fun K i hK hi => ?_, fun K i K' i' hK _ hi => ?_, fun K i j _ => Or.inl rfl, ⟨fun n _ => rfl, fun K h1 h2 => ?_⟩, ⟨Nat.le_refl _, Nat.le_refl _⟩, Nat.le_refl _⟩
    · have : sK St0 K = 0 := by show (if K < 48 then 0 else 256) = 0; rw [if_pos (by omega)]
      omega
    · have : sK St0 K = 0 := by show (if K < 48 then 0 else 256) = 0; rw [if_pos (by omega)]
      omega
    · show 256 ≤ (if K < 48 then 0 else 256)
      rw [if_neg (by omega)]; exact Nat.le_refl _
  have hlv := lv_entry [Value.ref b] (n := 7) (Nat.le_of_ble_eq_true rfl)
  rw [lg_entry_eq]
  generalize (lg_sl [Value.ref b] ++ List.replicate (7 - (lg_sl [Value.ref b]).length) Slot.unset).toArray = ls at hlv ⊢
  refine W.tight fun _ _ => ?_
  refine tx_law (g := g) (Γ := (p, l, e, room_1, s, m, #[Value.ref b], below, meth, c, lw_Z below #[Value.ref b] s)) (Z := (gr0, St0, eI, fun r _ => r = 1, fun _ _ => False)) (tb := c.exceptionTable.toList) (nm := meth.name) hst rfl
    ⟨hx, hb, hml, hown, ha, hKF, hRO, ⟨Nat.le_of_ble_eq_true rfl, Nat.le_of_ble_eq_true rfl, by show 1200144 = s.heap.size + 1200144 - s.heap.size; omega, by show 5496634 = tot s.heap + 5496634 - tot s.heap; omega⟩, Nat.le_refl _, hlocks, rfl, hst, hr, rfl, ?_⟩ gr0 St0 s.heap [] ls ⟨?_, fun q hq => ?_, (fun v hv => by cases hv), hDen, va_S.rf, Ext.rf⟩ (hlaw g hL)
  · rintro t ⟨o, h1, h2, h3⟩
    refine ⟨o, h1, h2, ?_⟩
    rcases h3 with ⟨⟨⟨r, A', C', ho, hr1, -⟩, -⟩, Lf, hF, hLf⟩ | ⟨q, -, E, ce, Lf, ⟨⟨A', C', hf, -⟩, -⟩, -⟩
    · have hr1 : r = 1 := hr1
      subst hr1
      refine ⟨ho, hF.1, hF.2.1, ?_⟩
      have e1 : gc g - s.heap.size = 1200144 := by show s.heap.size + 1200144 - s.heap.size = 1200144; omega
      have e2 : gs g - tot s.heap = 5496634 := by show tot s.heap + 5496634 - tot s.heap = 5496634; omega
      have h9 := hF.2.2
      rw [e1, e2] at h9
      exact tot_same h9 hLf
    · exact hf.elim
  · exact hlv
  · rw [List.mem_singleton.mp hq]
    exact okV_r (Or.inr ((inN_idc (by omega)).mpr (by show 0 < (if 51 < 48 then 0 else 256); decide)))
