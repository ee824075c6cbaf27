/-! ===== the rules: a BitSet's clone, special calls, handlers ===== -/
def clnB {ρ : Type} (i : Nat) (k : Nat → PT ρ) : PT ρ := fun P X C => (sL C 14 i = 3 ∧ (sM C 14 i 2 = 0 ∨ sM C 14 i 2 = 1)) ∧ cln 14 i k P X C
def tryE {α ρ : Type} (f : PT α) (kk : α → PT ρ) (h : String → PT ρ) : PT ρ := fun P X C => f (fun r C' => kk r P X C') (fun E C' => h E P X C') C
def hsel {ρ : Type} : List (String × PT ρ) → String → PT ρ
  | [] => fun _ => stk
  | (n, p) :: t => fun E => cnd (E = n) p (hsel t E)
theorem hsel_mem {ρ : Type} {P : ρ → St → Prop} {X : String → St → Prop} {C : St} : ∀ {l : List (String × PT ρ)} {n : String} {p : PT ρ}, (l.map (·.1)).Nodup → (n, p) ∈ l → hsel l n P X C → p P X C
  | (n0, p0) :: t, n, p, hd, hm, h => by
    rcases List.mem_cons.mp hm with e | hm
    · cases e
      exact h.1 rfl
    · have hd := List.nodup_cons.mp hd
      have hne : n ≠ n0 := fun e => hd.1 (e ▸ List.mem_map.mpr ⟨_, hm, rfl⟩)
      exact hsel_mem hd.2 hm (h.2 hne)
theorem hsel_none {ρ : Type} {P : ρ → St → Prop} {X : String → St → Prop} {C : St} : ∀ {l : List (String × PT ρ)} {n : String}, n ∉ l.map (·.1) → ¬ hsel l n P X C
  | [], n, _, h => h
  | (n0, p0) :: t, n, hn, h => by
    rw [List.map_cons, List.mem_cons, not_or] at hn
    exact hsel_none hn.2 (h.2 hn.1)
abbrev ImH (g : GP) (l : Launch) (d : Nat) (y : MethodName) (b : ByteArray) (L : Nat) (r : Option FieldType) (hh : List (Nat × Nat × Nat × Nat)) {ρ : Type} (emb : ρ → Option Value) (As : List Value) (pr : PT ρ) : Prop := ImW g l d y (wsW_ y b L r hh) emb As pr
section RA
variable {g : GP} {Γ : Cx} {M : Mx} {ρ α : Type} {Z : Zx ρ} {L L' : List (Nat × Value)} {st : List Value} {τ : Type} {Po : τ → St → Prop} {pr pr2 : PT τ}
theorem x_clnB (pc : Nat) {idx i : Nat} {kk : Nat → PT τ} (hown : M.1 = "java/util/BitSet") (hq : Cond.methodLink M.1 idx oCl ∈ lw_all) (hs : Cond.sameMethod "java/lang/Object" "java/lang/Object" "clone" "()Ljava/lang/Object;" ∈ lw_all) (hn : Cond.native oCl ∈ lw_all) (hi' : Cond.instanceMethod oCl ∈ lw_all) (hsup : Cond.superclass "java/util/BitSet" "java/lang/Object" ∈ lw_all) (hno : Cond.noSuperclass "java/lang/Object" ∈ lw_all)
    (hc : Cond.castable "java/util/BitSet" "java/lang/Cloneable" ∈ lw_tbl) (hdd : 1 ≤ M.2.2.2.1) (hst : (st.map fun v => v.category).sum ≤ 8) (hd : decode M.2.1 pc = .ok (.invokespecial idx, 3)) (k1 : ∀ j : Nat, TX g Γ M Z Po (pc + 3) L (.ref (idc 14 j) :: st) (kk j)) : TX g Γ M Z Po pc L (.ref (idc 14 i) :: st) (clnB i kk) := by
  obtain ⟨p, l, e, R, s, m, args, below, meth, c, Q⟩ := Γ
  intro F A C H locs ls S hp
  obtain ⟨⟨h3, h01⟩, ⟨hc1, hs1⟩, hp⟩ := hp
  have hp : kk (sK C 14) Po Z.2.2.2.2 (clC C 14 i) := hp
  have hi : i < sK C 14 := (okN_idc (by omega)).mp (okV_u (okh S.2.2.1))
  have hD := S.2.2.2.1
  have hKF : KF g s := F.2.2.2.2.2.1
  have hts := F.2.2.2.2.1
  obtain ⟨hrep, hlo, hhi⟩ := hD.1 14 i (by omega) hi
  obtain ⟨⟨cell, q1, q2, q3, q4⟩, hsz⟩ := hrep.1 (by omega)
  have hsz := hsz _ q1
  obtain ⟨r1, r2, hRc, hRs⟩ := F.2.2.2.2.2.2.2.1
  have e1 : M.2.2.2.1 ≤ R.frames := r1
  have e2 : 64 * M.2.2.2.1 ≤ R.locals := r2
  have e3 : R.cells = gc g - s.heap.size := hRc
  have e4 : R.slots = gs g - tot s.heap := hRs
  obtain ⟨b1, b2⟩ := hD.2.2.2.2.1
  have hsum := hst_dv (A := A) hst
  obtain ⟨hS, hfc, kC1, hkC, hkind⟩ := hKF.1.1 14 _ (kcl (by omega))
  have hfc' : s.vm.findClass "java/util/BitSet" = some cell.cls := by rw [q2]; exact hfc
  obtain ⟨hload, cO, kB, hO, hkB, hsuper, hni⟩ := bs_loader hfc' (hts _ hsup) (hts _ hno)
  obtain ⟨c0, t0', f1, f2, f3⟩ := Cond.castable_spec (va_Nw.use (A := args) rfl (hKF.2.2.1 _ hc rfl))
  cases hfc'.symm.trans f1
  have hown' : s.vm.findClass M.1 = some m.cls := F.2.2.2.1
  rw [hown] at hown'
  have hmc : m.cls = cell.cls := Option.some.inj (hown'.symm.trans hfc')
  have hin := kin 14 (by omega)
  have hap := va_apart (own := M.1) hts hin (kty 14) (kty_ok 14 (by omega)) (knm 14 (by omega)) hKF.1 (kcl (K := 14) (by omega))
  have hfits : ∀ k, k < 3 → s.fitsSlot cell.cls .none ((gD g).2 14 k) (sv A C 14 i k) = true := by
    intro k hk
    obtain ⟨cf, kf, fi, f, hfi, hsl⟩ := hS k hk
    have hv : narrow (kty 14 k) (sv A C 14 i k) = sv A C 14 i k ∧ fits (kty 14 k) (sv A C 14 i k) = true := by
      rcases (by omega : k = 0 ∨ k = 1 ∨ k = 2) with h | h | h <;> subst h
      · rw [sv_q (show kt 14 0 = 1 from rfl)]
        by_cases hz : sN C 14 i 0 = 62
        · rw [hz]; exact ⟨rfl, rfl⟩
        · rw [dv_r hz]; exact ⟨rfl, rfl⟩
      · rw [sv_i (show kt 14 1 = 0 from rfl)]; exact ⟨rfl, rfl⟩
      · rw [sv_i (show kt 14 2 = 0 from rfl)]
        rcases h01 with h | h <;> rw [h] <;> exact ⟨rfl, rfl⟩
    have hh := (u_fits hfc hkC hkind (u_lays hts hin hk) hfi (kty_ok 14 (by omega) k hk) hv.1 hv.2).2
    rw [hsl] at hh
    rw [q2]; exact hh
  have hidx : ∀ j, j < 3 → ∃ k, k < 3 ∧ (gD g).2 14 k = j := by
    intro j hj
    have l0 := k2_hasslot (q4 0 (by show 0 < 3; omega))
    have l1 := k2_hasslot (q4 1 (by show 1 < 3; omega))
    have l2 := k2_hasslot (q4 2 (by show 2 < 3; omega))
    rw [hsz, h3] at l0 l1 l2
    have a1 := hap 0 1 (by show 0 < 3; omega) (by show 1 < 3; omega) (by omega)
    have a2 := hap 0 2 (by show 0 < 3; omega) (by show 2 < 3; omega) (by omega)
    have a3 := hap 1 2 (by show 1 < 3; omega) (by show 2 < 3; omega) (by omega)
    rcases (by omega : (gD g).2 14 0 = j ∨ (gD g).2 14 1 = j ∨ (gD g).2 14 2 = j) with h | h | h
    · exact ⟨0, by omega, h⟩
    · exact ⟨1, by omega, h⟩
    · exact ⟨2, by omega, h⟩
  show WW _ H locs (F0 m pc ls (dv A (.ref (idc 14 i)) :: st.map (dv A)))
  rw [dv_k (by omega)]
  refine W.tight fun u1 u2 => ?_
  intro T hT X
  have hcellT : T.heap[A (idc 14 i)]? = some cell := by rw [hT]; exact q1
  obtain ⟨vm', X', stp⟩ := st_cloneT X F.1 F.2.2.2.1 (hts _ hq) (hts _ hs) (hts _ hn) (hts _ hi') (dk := kB) (by rw [hmc]; exact hkB) hni hO hsuper (a := A (idc 14 i)) (cell := cell) hcellT (fun k h => by rw [q3] at h; cases h) (by rw [q3]; exact fun h => by cases h) hkB f2 f3
    (fun j v hv => by
      have hj : j < 3 := by
        have := (Array.getElem?_eq_some_iff.mp hv).1
        rwa [hsz, h3] at this
      obtain ⟨k, hk, hkj⟩ := hidx j hj
      have hq := q4 k hk
      rw [hkj, hv] at hq
      cases hq
      have := hfits k hk
      rw [hkj] at this
      rw [← State.fitsSlot_setVm X.warmed.alike] at this
      exact this)
    (gF := F0 m pc ls (.ref (A (idc 14 i)) :: st.map (dv A))) rfl (by rw [F.2.2.1]; exact S.1.1) rfl (by rw [F.2.1]; exact hd) (by omega) (by show 2 * 0 + _ + 14 ≤ _; omega) (by omega) (by rw [hsz]; omega) hload
  have hmr : More C (clC C 14 i) 14 := cl_more
  have hE : Ext C (clC C 14 i) A (up1 A (idc 14 (sK C 14)) H.size) := hmr.ext (by omega)
  have hD' : Den g (up1 A (idc 14 (sK C 14)) H.size) (clC C 14 i) (H.push ({ cls := cell.cls, slots := cell.slots } : Cell)) := by
    refine hD.more (by omega) hmr ?_ ?_ ⟨fun _ => ?_, fun h => absurd h (by omega)⟩ (fun j => ?_)
    · show sC C - 1 + 1 ≤ sC C; omega
    · show sS C - sL C 14 i + cell.slots.size ≤ sS C; rw [hsz]; omega
    · rw [up1_s]
      refine ⟨⟨{ cls := cell.cls, slots := cell.slots }, Array.getElem?_push_size, q2, rfl, fun k hk => ?_⟩, fun ce hce => ?_⟩
      · rw [cl_sv hD hE hi]; exact q4 k hk
      · rw [Array.getElem?_push_size] at hce
        cases hce
        rw [cl_L]; exact hsz
    · rw [cl_N]; exact hmr.oN (hD.2.2.1 14 i j hi)
  have K1 := k1 (sK C 14) F _ (clC C 14 i) _ locs ls (TXs_x S hE (okc (okV_r (Or.inr (hmr.new (by omega)))) (fun v hv => (okt S.2.2.1 v hv).ext hE)) hD' (va_S_push S.2.2.2.2.1)) hp
  rw [List.map_cons, dv_k (by omega), up1_s, dvs_ext hE (okt S.2.2.1)] at K1
  obtain ⟨t, a1, b1⟩ := (W.tight fun _ _ => K1) ((T.setVm vm').pushCell { cls := cell.cls, slots := cell.slots }) (by rw [← hT]; rfl) X'
  refine ⟨t, stp t ?_, b1⟩
  rw [hT]
  exact a1
/-- an instance method of the box's class (a box made or of the cache) -/
theorem x_cVb (pc : Nat) {idx nb n q : Nat} {y : MethodName} {b : ByteArray} {r : Option FieldType} (d : Nat) (As : List Value) (st : List Value) {emb : α → Option Value} {f : PT α} {kk : α → PT τ} (hy : y.cls = "java/lang/Integer") (hc : CV M.1 idx y b nb r n) (hI : Im g Γ.2.1 d y b nb r emb (.ref q :: As) f) (hdd : d + 1 ≤ M.2.2.2.1 ∧ nb ≤ 45) (hn : As.length = n) (hst : (st.map fun v => v.category).sum ≤ 8) (hd : decode M.2.1 pc = .ok (.invokevirtual idx, 3)) (k1 : ∀ q : α, TX g Γ M Z Po (pc + 3) L ((emb q).toList ++ st) (kk q)) : TX g Γ M Z Po pc L (As.reverse ++ .ref q :: st) (asr (isB q) (bn0 f kk)) := by
  obtain ⟨p, l, e, R, s, m, args, below, meth, c, Q⟩ := Γ
  intro F A C H locs ls S hp
  obtain ⟨hbx, hp⟩ := hp
  have hoA : ∀ v ∈ As, okV C v := fun v hv => S.2.2.1 v (List.mem_append_left _ (List.mem_reverse.mpr hv))
  have hor : okV C (.ref q) := S.2.2.1 _ (List.mem_append_right _ List.mem_cons_self)
  have hos : ∀ v ∈ st, okV C v := fun v hv => S.2.2.1 v (List.mem_append_right _ (List.mem_cons_of_mem _ hv))
  have hne : q ≠ 62 := by unfold isB at hbx; omega
  have hcell : ∃ cell : Cell, H[A q]? = some cell ∧ cell.vm.isStatics = false ∧ s.vm.findClass "java/lang/Integer" = some cell.cls := by
    have hxe : idc (q % 64) (q / 64) = q := idc_of q
    rcases hbx with h | ⟨h, h2⟩
    · have hin := (okV_u hor).resolve_left hne
      unfold inN at hin
      rw [h] at hin
      obtain ⟨cell, g1, g2, g3, g4⟩ := tx_cell S.2.2.2.1 F.2.2.2.2.2.1 (K := 20) (i := q / 64) (by omega) hin
      rw [← h, hxe] at g1
      exact ⟨cell, g1, by rw [g2]; rfl, g3⟩
    · obtain ⟨cell, q1, q2, q3⟩ := tx_box (j := q / 64) S.2.2.2.1 F.2.2.2.2.2.2.1 S.2.2.2.2.1 h2
      rw [← h, hxe] at q1
      exact ⟨cell, q1, q2, q3⟩
  have hM := hI A C (fun q C' => kk q Po Z.2.2.2.2 C') (fun _ _ => False) H.size (tot H) (okc hor hoA) hp
  rw [List.map_cons, dv_r hne] at hM
  have hM := met_of_vx hM Qst_no
  have hpre : ∀ U : State, U.heap = H → s.WarmedH U.vm → Pst g A C H.size (tot H) U := fun U hU hW => tx_pre S.2.2.2.1 F.2.2.2.2.2.1 F.2.2.2.2.2.2.1 S.2.2.2.2.1 hU hW
  show WW _ H locs (F0 m pc ls ((As.reverse ++ .ref q :: st).map (dv A)))
  rw [List.map_append, List.map_reverse, List.map_cons, dv_r hne]
  obtain ⟨cell, g1, g2, g3⟩ := hcell
  refine W.tight fun t1 t2 => ?_
  exact tx_go (va_runV (tx_fix F) hM (cwV n F.2.2.2.2.1 (lw_V hc.1 hc.2.1 hc.2.2.1 hc.2.2.2.1 hc.2.2.2.2.1) rfl rfl rfl ⟨rfl, hc.2.2.2.2.2⟩ (tx_fr F hdd)) ⟨Pst_blind, ⟨cell, g1, g2, by rw [hy]; exact g3⟩, fun U hU hW => ⟨rfl, hpre U hU hW⟩⟩ rfl (by rw [List.length_map]; exact hn) S.1.1 rfl (lv_room (hst_dv hst)) hd (tx_room F S.2.2.2.1 t2 t1)) S hos (fun q A' C' H' locs' hPo S' => k1 q F A' C' H' locs' ls S' hPo)
/-- calls of methods that have handlers, and let nothing out -/
def CSW (own : String) (idx : Nat) (y : MethodName) (b : ByteArray) (nb : Nat) (r : Option FieldType) (hh : List (Nat × Nat × Nat × Nat)) (n : Nat) : Prop := Cond.methodLink own idx y ∈ lw_all ∧ Cond.static y ∈ lw_all ∧ Cond.initialized y.cls ∈ lw_all ∧ Cond.codeWith y b nb r hh ∈ lw_all ∧ hdn y n
def CVW (own : String) (idx : Nat) (y : MethodName) (b : ByteArray) (nb : Nat) (r : Option FieldType) (hh : List (Nat × Nat × Nat × Nat)) (n : Nat) : Prop := Cond.methodLink own idx y ∈ lw_all ∧ Cond.instanceMethod y ∈ lw_all ∧ Cond.selects y.cls y y ∈ lw_all ∧ Cond.initialized y.cls ∈ lw_all ∧ Cond.codeWith y b nb r hh ∈ lw_all ∧ hdn y n
theorem x_cSW (pc : Nat) {idx nb n : Nat} {y : MethodName} {b : ByteArray} {r : Option FieldType} {hh : List (Nat × Nat × Nat × Nat)} (d : Nat) (As : List Value) (st : List Value) {emb : α → Option Value} {f : PT α} {kk : α → PT τ} (hc : CSW M.1 idx y b nb r hh n) (hI : ImH g Γ.2.1 d y b nb r hh emb As f) (hdd : d + 1 ≤ M.2.2.2.1 ∧ nb ≤ 45) (hn : As.length = n) (hst : (st.map fun v => v.category).sum ≤ 8) (hd : decode M.2.1 pc = .ok (.invokestatic idx, 3)) (k1 : ∀ q : α, TX g Γ M Z Po (pc + 3) L ((emb q).toList ++ st) (kk q)) : TX g Γ M Z Po pc L (As.reverse ++ st) (bn0 f kk) := by
  obtain ⟨p, l, e, R, s, m, args, below, meth, c, Q⟩ := Γ
  intro F A C H locs ls S hp
  have hoA : ∀ v ∈ As, okV C v := fun v hv => S.2.2.1 v (List.mem_append_left _ (List.mem_reverse.mpr hv))
  have hos : ∀ v ∈ st, okV C v := fun v hv => S.2.2.1 v (List.mem_append_right _ hv)
  have hM := hI A C (fun q C' => kk q Po Z.2.2.2.2 C') (fun _ _ => False) H.size (tot H) hoA hp
  have hM := met_of_vx hM Qst_no
  have hpre : ∀ U : State, U.heap = H → s.WarmedH U.vm → Pst g A C H.size (tot H) U := fun U hU hW => tx_pre S.2.2.2.1 F.2.2.2.2.2.1 F.2.2.2.2.2.2.1 S.2.2.2.2.1 hU hW
  show WW _ H locs (F0 m pc ls ((As.reverse ++ st).map (dv A)))
  rw [List.map_append, List.map_reverse]
  refine W.tight fun t1 t2 => ?_
  exact tx_go (vx_runSW (tx_fix F) hM (vx_cwSW n F.2.2.2.2.1 (lw_SW hc.1 hc.2.1 hc.2.2.1 hc.2.2.2.1) rfl rfl rfl hc.2.2.2.2 (tx_fr F hdd)) ⟨Pst_blind, fun U hU hW => ⟨rfl, hpre U hU hW⟩⟩ rfl (by rw [List.length_map]; exact hn) S.1.1 rfl (lv_room (hst_dv hst)) hd (tx_room F S.2.2.2.1 t2 t1)) S hos (fun q A' C' H' locs' hPo S' => k1 q F A' C' H' locs' ls S' hPo)
theorem x_cVW (pc : Nat) {idx nb n : Nat} {y : MethodName} {b : ByteArray} {r : Option FieldType} {hh : List (Nat × Nat × Nat × Nat)} {K i : Nat} (d : Nat) (As : List Value) (st : List Value) {emb : α → Option Value} {f : PT α} {kk : α → PT τ} (hK : K < 21 ∧ (kC K).1 = y.cls) (hc : CVW M.1 idx y b nb r hh n) (hI : ImH g Γ.2.1 d y b nb r hh emb (.ref (idc K i) :: As) f) (hdd : d + 1 ≤ M.2.2.2.1 ∧ nb ≤ 45) (hn : As.length = n) (hst : (st.map fun v => v.category).sum ≤ 8) (hd : decode M.2.1 pc = .ok (.invokevirtual idx, 3)) (k1 : ∀ q : α, TX g Γ M Z Po (pc + 3) L ((emb q).toList ++ st) (kk q)) : TX g Γ M Z Po pc L (As.reverse ++ .ref (idc K i) :: st) (bn0 f kk) := by
  obtain ⟨p, l, e, R, s, m, args, below, meth, c, Q⟩ := Γ
  intro F A C H locs ls S hp
  have hoA : ∀ v ∈ As, okV C v := fun v hv => S.2.2.1 v (List.mem_append_left _ (List.mem_reverse.mpr hv))
  have hor : okV C (.ref (idc K i)) := S.2.2.1 _ (List.mem_append_right _ List.mem_cons_self)
  have hos : ∀ v ∈ st, okV C v := fun v hv => S.2.2.1 v (List.mem_append_right _ (List.mem_cons_of_mem _ hv))
  have hi : i < sK C K := (okN_idc (by omega)).mp (okV_u hor)
  have hM := hI A C (fun q C' => kk q Po Z.2.2.2.2 C') (fun _ _ => False) H.size (tot H) (okc hor hoA) hp
  rw [List.map_cons, dv_k (by omega)] at hM
  have hM := met_of_vx hM Qst_no
  have hpre : ∀ U : State, U.heap = H → s.WarmedH U.vm → Pst g A C H.size (tot H) U := fun U hU hW => tx_pre S.2.2.2.1 F.2.2.2.2.2.1 F.2.2.2.2.2.2.1 S.2.2.2.2.1 hU hW
  show WW _ H locs (F0 m pc ls ((As.reverse ++ .ref (idc K i) :: st).map (dv A)))
  rw [List.map_append, List.map_reverse, List.map_cons, dv_k (by omega)]
  obtain ⟨cell, g1, g2, g3, g4⟩ := tx_cell S.2.2.2.1 F.2.2.2.2.2.1 (K := K) (i := i) (by omega) hi
  refine W.tight fun t1 t2 => ?_
  exact tx_go (vx_runVW (tx_fix F) hM (vx_cwVW n F.2.2.2.2.1 (lw_VW hc.1 hc.2.1 hc.2.2.1 hc.2.2.2.1 hc.2.2.2.2.1) rfl rfl rfl ⟨rfl, hc.2.2.2.2.2⟩ (tx_fr F hdd)) ⟨Pst_blind, ⟨cell, g1, by rw [g2]; rfl, by rw [← hK.2]; exact g3⟩, fun U hU hW => ⟨rfl, hpre U hU hW⟩⟩ rfl (by rw [List.length_map]; exact hn) S.1.1 rfl (lv_room (hst_dv hst)) hd (tx_room F S.2.2.2.1 t2 t1)) S hos (fun q A' C' H' locs' hPo S' => k1 q F A' C' H' locs' ls S' hPo)
/-- at a handler's start: the stack holds the thing caught -/
def TXq (g : GP) (Γ : Cx) (M : Mx) {ρ : Type} (Z : Zx ρ) {τ : Type} (Po : τ → St → Prop) (pc : Nat) (L : List (Nat × Value)) (pr : PT τ) : Prop :=
  TXok g Γ M.1 M.2.1 M.2.2.1 M.2.2.2.1 M.2.2.2.2.1 M.2.2.2.2.2.1 M.2.2.2.2.2.2 Z →
    ∀ (A : Nat → Nat) (C : St) (H : Heap) (locs : List Loc) (ls : Array Slot) (q : Nat), TXs g Γ Z M.2.2.1 L [] A C H locs ls → pr Po Z.2.2.2.2 C → WW Γ H locs (F0 (cm Γ) pc ls [.ref q])
theorem x_astq_n (pc : Nat) {n : Fin 4} (hd : decode M.2.1 pc = .ok (.astore_n n, 1)) (hn : (n : Nat) < M.2.2.1) (k : TX g Γ M Z Po (pc + 1) (L.filter (fun q => !(q.1 == (n : Nat)) && !(q.1 + 1 == (n : Nat) && q.2.category == 2))) [] pr) : TXq g Γ M Z Po pc L pr := by
  obtain ⟨p, l, e, R, s, m, args, below, meth, c, Q⟩ := Γ
  intro F A C H locs ls q S hp
  refine lv_astore_n (i := (n : Nat)) F.1 F.2.1 hd rfl S.1 hn rfl (fun ls hl => ?_)
  rw [map_flt _ A (fun q => by simp only [dv_cat])] at hl
  exact k F A C H locs ls ⟨⟨hl.1, hl.2.1, fun z hz => hl.2.2 z (List.mem_cons_of_mem _ hz)⟩, fun z hz => S.2.1 z (List.mem_filter.mp hz).1, S.2.2⟩ hp
theorem x_astq (pc : Nat) {n : Nat} (hd : decode M.2.1 pc = .ok (.astore n, 2)) (hn : n < M.2.2.1) (k : TX g Γ M Z Po (pc + 2) (L.filter (fun q => !(q.1 == n) && !(q.1 + 1 == n && q.2.category == 2))) [] pr) : TXq g Γ M Z Po pc L pr := by
  obtain ⟨p, l, e, R, s, m, args, below, meth, c, Q⟩ := Γ
  intro F A C H locs ls q S hp
  refine lv_astore F.1 F.2.1 hd S.1 hn rfl (fun ls hl => ?_)
  rw [map_flt _ A (fun q => by simp only [dv_cat])] at hl
  exact k F A C H locs ls ⟨⟨hl.1, hl.2.1, fun z hz => hl.2.2 z (List.mem_cons_of_mem _ hz)⟩, fun z hz => S.2.1 z (List.mem_filter.mp hz).1, S.2.2⟩ hp
/-- a call that may throw, under handlers; each: its place, the pool's entry, the class, what it does -/
theorem x_cVh (pc : Nat) {idx nb n : Nat} {y : MethodName} {b : ByteArray} {r : Option FieldType} {K i : Nat} (d : Nat) (As : List Value) (st : List Value) {emb : α → Option Value} {f : PT α} {kk : α → PT τ} (hK : K < 21 ∧ (kC K).1 = y.cls) (hc : CV M.1 idx y b nb r n) (hI : Im g Γ.2.1 d y b nb r emb (.ref (idc K i) :: As) f) (hdd : d + 1 ≤ M.2.2.2.1 ∧ nb ≤ 45) (hn : As.length = n) (hst : (st.map fun v => v.category).sum ≤ 8)
    (h0 h1 : Nat) (hs : List (Nat × Nat × String × PT τ)) (htb : M.2.2.2.2.1 = tableOf (hs.map fun h => (h0, h1, h.1, h.2.1))) (hpc : h0 ≤ pc ∧ pc < h1) (hnd : (hs.map (·.2.2.1)).Nodup) (hh : ∀ h ∈ hs, h.2.1 ≠ 0 ∧ Cond.classLink M.1 h.2.1 h.2.2.1 ∈ lw_all ∧ h.2.2.1 ∈ exL ∧ Cond.castable h.2.2.1 h.2.2.1 ∈ lw_tbl)
    (hd : decode M.2.1 pc = .ok (.invokevirtual idx, 3)) (k2 : ∀ h ∈ hs, TXq g Γ M Z Po h.1 L h.2.2.2) (k1 : ∀ q : α, TX g Γ M Z Po (pc + 3) L ((emb q).toList ++ st) (kk q)) : TX g Γ M Z Po pc L (As.reverse ++ .ref (idc K i) :: st) (tryE f kk (hsel (hs.map fun h => (h.2.2.1, h.2.2.2)))) := by
  obtain ⟨p, l, e, R, s, m, args, below, meth, c, Q⟩ := Γ
  intro F A C H locs ls S hp
  have hoA : ∀ v ∈ As, okV C v := fun v hv => S.2.2.1 v (List.mem_append_left _ (List.mem_reverse.mpr hv))
  have hor : okV C (.ref (idc K i)) := S.2.2.1 _ (List.mem_append_right _ List.mem_cons_self)
  have hos : ∀ v ∈ st, okV C v := fun v hv => S.2.2.1 v (List.mem_append_right _ (List.mem_cons_of_mem _ hv))
  have hi : i < sK C K := (okN_idc (by omega)).mp (okV_u hor)
  have hM := hI A C (fun q C' => kk q Po Z.2.2.2.2 C') (fun E C' => hsel (hs.map fun h : Nat × Nat × String × PT τ => (h.2.2.1, h.2.2.2)) E Po Z.2.2.2.2 C') H.size (tot H) (okc hor hoA) hp
  rw [List.map_cons, dv_k (by omega)] at hM
  have hpre : ∀ U : State, U.heap = H → s.WarmedH U.vm → Pst g A C H.size (tot H) U := fun U hU hW => tx_pre S.2.2.2.1 F.2.2.2.2.2.1 F.2.2.2.2.2.2.1 S.2.2.2.2.1 hU hW
  show WW _ H locs (F0 m pc ls ((As.reverse ++ .ref (idc K i) :: st).map (dv A)))
  rw [List.map_append, List.map_reverse, List.map_cons, dv_k (by omega)]
  obtain ⟨cell, g1, g2, g3, g4⟩ := tx_cell S.2.2.2.1 F.2.2.2.2.2.1 (K := K) (i := i) (by omega) hi
  refine W.tight fun t1 t2 => ?_
  refine tx_goX (vx_runV (tx_fix F) hM (cwV n F.2.2.2.2.1 (lw_V hc.1 hc.2.1 hc.2.2.1 hc.2.2.2.1 hc.2.2.2.2.1) rfl rfl rfl ⟨rfl, hc.2.2.2.2.2⟩ (tx_fr F hdd)) ⟨Pst_blind, ⟨cell, g1, by rw [g2]; rfl, by rw [← hK.2]; exact g3⟩, fun U hU hW => ⟨rfl, hpre U hU hW⟩⟩ rfl (by rw [List.length_map]; exact hn) S.1.1 rfl (lv_room (hst_dv hst)) hd (tx_room F S.2.2.2.1 t2 t1)) S hos
    (fun E ce q9 A' C' H' locs' hX S' hc1 hc2 hc3 => ?_)
    (fun q A' C' H' locs' hPo S' => k1 q F A' C' H' locs' ls S' hPo)
  have hmem : E ∈ (hs.map fun h => (h.2.2.1, h.2.2.2)).map (·.1) := Classical.byContradiction fun h => hsel_none h hX
  rw [List.map_map] at hmem
  obtain ⟨h, hm, hE⟩ := List.mem_map.mp hmem
  have hE : h.2.2.1 = E := hE
  subst hE
  have hX2 : h.2.2.2 Po Z.2.2.2.2 C' := hsel_mem (l := hs.map fun h => (h.2.2.1, h.2.2.2)) (by rw [List.map_map]; exact hnd) (List.mem_map.mpr ⟨h, hm, rfl⟩) hX
  obtain ⟨pre, suf, hsplit⟩ := List.append_of_mem hm
  have htab : c.exceptionTable.toList = M.2.2.2.2.1 := F.2.2.2.2.2.2.2.2.2.2.1
  have hKF : KF g s := F.2.2.2.2.2.1
  obtain ⟨z0, z1, z2, z3⟩ := hh h hm
  have hcov : ∀ a b : Nat, covers (⟨h0, h1, a, b⟩ : ExceptionTableEntry) pc = true := fun a b => by simp [covers, hpc.1, hpc.2]
  refine vx_catch F.2.2.2.1 (name := h.2.2.1) (tableOf (pre.map fun h => (h0, h1, h.1, h.2.1))) ⟨h0, h1, h.1, h.2.1⟩ (tableOf (suf.map fun h => (h0, h1, h.1, h.2.1))) ?_ ?_ (hcov _ _) z0 (F.2.2.2.2.1 _ z1) (va_Nw.use rfl (hKF.2.2.1 _ z3 rfl)) hc1 hc2 hc3 ?_
  · rw [htab, htb, hsplit]
    simp [tableOf]
  · intro z hz
    obtain ⟨z9, hz9, rfl⟩ := List.mem_map.mp hz
    obtain ⟨z8, hz8, rfl⟩ := List.mem_map.mp hz9
    right
    obtain ⟨y0, y1, y2, y3⟩ := hh z8 (by rw [hsplit]; exact List.mem_append_left _ hz8)
    refine ⟨y0, z8.2.2.1, F.2.2.2.2.1 _ y1, ?_⟩
    have hne : h.2.2.1 ≠ z8.2.2.1 := by
      rw [hsplit, List.map_append, List.map_cons] at hnd
      intro e9
      have := (List.nodup_append.mp hnd).2.2 _ (List.mem_map.mpr ⟨z8, hz8, rfl⟩) _ List.mem_cons_self
      exact this e9.symm
    exact hKF.2.2.2.2.2.2.2.2.2 _ z2 _ y2 hne
  · exact W.tight fun _ _ => k2 h hm F A' C' H' locs' ls q9 (TXs_st S' (fun v hv => by cases hv)) hX2
end RA
