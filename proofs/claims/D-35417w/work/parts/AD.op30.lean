/-! ===== operations (30): answer ===== -/
theorem Inv.st2 {m : Mst} {T a : Nat} (h : Inv m T) : Inv (up2 m 25 a 2) T := by
  obtain ⟨i1, i2, i3, b5, b6, b7, b8, b35, b51, b64, b66, b69, b73, iK, iA, iS, iC, iFm, iz, iT, iR, iRz, iL, iE, iV, iAz⟩ := h
  refine ⟨i1, i2, i3, b5, b6, b7, b8, b35, b51, b64, b66, b69, b73, iK, ?_, iS, iC, iFm, iz, iT, iR, iRz, iL, iE, iV, iAz⟩
  intro i hi
  obtain ⟨j1, j2, j3, j4, j5, j6⟩ := iA i hi
  refine ⟨j1, j2, j3, j4, j5, fun t => j6 ?_⟩
  have t : up2 m 25 a 2 25 i = 0 := t
  by_cases q : i = a
  · subst q
    rw [up2_s] at t
    exact absurd t (by decide)
  · rw [up2_n (fun s => q s.2)] at t
    exact t
theorem CCh.cc {v : Vw} {M M' m0 : Mst} {o : Nat × Int64} {b T : Nat} (h : CCh (fun W => gUn W (M 51) (M 69) (nn M 46) (M 57) (M 54) (nn M 52)) (nn M 19) v M' m0 o b T) (e51 : M' 51 = M 51) (e69 : M' 69 = M 69) (e46 : M' 46 = M 46) (e57 : M' 57 = M 57) (e54 : M' 54 = M 54) (e52 : M' 52 = M 52) (e19 : M' 19 = M 19) : CC v M' m0 o b T := by
  show CCh (fun W => gUn W (M' 51) (M' 69) (nn M' 46) (M' 57) (M' 54) (nn M' 52)) (nn M' 19) v M' m0 o b T
  have n46 : nn M' 46 = nn M 46 := congrArg (fun r => (r 0).toNatClampNeg) e46
  have n52 : nn M' 52 = nn M 52 := congrArg (fun r => (r 0).toNatClampNeg) e52
  have n19 : nn M' 19 = nn M 19 := congrArg (fun r => (r 0).toNatClampNeg) e19
  rw [e51, e69, n46, e57, e54, n52, n19]
  exact h
theorem CCh.awr {U : (Nat → List Nat) → Prop} {nL : Nat} {v : Vw} {m m0 : Mst} {o : Nat × Int64} {b T : Nat} (h : CCh U nL v m m0 o b T) (a : Nat) (x : Int32) : CCh U nL (uM v 7 a 5 x) (up2 m 26 a x) m0 o b T := ⟨h.1.wrong a x, h.2.1.oM rfl, h.2.2⟩
theorem CCh.aan {U : (Nat → List Nat) → Prop} {nL : Nat} {v : Vw} {m m0 : Mst} {o : Nat × Int64} {b T : Nat} (h : CCh U nL v m m0 o b T) (a : Nat) (x : Int32) : CCh U nL (uM v 7 a 6 x) (up2 m 27 a x) m0 o b T := ⟨h.1.answers a x, h.2.1.oM rfl, h.2.2⟩
theorem CCh.shA {U : (Nat → List Nat) → Prop} {nL : Nat} {v : Vw} {m m0 : Mst} {o : Nat × Int64} {b T s k y3 : Nat} {now set : Int32} (h : CCh U nL v m m0 o b T) (hs : s < nn m 19) (hk : k < 3) (hy : vN v 7 s 8 = idc 32 y3) (h79 : 79 ≤ y3) (hn : now ≠ -1) (hset : set = vM v 7 s 9 ||| ((1 : Int32) <<< (nI k &&& 31))) : CCh U nL (uM (uM v 7 s 9 set) 32 y3 k now) (up2 m 29 (3 * s + k) now) m0 o b T := ⟨h.1.showA hs hk hy hn hset, (h.2.1.oM rfl).oM (by
  unfold mcl
  rw [decide_eq_false (show ¬ y3 < 79 by omega)]
  simp), h.2.2⟩
/-- go on from a step, where court and model agree -/
theorem go_cc {m m0 : Mst} {o : Nat × Int64} {T T' a : Nat} {u : Int32} (ha : a < nn m 19) (hI : Inv m T) (hT : T ≤ 24) (h25 : m 25 a = 0) (h30 : nn m 30 < T) (hle : nn m 77 + pt m + 2 ≤ 4 * T) (hu : ixn u (m 10 (m 23 a).toNatClampNeg).toNatClampNeg) : ∃ M', q_go (nI a) u m = some ((), M') ∧ Inv M' T ∧ M' 82 = m 82 ∧ M' 27 = m 27 ∧ nn M' 19 = nn m 19 ∧ ∀ (b : Nat) (v : Vw) (P : Unit → Vw → Prop) (X : String → Vw → Prop), CC v m m0 o (b + 1000) T' → (∀ v', CC v' M' m0 o b T' → P () v') → h_X8_go a u P X v := by
  obtain ⟨M', g1, g2, g3, g4⟩ := go_do (m := m) (m0 := m0) (o := o) (T := T) (T' := T') (a := a) (x := m 24 a) (y := m 26 a) (u := u) ha (by rw [up2_eta]; exact hI.st2) hT h25 h30 hle hu
  have g := fun F q1 q2 q3 q4 q5 => g3 F q1 q2 q3 q4 q5
  refine ⟨M', g1, g2, g 82 (by decide) (by decide) (by decide) (by decide) (by decide), g 27 (by decide) (by decide) (by decide) (by decide) (by decide), congrArg (fun r => (r 0).toNatClampNeg) (g 19 (by decide) (by decide) (by decide) (by decide) (by decide)), fun b v P X h hP => ?_⟩
  have e : up2 (up2 m 24 a (m 24 a)) 26 a (m 26 a) = m := by rw [up2_eta, up2_eta]
  refine g4 (fun W => gUn W (m 51) (m 69) (nn m 46) (m 57) (m 54) (nn m 52)) (nn m 19) b v P X (by rw [e]; exact h) fun v' hv => hP v' ?_
  exact CCh.cc hv (g 51 (by decide) (by decide) (by decide) (by decide) (by decide)) (g 69 (by decide) (by decide) (by decide) (by decide) (by decide)) (g 46 (by decide) (by decide) (by decide) (by decide) (by decide)) (g 57 (by decide) (by decide) (by decide) (by decide) (by decide)) (g 54 (by decide) (by decide) (by decide) (by decide) (by decide)) (g 52 (by decide) (by decide) (by decide) (by decide) (by decide)) (g 19 (by decide) (by decide) (by decide) (by decide) (by decide))
