/-! ===== loops; what an operation owes at one state ===== -/
theorem q_loop {σ ρ : Type} {F : (σ → PM ρ) → σ → PM ρ} {s : Nat → σ} {w : Nat → Mst} {N : Nat} {s0 : σ} {out : Option (ρ × Mst)} (e0 : s0 = s 0) (hs : ∀ k, k < N → ∀ L : σ → PM ρ, F L (s k) (w k) = L (s (k + 1)) (w (k + 1))) (he : ∀ L : σ → PM ρ, F L (s N) (w N) = out) (hN : N < 100000) : qlp F s0 (w 0) = out := by
  subst e0
  have key : ∀ d k fuel, k + d = N → d < fuel → qlN F fuel (s k) (w k) = out := by
    intro d
    induction d with
    | zero =>
      intro k fuel hk hf
      obtain ⟨g, rfl⟩ : ∃ g, fuel = g + 1 := ⟨fuel - 1, by omega⟩
      show F (qlN F g) (s k) (w k) = out
      rw [show k = N by omega]
      exact he _
    | succ d ih =>
      intro k fuel hk hf
      obtain ⟨g, rfl⟩ : ∃ g, fuel = g + 1 := ⟨fuel - 1, by omega⟩
      show F (qlN F g) (s k) (w k) = out
      rw [hs k (by omega)]
      exact ih (k + 1) g (by omega) (by omega)
  exact key N 0 100000 (by omega) hN
theorem h_loop {σ ρ : Type} {F : (σ → PV ρ) → σ → PV ρ} {s : Nat → σ} {N : Nat} {s0 : σ} {P : ρ → Vw → Prop} {X : String → Vw → Prop} (J : Nat → Vw → Prop) (e0 : s0 = s 0) (hs : ∀ k v, k < N → J k v → ∀ L : σ → PV ρ, (∀ v', J (k + 1) v' → L (s (k + 1)) P X v') → F L (s k) P X v) (he : ∀ v, J N v → ∀ L : σ → PV ρ, F L (s N) P X v) {v : Vw} (h0 : J 0 v) : hlp F s0 P X v := by
  subst e0
  have key : ∀ d k v, k + d = N → J k v → hlpN F (d + 1) (s k) P X v := by
    intro d
    induction d with
    | zero =>
      intro k v hk hv
      show F (hlpN F 0) (s k) P X v
      rw [show k = N by omega] at hv ⊢
      exact he v hv _
    | succ d ih =>
      intro k v hk hv
      show F (hlpN F (d + 1)) (s k) P X v
      exact hs k v (by omega) hv _ fun v' hv' => ih (k + 1) v' (by omega) hv'
  exact ⟨N + 1, key N 0 v (by omega) h0⟩
theorem qW_d {ρ : Type} {F : Nat} {x : Int32} {k : PM ρ} {m : Mst} : qW F x k m = k (up2 m F 0 x) := rfl
def OpA (h0 : Nat → PV Int32) (q : PM Int32) (v : Vw) (m : Mst) (T b z : Nat) (x : Int64) : Prop := ∃ r m', q m = some (r, m') ∧ Inv m' (T + 1) ∧
  ∀ (P : Int32 → Vw → Prop) (X : String → Vw → Prop), (∀ v' y, KK v' m' m (z + 1, y) b (T + 1) → (m' 82 0 = 0 → y = r.toInt64) → P (m' 82 0) v') → h0 z P X v
theorem OpA.bad {h0 : Nat → PV Int32} {q : PM Int32} {v : Vw} {m : Mst} {T b z : Nat} {x : Int64} (h : KK v m m (z + 1, x) (b + 40000) T) (hI : Inv m T) (e : Int32) (he : e ≠ 0) (q0 : q m = some (0, up2 m 82 0 e)) (q1 : ∀ (P : Int32 → Vw → Prop) (X : String → Vw → Prop), P e (ub v 7) → h0 z P X v) : OpA h0 q v m T b z x :=
  ⟨0, up2 m 82 0 e, q0, (hI.m82 e).up, fun P X hP => q1 P X (by
    have := hP (ub v 7) x (h.th e) (thX he)
    rw [up2_s] at this
    exact this)⟩
theorem OpA.ok {h0 : Nat → PV Int32} {q : PM Int32} {v : Vw} {m : Mst} {T b z : Nat} {x : Int64} {r : Int32} {m1 : Mst} (q0 : q m = some (r, m1)) (hI : Inv m1 (T + 1)) (e82 : m1 82 0 = 0) (q1 : ∀ (P : Int32 → Vw → Prop) (X : String → Vw → Prop), (∀ v' d T', T' ≤ T + 1 → CC v' m1 m (z + 1, x) (b + d) T' → (hbJ z r.toInt64 <| hrt (0 : Int32)) P X v') → h0 z P X v) : OpA h0 q v m T b z x :=
  ⟨r, m1, q0, hI, fun P X hP => q1 P X fun v' d T' hT' hv => by
    refine hbJ_i (by rw [hv.2.2]) (hrt_i ?_)
    have := hP (uO v' z r.toInt64) _ ((KK.less ⟨hv, trivial⟩ (by omega) hT').long z _) (fun _ => rfl)
    rw [e82] at this
    exact this⟩
/-- the same for an operation that the law calls bare -/
def OpE (h0 : PV Int32) (q : PM Int32) (v : Vw) (m : Mst) (T b : Nat) (o : Nat × Int64) : Prop := ∃ r m', q m = some (r, m') ∧ Inv m' (T + 1) ∧
  ∀ (P : Int32 → Vw → Prop) (X : String → Vw → Prop), (∀ v', KK v' m' m o b (T + 1) → P r v') → h0 P X v
theorem OpE.ok {h0 : PV Int32} {q : PM Int32} {v : Vw} {m : Mst} {T b : Nat} {o : Nat × Int64} {r : Int32} {m1 : Mst} (q0 : q m = some (r, m1)) (hI : Inv m1 (T + 1)) (q1 : ∀ (P : Int32 → Vw → Prop) (X : String → Vw → Prop), (∀ v' d T', T' ≤ T + 1 → CC v' m1 m o (b + d) T' → P r v') → h0 P X v) : OpE h0 q v m T b o :=
  ⟨r, m1, q0, hI, fun P X hP => q1 P X fun v' d T' hT' hv => hP v' (KK.less ⟨hv, trivial⟩ (by omega) hT')⟩
theorem bool_t {r : Int32} {z : Nat} {P : Int32 → Vw → Prop} {X : String → Vw → Prop} {v : Vw} (hr : r = 0 ∨ r = 1) (h : (hbJ z r.toInt64 <| hrt (0 : Int32)) P X v) : (hbnd (ρ := Int32) (α := Int64) (hcnd (r = 0) (hrt (0 : Int64)) (hrt (1 : Int64))) (fun u4 => hbJ z u4 <| hrt (0 : Int32))) P X v := by
  rcases hr with rfl | rfl
  · exact hbnd_i (hcnd_t rfl (hrt_i h))
  · exact hbnd_i (hcnd_f (by decide) (hrt_i h))
theorem Inv.pTm {m : Mst} {T : Nat} (h : Inv m T) : iTm (m 0 0) (m 81 0) := h.1
theorem Inv.pCn {m : Mst} {T : Nat} (h : Inv m T) : iCn (m 19 0) (m 30 0) (m 39 0) (m 46 0) (m 52 0) (m 70 0) (m 77 0) T := h.2.1
theorem Inv.pPt {m : Mst} {T : Nat} (h : Inv m T) : nn m 77 + pt m ≤ 4 * T := h.2.2.1
theorem Inv.p5 {m : Mst} {T : Nat} (h : Inv m T) : iBo (m 5) := h.2.2.2.1
theorem Inv.p6 {m : Mst} {T : Nat} (h : Inv m T) : iBo (m 6) := h.2.2.2.2.1
theorem Inv.p7 {m : Mst} {T : Nat} (h : Inv m T) : iBo (m 7) := h.2.2.2.2.2.1
theorem Inv.p8 {m : Mst} {T : Nat} (h : Inv m T) : iBo (m 8) := h.2.2.2.2.2.2.1
theorem Inv.p35 {m : Mst} {T : Nat} (h : Inv m T) : iBo (m 35) := h.2.2.2.2.2.2.2.1
theorem Inv.p51 {m : Mst} {T : Nat} (h : Inv m T) : iBo (m 51) := h.2.2.2.2.2.2.2.2.1
theorem Inv.p64 {m : Mst} {T : Nat} (h : Inv m T) : iBo (m 64) := h.2.2.2.2.2.2.2.2.2.1
theorem Inv.p66 {m : Mst} {T : Nat} (h : Inv m T) : iBo (m 66) := h.2.2.2.2.2.2.2.2.2.2.1
theorem Inv.p69 {m : Mst} {T : Nat} (h : Inv m T) : iBo (m 69) := h.2.2.2.2.2.2.2.2.2.2.2.1
theorem Inv.p73 {m : Mst} {T : Nat} (h : Inv m T) : iBo (m 73) := h.2.2.2.2.2.2.2.2.2.2.2.2.1
theorem Inv.pKe {m : Mst} {T : Nat} (h : Inv m T) : iKe (m 0 0) (m 60 0) (m 61 0) (m 62 0) (m 63 0) (m 64) (m 65) := h.2.2.2.2.2.2.2.2.2.2.2.2.2.1
theorem Inv.pAt {m : Mst} {T : Nat} (h : Inv m T) : iAt (nn m 19) (nn m 9) (m 10) (m 11) (m 20) (m 21) (m 22) (m 23) (m 24) (m 25) := h.2.2.2.2.2.2.2.2.2.2.2.2.2.2.1
theorem Inv.pSe {m : Mst} {T : Nat} (h : Inv m T) : iSe (nn m 30) (m 31) (m 34) := h.2.2.2.2.2.2.2.2.2.2.2.2.2.2.2.1
theorem Inv.pCo {m : Mst} {T : Nat} (h : Inv m T) : iCo (nn m 39) (nn m 30) (nn m 46) (m 40) (m 41) (m 42) (m 45) := h.2.2.2.2.2.2.2.2.2.2.2.2.2.2.2.2.1
theorem Inv.pFa {m : Mst} {T : Nat} (h : Inv m T) : iFa (nn m 46) (nn m 39) (m 47) (m 51) (m 69) := h.2.2.2.2.2.2.2.2.2.2.2.2.2.2.2.2.2.1
theorem Inv.pF0 {m : Mst} {T : Nat} (h : Inv m T) : iF0 (nn m 46) (m 69) := h.2.2.2.2.2.2.2.2.2.2.2.2.2.2.2.2.2.2.1
theorem Inv.pTo {m : Mst} {T : Nat} (h : Inv m T) : iTo (nn m 52) (nn m 46) (m 60 0) (m 53) (m 54) (m 57) (m 58) (m 59) := h.2.2.2.2.2.2.2.2.2.2.2.2.2.2.2.2.2.2.2.1
theorem Inv.pRe {m : Mst} {T : Nat} (h : Inv m T) : iRe (nn m 70) (m 71) (m 74) := h.2.2.2.2.2.2.2.2.2.2.2.2.2.2.2.2.2.2.2.2.1
theorem Inv.pR0 {m : Mst} {T : Nat} (h : Inv m T) : iR0 (nn m 70) (m 74) (m 75) := h.2.2.2.2.2.2.2.2.2.2.2.2.2.2.2.2.2.2.2.2.2.1
theorem Inv.pLi {m : Mst} {T : Nat} (h : Inv m T) : iLi (m 76) := h.2.2.2.2.2.2.2.2.2.2.2.2.2.2.2.2.2.2.2.2.2.2.1
theorem Inv.pEn {m : Mst} {T : Nat} (h : Inv m T) : iEn (nn m 77) (m 78) (m 79) (m 80) := h.2.2.2.2.2.2.2.2.2.2.2.2.2.2.2.2.2.2.2.2.2.2.2.1
theorem Inv.pVe {m : Mst} {T : Nat} (h : Inv m T) : iVe (m 9 0) (m 10 8) (m 10) (m 11) (m 12) (m 13) (m 14) (m 15) := h.2.2.2.2.2.2.2.2.2.2.2.2.2.2.2.2.2.2.2.2.2.2.2.2.1
theorem Inv.pA0 {m : Mst} {T : Nat} (h : Inv m T) : iA0 (nn m 19) (m 26) (m 27) := h.2.2.2.2.2.2.2.2.2.2.2.2.2.2.2.2.2.2.2.2.2.2.2.2.2
theorem Inv.w24 {m : Mst} {T : Nat} (h : Inv m T) (hT : T ≤ 24) : wOK m := by
  have c := ix_nn h.2.1.2.2.2.2.2.2 (by omega)
  obtain ⟨⟨k, h1, h2⟩, ⟨a, h3, h4⟩⟩ := h.1
  exact ⟨c.1, by omega, ⟨a, h3, h4⟩, ⟨k, by omega, h2⟩⟩
theorem mW_cm {m : Mst} {k n x : Int32} {F i : Nat} (h : F ≠ 77 ∧ F ≠ 78 ∧ F ≠ 79 ∧ F ≠ 80 ∧ F ≠ 81) (h0 : F ≠ 0) : mW (up2 m F i x) k n = up2 (mW m k n) F i x := by
  obtain ⟨h1, h2, h3, h4, h5⟩ := h
  have e : nn (up2 m F i x) 77 = nn m 77 := nn_o (Ne.symm h1)
  unfold mW
  have e0 : up2 m F i x 0 0 = m 0 0 := by rw [up2_o (Ne.symm h0)]
  have e1 : up2 m F i x 81 0 = m 81 0 := by rw [up2_o (Ne.symm h5)]
  rw [e, e0, e1, up2_cm (F := F) (F' := 78) h2, up2_cm (F := F) (F' := 79) h3, up2_cm (F := F) (F' := 80) h4, up2_cm (F := F) (F' := 77) h1, up2_cm (F := F) (F' := 81) h5]
/-- the invariant through an entry of the audit -/
theorem Inv.wr {m : Mst} {T : Nat} {k n : Int32} (h : Inv m T) (hT : T ≤ 24) (hk : sml k 6) (hn : sml n 65535) (hle : nn m 77 + 1 + pt m ≤ 4 * T) : Inv (mW m k n) T := by
  have hw := h.w24 hT
  obtain ⟨s1, s2⟩ := mW_sum (k := k) (n := n) hw (by omega) hk hn
  obtain ⟨i1, i2, i3, b5, b6, b7, b8, b35, b51, b64, b66, b69, b73, iK, iA, iS, iC, iFm, iz, iT, iR, iRz, iL, iE, iV, iAz⟩ := h
  have en := iEn_w (k := k) (n := n) hw hk hn iE
  have n77 := nn_w (k := k) (n := n) hw
  obtain ⟨a1, a2, a3, a4, a5, a6, a7⟩ := i2
  refine ⟨s1, ⟨a1, a2, a3, a4, a5, a6, ?_⟩, ?_, b5, b6, b7, b8, b35, b51, b64, b66, b69, b73, iK, iA, iS, iC, iFm, iz, iT, iR, iRz, iL, en, iV, iAz⟩
  · show ix (mW m k n 77 0) _
    rw [s2]
    exact ⟨nn m 77 + 1, by omega, rfl⟩
  · rw [n77]
    show nn m 77 + 1 + pt m ≤ 4 * T
    exact hle
