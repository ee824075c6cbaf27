/-! ===== levels ===== -/
def bk (f : Bool) (k : Nat) : Int32 := if f then (1 : Int32) <<< (nI k &&& 31) else 0
def fset (f : Nat → Bool) : Int32 := ((0 ||| bk (f 0) 0) ||| bk (f 1) 1) ||| bk (f 2) 2
def lev (f : Nat → Bool) : Int32 := ((0 + (if f 0 then nI 0 + 1 else 0)) + (if f 1 then nI 1 + 1 else 0)) + (if f 2 then nI 2 + 1 else 0)
theorem lev_b : ∀ a b c : Bool, ((((((0 ||| bk a 0) ||| bk b 1) ||| bk c 2) &&& (1 : Int32)) + ((((0 ||| bk a 0) ||| bk b 1) ||| bk c 2) &&& (2 : Int32))) + ((3 : Int32) * (((((0 ||| bk a 0) ||| bk b 1) ||| bk c 2) >>> ((2 : Int32) &&& 31)) &&& (1 : Int32)))) = ((0 + (if a then nI 0 + 1 else 0)) + (if b then nI 1 + 1 else 0)) + (if c then nI 2 + 1 else 0) := by decide +kernel
theorem bt_b : ∀ a b c : Bool, bt1 (((0 ||| bk a 0) ||| bk b 1) ||| bk c 2) 0 = a ∧ bt1 (((0 ||| bk a 0) ||| bk b 1) ||| bk c 2) 1 = b ∧ bt1 (((0 ||| bk a 0) ||| bk b 1) ||| bk c 2) 2 = c := by decide +kernel
theorem st3_b : ∀ a b c : Bool, ((((if a then 0 else 1) ||| (if b then 0 else 2)) ||| (if c then 0 else 4) : Int32)) = ((0 ||| bk (!a) 0) ||| bk (!b) 1) ||| bk (!c) 2 := by decide +kernel
theorem bt_st3 {x : Nat → Int32} {i : Nat} {k : Nat} (hk : k < 3) : bt1 (st3 (x (3 * i)) (x (3 * i + 1)) (x (3 * i + 2))) k = !decide (x (3 * i + k) = -1) := by
  have e : st3 (x (3 * i)) (x (3 * i + 1)) (x (3 * i + 2)) = ((0 ||| bk (!decide (x (3 * i) = -1)) 0) ||| bk (!decide (x (3 * i + 1) = -1)) 1) ||| bk (!decide (x (3 * i + 2) = -1)) 2 := by
    rw [← st3_b]
    unfold st3
    simp only [decide_eq_true_eq]
  obtain ⟨b0, b1, b2⟩ := bt_b (!decide (x (3 * i) = -1)) (!decide (x (3 * i + 1) = -1)) (!decide (x (3 * i + 2) = -1))
  rw [e]
  rcases (by omega : k = 0 ∨ k = 1 ∨ k = 2) with q | q | q <;> subst q
  · exact b0
  · exact b1
  · exact b2
def clF (a1 : Int32) : (Int32 × Int32 → PV Int32) → Int32 × Int32 → PV Int32 := fun r3 => un2 fun u1 u2 => hcnd ((3 : Int32) ≤ u2) (hrt u1) (hcnd (((a1 >>> (u2 &&& 31)) &&& (1 : Int32)) = (1 : Int32)) (r3 ((u1 + (u2 + (1 : Int32))), (u2 + (1 : Int32)))) (r3 ((u1 + (0 : Int32)), (u2 + (1 : Int32)))))
theorem clF_s {a1 u : Int32} {k : Nat} {f : Bool} {r : Int32 × Int32 → PV Int32} {P : Int32 → Vw → Prop} {X : String → Vw → Prop} {v : Vw} (hk : k < 3) (hf : bt1 a1 k = f) (h : r (u + (if f then nI k + 1 else 0), nI (k + 1)) P X v) : clF a1 r (u, nI k) P X v := by
  unfold clF
  refine hun2_i (hcnd_f (by rw [show (3 : Int32) = nI 3 from by decide +kernel]; exact nI_ge hk (by decide)) (hcnd_i (fun q => ?_) fun q => ?_))
  · have : f = true := by rw [← hf]; exact decide_eq_true q
    rw [this] at h
    rw [nI_1] at h ⊢
    exact h
  · have : f = false := by rw [← hf]; exact decide_eq_false q
    rw [this] at h
    rw [nI_1]
    exact h
theorem c_levelOf {a1 : Int32} {f : Nat → Bool} (hf : ∀ k, k < 3 → bt1 a1 k = f k) {P : Int32 → Vw → Prop} {X : String → Vw → Prop} {v : Vw} (h : P (lev f) v) : h_X1_levelOf a1 P X v := by
  refine ⟨4, ?_⟩
  show clF a1 (hlpN (clF a1) 3) (0, 0) P X v
  rw [← nI_0]
  refine clF_s (by decide) (hf 0 (by decide)) ?_
  show clF a1 (hlpN (clF a1) 2) _ P X v
  refine clF_s (by decide) (hf 1 (by decide)) ?_
  show clF a1 (hlpN (clF a1) 1) _ P X v
  refine clF_s (by decide) (hf 2 (by decide)) ?_
  show clF a1 (hlpN (clF a1) 0) _ P X v
  unfold clF
  refine hun2_i (hcnd_t (by decide +kernel) (hrt_i ?_))
  rw [nI_0]
  exact h
/-- what was shown in a session, and is fresh -/
def frb (m : Mst) (s k : Nat) : Bool := !decide (m 36 (3 * s + k) = -1) && !decide ((120 : Int32) < m 0 0 - m 36 (3 * s + k))
def lv (m : Mst) (s : Nat) : Int32 := lev (frb m s)
def lvF (a1 : Int32) : (Int32 × Int32 → PM Int32) → Int32 × Int32 → PM Int32 := fun r3 => un2 fun u1 u2 => qc ((3 : Int32) ≤ u2) (qrt u1) (qa 36 180 (((3 : Int32) * a1) + u2) fun v10 => qjo (σ := Int32) (fun u11 => r3 ((u1 ||| (0 : Int32)), (u11 + (1 : Int32)))) fun j13 => qc (v10 = (-1 : Int32)) (j13 u2) (qI 0 fun v15 => qc ((120 : Int32) < (v15 - v10)) (j13 u2) (r3 ((u1 ||| ((1 : Int32) <<< (u2 &&& 31))), (u2 + (1 : Int32))))))
theorem lvF_s {m : Mst} {s k : Nat} (hs : s < 60) (hk : k < 3) (r : Int32 × Int32 → PM Int32) (u : Int32) : lvF (nI s) r (u, nI k) m = r (u ||| bk (frb m s k) k, nI (k + 1)) m := by
  show qc ((3 : Int32) ≤ nI k) _ _ m = _
  rw [qc_f (by rw [show (3 : Int32) = nI 3 from by decide +kernel]; exact nI_ge hk (by decide)), qa_e ix3p (by omega) (by decide)]
  show qc (m 36 (3 * s + k) = -1) _ _ m = _
  unfold frb
  by_cases h1 : m 36 (3 * s + k) = -1
  · rw [qc_t h1, decide_eq_true h1]
    show r (u ||| 0, nI k + 1) m = _
    rw [nI_1]; rfl
  · rw [qc_f h1, decide_eq_false h1]
    show qc ((120 : Int32) < m 0 0 - m 36 (3 * s + k)) _ _ m = _
    by_cases h2 : (120 : Int32) < m 0 0 - m 36 (3 * s + k)
    · rw [qc_t h2, decide_eq_true h2]
      show r (u ||| 0, nI k + 1) m = _
      rw [nI_1]; rfl
    · rw [qc_f h2, decide_eq_false h2]
      show r (u ||| (1 : Int32) <<< (nI k &&& 31), nI k + 1) m = _
      rw [nI_1]; rfl
theorem lvF_e {m : Mst} {s : Nat} {r : Int32 × Int32 → PM Int32} {u : Int32} : lvF (nI s) r (u, nI (2 + 1)) m = some (u, m) := by
  unfold lvF
  exact qc_t (by decide +kernel)
theorem q_levelNow_eq {m : Mst} {s : Nat} (hs : s < 60) : q_levelNow (nI s) m = some (lv m s, m) := by
  unfold q_levelNow
  have e : qlp (lvF (nI s)) ((0 : Int32), (0 : Int32)) m = some (fset (frb m s), m) := by
    show lvF (nI s) (qlN (lvF (nI s)) 99999) (0, 0) m = _
    rw [show ((0 : Int32), (0 : Int32)) = ((0 : Int32), nI 0) from by rw [nI_0], lvF_s hs (by decide)]
    show lvF (nI s) (qlN (lvF (nI s)) 99998) _ m = _
    rw [lvF_s hs (by decide)]
    show lvF (nI s) (qlN (lvF (nI s)) 99997) _ m = _
    rw [lvF_s hs (by decide)]
    show lvF (nI s) (qlN (lvF (nI s)) 99996) _ m = _
    exact lvF_e
  refine (qbd_e e).trans ?_
  show some (_, m) = _
  unfold lv lev fset
  rw [lev_b (frb m s 0) (frb m s 1) (frb m s 2)]
def c9F (s : Nat) : (Int32 × Int32 → PV Int32) → Int32 × Int32 → PV Int32 := fun r3 => un2 fun u1 u2 => hcnd ((3 : Int32) ≤ u2) (hrt u1) (hgI 8 s 7 fun v7 => hjo (σ := Int32) (fun u8 => r3 ((u1 ||| (0 : Int32)), (u8 + (1 : Int32)))) fun j10 => hcnd (((v7 >>> (u2 &&& 31)) &&& (1 : Int32)) = (1 : Int32)) (hgR 8 s 8 fun v12 => hisK 0 v12 fun i13 => hgI 0 i13 16 fun v15 => hgR 8 s 6 fun v16 => hisK 32 v16 fun i17 => haI 32 i17 u2 fun v19 => hcnd ((120 : Int32) < (v15 - v19)) (j10 u2) (r3 ((u1 ||| ((1 : Int32) <<< (u2 &&& 31))), (u2 + (1 : Int32))))) (j10 u2))
theorem c9F_s {U : (Nat → List Nat) → Prop} {nL : Nat} {v : Vw} {m m0 : Mst} {o : Nat × Int64} {b T s k : Nat} (h : CCh U nL v m m0 o b T) (hs : s < nn m 30) (hk : k < 3) {r : Int32 × Int32 → PV Int32} {u : Int32} {P : Int32 → Vw → Prop} {X : String → Vw → Prop} (hr : r (u ||| bk (frb m s k) k, nI (k + 1)) P X v) : c9F s r (u, nI k) P X v := by
  obtain ⟨a1, a2, a3, a4, a5, a6⟩ := h.1.hSs s hs
  have hbt := bt_st3 (x := m 36) (i := s) hk
  unfold frb at hr
  unfold c9F
  refine hun2_i (hcnd_f (by rw [show (3 : Int32) = nI 3 from by decide +kernel]; exact nI_ge hk (by decide)) (hgI_e a5 (hjo_i ?_)))
  by_cases h1 : m 36 (3 * s + k) = -1
  · rw [decide_eq_true h1] at hr hbt
    refine hcnd_f (fun q => ?_) ?_
    · have : bt1 (st3 (m 36 (3 * s)) (m 36 (3 * s + 1)) (m 36 (3 * s + 2))) k = true := decide_eq_true q
      rw [this] at hbt
      cases hbt
    · show r (u ||| 0, nI k + 1) P X v
      rw [nI_1]; exact hr
  · rw [decide_eq_false h1] at hr hbt
    refine hcnd_t (of_decide_eq_true hbt) (hgR_e (h.1.hT8 s hs) (hisK_i (hgI_e h.1.g16 (hgR_e a1 (hisK_i (haI_e rfl (by rw [a4]; exact hk) (by omega) (a6 k hk h1) ?_))))))
    by_cases h2 : (120 : Int32) < m 0 0 - m 36 (3 * s + k)
    · rw [decide_eq_true h2] at hr
      refine hcnd_t h2 ?_
      show r (u ||| 0, nI k + 1) P X v
      rw [nI_1]; exact hr
    · rw [decide_eq_false h2] at hr
      refine hcnd_f h2 ?_
      rw [nI_1]; exact hr
theorem c_level {U : (Nat → List Nat) → Prop} {nL : Nat} {v : Vw} {m m0 : Mst} {o : Nat × Int64} {b T s : Nat} (h : CCh U nL v m m0 o b T) (hs : s < nn m 30) {P : Int32 → Vw → Prop} {X : String → Vw → Prop} (hP : P (lv m s) v) : h_X9_level s P X v := by
  unfold h_X9_level
  refine hbnd_i ⟨4, ?_⟩
  show c9F s (hlpN (c9F s) 3) (0, 0) _ _ v
  rw [show ((0 : Int32), (0 : Int32)) = ((0 : Int32), nI 0) from by rw [nI_0]]
  refine c9F_s h hs (by decide) ?_
  show c9F s (hlpN (c9F s) 2) _ _ _ v
  refine c9F_s h hs (by decide) ?_
  show c9F s (hlpN (c9F s) 1) _ _ _ v
  refine c9F_s h hs (by decide) ?_
  show c9F s (hlpN (c9F s) 0) _ _ _ v
  unfold c9F
  refine hun2_i (hcnd_t (by decide +kernel) (hrt_i (hbn0_i (c_levelOf (f := frb m s) (fun k hk => ?_) (hrt_i hP)))))
  obtain ⟨b0, b1, b2⟩ := bt_b (frb m s 0) (frb m s 1) (frb m s 2)
  rcases (by omega : k = 0 ∨ k = 1 ∨ k = 2) with q | q | q <;> subst q
  · exact b0
  · exact b1
  · exact b2
theorem op_level (a : Int32) : OpV (fun z => h_X0_level (idc 0 0) a z) (q_level a) := by
  intro v m T b z x h hI hT
  have hb := h.vb
  obtain ⟨c1, c2⟩ := hI.c30 hT
  rcases ix3 a (n := nn m 30) (by omega) with ha | ⟨k, hk, rfl⟩
  · refine ⟨0, up2 m 82 0 1, ?_, (hI.m82 1).up, fun P X hP => ?_⟩
    · unfold q_level
      rw [qbd_e (q_Session_f c1 (by omega) ha), qbd_e q_may_f]; rfl
    · unfold h_X0_level
      refine hisK_i (htry_i ?_)
      unfold h_X1_level
      refine hgR_e h.1.1.s4 (hbnd_i (c_at_f (h.1.1.lt13 (by decide)) h.1.1.hL3.1 ha (by omega) (hx_1 (hrt_i ?_))))
      exact hP (ub v 7) x (h.th 1) (thX (by decide))
  · refine ⟨lv (up2 m 82 0 0) k, up2 m 82 0 0, ?_, (hI.m82 0).up, fun P X hP => ?_⟩
    · unfold q_level
      rw [qbd_e (q_Session_t c1 (by omega) hk), qbd_e q_may_t, qc_f one_ne, qbd_e (q_levelNow_eq (by omega))]; rfl
    · unfold h_X0_level
      refine hisK_i (htry_i ?_)
      unfold h_X1_level
      refine hgR_e h.1.1.s4 (hbnd_i (c_at (h.1.1.lt13 (by decide)) h.1.1.hL3.1 (by omega) hk (h.1.1.hL3.2 k hk) (hisK_i (hbn0_i (c_level (h.m82 0).1 hk (hrt_i ?_))))))
      exact KK.ans (m := m) (o := (0, 0)) (m1 := up2 m 82 0 0) (h.m82 0).1 up2_s hP
