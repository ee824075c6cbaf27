/-! ===== operations (5): consent, isPublished ===== -/
theorem ix4p {p k : Nat} : ((4 : Int32) * nI p) + nI k = nI (4 * p + k) := by rw [show (4 : Int32) = nI 4 from by decide +kernel, pk_mul, nI_add]
theorem lt_m1 {a : Int32} (h : a < 0) (h1 : ¬ a = -1) : a < -1 := by
  rw [Int32.lt_iff_toInt_lt] at h ⊢
  have h2 : a.toInt ≠ -1 := fun q => h1 (Int32.toInt_inj.mp (by rw [q]; rfl))
  have e0 : (0 : Int32).toInt = 0 := rfl
  have e1 : (-1 : Int32).toInt = -1 := rfl
  omega
abbrev qJ (x : Int32) (g : PM Int32) : PM Int32 := qjo (σ := Unit) (fun _ => qrt (0 : Int32)) fun j => qc (x = 0) (j ()) (qbd g (fun w => qc (w = 0) (j ()) (qrt (1 : Int32))))
theorem qJ_0 {g : PM Int32} {m : Mst} : qJ 0 g m = some (0, m) := rfl
theorem qJ_1 {x : Int32} (hx : x ≠ 0) {g : PM Int32} {m : Mst} (hg : g m = some (1, m)) : qJ x g m = some (1, m) := by
  show qc (x = 0) _ _ m = _
  rw [qc_f hx, qbd_e hg]; rfl
theorem qJ_2 {x : Int32} (hx : x ≠ 0) {g : PM Int32} {m : Mst} (hg : g m = some (0, m)) : qJ x g m = some (0, m) := by
  show qc (x = 0) _ _ m = _
  rw [qc_f hx, qbd_e hg]; rfl
/-- a person or all of them: the model's place, the court's array -/
theorem cons_x (a : Int32) : ((a < -1 ∨ 5 < a) ∧ ¬ a = -1 ∧ (a < 0 ∨ nI 6 ≤ a)) ∨ a = -1 ∨ ∃ p, p < 6 ∧ a = nI p ∧ ¬ a = -1 ∧ ¬ a < -1 ∧ ¬ 5 < a := by
  rcases ix3 a (n := 6) (by decide) with ha | ⟨p, hp, rfl⟩
  · by_cases q : a = -1
    · exact Or.inr (Or.inl q)
    · refine Or.inl ⟨ha.imp (fun r => lt_m1 r q) fun r => ?_, q, ha⟩
      exact Int32.lt_of_lt_of_le (show (5 : Int32) < nI 6 by decide +kernel) r
  · refine Or.inr (Or.inr ⟨p, hp, rfl, ?_, ?_, ?_⟩)
    · intro r
      exact nI_pos (n := p) (by omega) (by rw [r]; decide)
    · intro r
      exact nI_pos (n := p) (by omega) (Int32.lt_of_lt_of_le r (by decide))
    · rw [show (5 : Int32) = nI 5 from by decide +kernel]; exact nI_nlt (by omega) (by decide)
/-- the court's array of consents at w: a person's, or that for all -/
def yCo (w : Nat) : Nat := if w = 6 then 0 else 6 + 3 * w
theorem CRh.arCo {U : (Nat → List Nat) → Prop} {nL : Nat} {v : Vw} {m : Mst} {b T : Nat} (h : CRh U nL v m b T) {w k : Nat} (hw : w ≤ 6) (hk : k < 4) (x : Int32) : CRh U nL (uM v 32 (yCo w) k x) (up2 m 37 (4 * w + k) x) b T := by
  unfold yCo
  by_cases q : w = 6
  · rw [if_pos q, q]; exact h.arForAll k hk x
  · rw [if_neg q]; exact h.arConsents w k (by omega) hk x
theorem yCo_f {U : (Nat → List Nat) → Prop} {nL : Nat} {v : Vw} {m : Mst} {b T : Nat} (h : CRh U nL v m b T) {w k : Nat} (hw : w ≤ 6) (hk : k < 4) : vL v 32 (yCo w) = 4 ∧ vM v 32 (yCo w) k = m 37 (4 * w + k) ∧ mcl 32 (yCo w) = false := by
  unfold yCo
  by_cases q : w = 6
  · rw [if_pos q, q]; exact ⟨h.hLn.2.2.2.1, h.hAr.1 k hk, rfl⟩
  · rw [if_neg q]; exact ⟨(h.hLn.2.2.2.2.2.2.2 w (by omega)).2.2, (h.hAr.2.2.2.2 w (by omega)).2.2 k hk, by unfold mcl; rw [decide_eq_false (show ¬ 22 ≤ 6 + 3 * w by omega)]; rfl⟩
theorem c_consentTail {v : Vw} {m m0 : Mst} {o : Nat × Int64} {b T w k : Nat} (h : CC v m m0 o b T) (hw : w ≤ 6) (hk : k < 4) (a3 : Int32) {P : Int32 → Vw → Prop} {X : String → Vw → Prop} (hP : CC (uM v 32 (yCo w) k (m 37 (4 * w + k) ||| a3)) (up2 m 37 (4 * w + k) (m 37 (4 * w + k) ||| a3)) m0 o b T → P (m 37 (4 * w + k) ||| a3) (uM v 32 (yCo w) k (m 37 (4 * w + k) ||| a3))) : (hisK (ρ := Int32) 32 (idc 32 (yCo w)) fun i6 => haI 32 i6 (nI k) fun v8 => hbI 32 i6 (nI k) (v8 ||| a3) <| haI 32 i6 (nI k) fun v9 => hrt v9) P X v := by
  obtain ⟨l, e, c⟩ := yCo_f h.1 hw hk
  refine hisK_i (haI_e rfl (by rw [l]; exact hk) (by omega) e (hbI_e rfl (by rw [l]; exact hk) (by omega) (haI_e rfl (by show k < vL v 32 (yCo w); rw [l]; exact hk) (by omega) ?_ (hrt_i (hP ?_)))))
  · show up3 (vM v) 32 (yCo w) k _ 32 (yCo w) k = _
    rw [up3_s]
  · exact ⟨h.1.arCo hw hk _, h.2.1.oM c, h.2.2⟩
theorem op_consent (a s c : Int32) : OpV (fun z => h_X0_consent (idc 0 0) a s c z) (q_consent a s c) := by
  intro v m T b z x h hI hT
  have hb := h.vb
  have l15 : (15 : Int32) = nI 15 := by decide +kernel
  have bad : ∀ e : Int32, e ≠ 0 → q_consent a s c m = some (0, up2 m 82 0 e) → (∀ (P : Int32 → Vw → Prop) (X : String → Vw → Prop), P e (ub v 7) → h_X0_consent (idc 0 0) a s c z P X v) → ∃ r m', q_consent a s c m = some (r, m') ∧ Inv m' (T + 1) ∧ ∀ (P : Int32 → Vw → Prop) (X : String → Vw → Prop), (∀ v' y, KK v' m' m (z + 1, y) b (T + 1) → (m' 82 0 = 0 → y = r.toInt64) → P (m' 82 0) v') → h_X0_consent (idc 0 0) a s c z P X v := fun e he q0 q1 => ⟨0, up2 m 82 0 e, q0, (hI.m82 e).up, fun P X hP => q1 P X (by
    have := hP (ub v 7) x (h.th e) (thX he)
    rw [up2_s] at this
    exact this)⟩
  have c1 : ∀ (P : Int32 → Vw → Prop) (X : String → Vw → Prop), h_X1_consent 0 a s c (fun r v' => (hbJ z r.toInt64 <| hrt (0 : Int32)) P X v') (fun E v' => (hhsel [("java/lang/IndexOutOfBoundsException", hrt (1 : Int32)), ("java/lang/IllegalArgumentException", hrt (2 : Int32))] E : PV Int32) P X v') v → h_X0_consent (idc 0 0) a s c z P X v := fun P X q => by
    unfold h_X0_consent
    exact hisK_i (htry_i q)
  have sc : (∃ e, q_isIn c 0 15 m = some (0, m) ∧ e = (2 : Int32) ∧ (c < 0 ∨ 15 < c)) ∨ (q_isIn c 0 15 m = some (1, m) ∧ ¬ c < 0 ∧ c ≤ 15) := by
    by_cases q : c < 0 ∨ 15 < c
    · exact Or.inl ⟨2, q_isIn_f q, rfl, q⟩
    · exact Or.inr ⟨q_isIn_t (fun r => q (Or.inl r)) (fun r => q (Or.inr r)), fun r => q (Or.inl r), Int32.not_lt.mp fun r => q (Or.inr r)⟩
  rcases cons_x a with ⟨ha, ha1, ha2⟩ | hgood
  · refine bad 1 (by decide) ?_ fun P X hP => c1 P X ?_
    · unfold q_consent
      rw [qbd_e (q_isIn_f ha), qbd_e qJ_0]
      rcases sc with ⟨e, q, _⟩ | ⟨q, _⟩ <;> rw [qbd_e q, qbd_e q_both_1] <;> rfl
    · unfold h_X1_consent
      refine hbnd_i (hcnd_f ha1 (hrt_i (hbnd_i (c_there_f ?_ (by omega) (hx_1 (hrt_i hP))))))
      rw [show (6 : Int32) = nI 6 from by decide +kernel]; exact ha2
  · obtain ⟨w, hw, ew, hin, hth, hA⟩ : ∃ w, w ≤ 6 ∧ (∀ m1, (qc (a = (-1 : Int32)) (qrt (6 : Int32)) (qrt a)) m1 = some (nI w, m1)) ∧ q_isIn a (-1) 5 m = some (1, m) ∧ (∀ (kk : Unit → PV Int32) (P : Int32 → Vw → Prop) (X : String → Vw → Prop) (v : Vw), kk () P X v → (hbnd (ρ := Int32) (α := Int32) (hcnd (a = (-1 : Int32)) (hrt (0 : Int32)) (hrt a)) (fun u1 => hbnd (h_X1_there u1 (6 : Int32)) kk)) P X v) ∧ (∀ (kk : Nat → PV Int32) (P : Int32 → Vw → Prop) (X : String → Vw → Prop), kk (idc 32 (yCo w)) P X v → (hbnd (ρ := Int32) (α := Nat) (hcnd (a = (-1 : Int32)) (hgR 0 0 10 fun v12 => hrt v12) (hgR 0 0 0 fun v13 => hisK 36 v13 fun i14 => haR 36 i14 a fun v16 => hisK 2 v16 fun i17 => hgR 2 i17 8 fun v19 => hrt v19)) kk) P X v) := by
      rcases hgood with q | ⟨p, hp, ea, q1, q2, q3⟩
      · refine ⟨6, Nat.le_refl _, fun m1 => ?_, ?_, fun kk P X v hk => ?_, fun kk P X hk => ?_⟩
        · rw [qc_t q]; rfl
        · rw [q]; exact q_isIn_t (by decide) (by decide)
        · exact hbnd_i (hcnd_t q (hrt_i (hbnd_i (c_there_t (by decide) (by decide) hk))))
        · exact hbnd_i (hcnd_t q (hgR_e h.1.1.s10 (hrt_i hk)))
      · have y0 : yCo p = 6 + 3 * p := by unfold yCo; rw [if_neg (by omega)]
        obtain ⟨p1, p2, p3, p4, p5, p6, p7, p8, p9⟩ := h.1.1.hPe p hp
        refine ⟨p, by omega, fun m1 => ?_, q_isIn_t q2 q3, fun kk P X v hk => ?_, fun kk P X hk => ?_⟩
        · rw [qc_f q1, ea]; rfl
        · refine hbnd_i (hcnd_f q1 (hrt_i (hbnd_i (c_there_t ?_ ?_ hk))))
          · rw [ea]; exact nI_pos (by omega)
          · rw [ea, show (6 : Int32) = nI 6 from by decide +kernel]; exact nI_lt hp (by decide)
        · refine hbnd_i (hcnd_f q1 (hgR_e h.1.1.s0 (hisK_i (haR_e ea (by rw [h.1.1.hLn.1]; exact hp) (by omega) p1 (hisK_i (hgR_e p6 (hrt_i ?_)))))))
          rw [y0] at hk
          exact hk
    rcases q_service_x s m with ⟨k, hk, rfl, e1⟩ | ⟨hs, e1⟩
    · rcases sc with ⟨e, q, rfl, q2⟩ | ⟨q, q2, q3⟩
      · refine bad 2 (by decide) ?_ fun P X hP => c1 P X ?_
        · unfold q_consent
          rw [qbd_e hin, qbd_e (qJ_1 one_ne e1), qbd_e q, qbd_e (q_both_2 one_ne)]; rfl
        · unfold h_X1_consent
          exact hth _ _ _ _ (hbnd_i (c_serviceAt h.1 hk (hbnd_i (c_fit_f q2 (by omega) (hx_s (by decide) (hx_1 (hrt_i hP)))))))
      · refine ⟨m 37 (4 * w + k) ||| c, up2 (up2 m 82 0 0) 37 (4 * w + k) (m 37 (4 * w + k) ||| c), ?_, (hI.m82 0).up, fun P X hP => c1 P X ?_⟩
        · unfold q_consent
          rw [qbd_e hin, qbd_e (qJ_1 one_ne e1), qbd_e q, qbd_e (q_both_0 one_ne one_ne), qc_f one_ne, qbd_e (ew _), qa_e ix4p (by omega) (by decide), qw_e ix4p (by omega) (by decide), qa_e ix4p (by omega) (by decide)]
          show some (up2 _ _ _ _ _ _, _) = _
          rw [up2_s]
          rfl
        · unfold h_X1_consent
          refine hth _ _ _ _ (hbnd_i (c_serviceAt h.1 hk (hbnd_i (c_fit_t q2 q3 (hA _ _ _ ?_)))))
          refine c_consentTail (h.m82 0).1 hw hk c fun hv => ?_
          exact KK.ans (m := m) (o := (0, 0)) (m1 := up2 (up2 m 82 0 0) 37 (4 * w + k) (m 37 (4 * w + k) ||| c)) hv rfl hP
    · refine bad 1 (by decide) ?_ fun P X hP => c1 P X ?_
      · unfold q_consent
        rw [qbd_e hin, qbd_e (qJ_2 one_ne e1)]
        rcases sc with ⟨e, q, _⟩ | ⟨q, _⟩ <;> rw [qbd_e q, qbd_e q_both_1] <;> rfl
      · unfold h_X1_consent
        exact hth _ _ _ _ (hbnd_i (serviceAt_f hs (by omega) (hx_1 (hrt_i hP))))
theorem qI_d {ρ : Type} {F : Nat} {k : Int32 → PM ρ} {m : Mst} : qI F k m = k (m F 0) m := rfl
/-- is a key open -/
theorem q_openKey {m : Mst} {k n : Nat} (h : m 60 0 = nI n) (hn : n ≤ 20) (hk : k < 20) : q_isOpenKey (nI k) m = some (if opn (m 0 0) n (m 64) (m 65) k then 1 else 0, m) := by
  show qc (m 60 0 ≤ nI k) _ _ m = _
  rw [h]
  unfold opn
  by_cases q : k < n
  · rw [qc_f (nI_ge q (by omega)), qa_e rfl hk (by decide), decide_eq_true q]
    by_cases r : m 64 k = 0
    · rw [qc_t r, qa_e rfl hk (by decide), decide_eq_true r]
      by_cases t : m 65 k = -1
      · rw [qc_t t, decide_eq_true t]; rfl
      · rw [qc_f t, decide_eq_false t]
        rw [qI_d, qa_e rfl hk (by decide)]
        by_cases u : m 65 k ≤ m 0 0
        · rw [qc_t u, decide_eq_false (Int32.not_lt.mpr u)]; rfl
        · rw [qc_f u, decide_eq_true (Int32.not_le.mp u)]; rfl
    · rw [qc_f r, decide_eq_false r]; rfl
  · rw [qc_t (nI_le (by omega) (by omega)), decide_eq_false q]; rfl
theorem op_isPublished (a : Int32) : OpV (fun z => h_X0_isPublished (idc 0 0) a z) (q_isPublished a) := by
  intro v m T b z x h hI hT
  have hb := h.vb
  obtain ⟨K, s, k1, k2, k3, k4, _⟩ : iKe (m 0 0) (m 60 0) (m 61 0) (m 62 0) (m 63 0) (m 64) (m 65) := hI.2.2.2.2.2.2.2.2.2.2.2.2.2.1
  have fk : vM v 0 0 19 = m 60 0 := h.1.1.f 0 19 60 (by decide) (by show 0 < 1; decide)
  rcases ix3 a (n := K) (by omega) with ha | ⟨k, hk, rfl⟩
  · refine ⟨0, up2 m 82 0 1, ?_, (hI.m82 1).up, fun P X hP => ?_⟩
    · show qbd (q_isIn a 0 (m 60 0 - 1)) _ m = _
      rw [qbd_e (q_up_f k1 (by omega) ha), qbd_e q_may_f]; rfl
    · unfold h_X0_isPublished
      refine hisK_i (htry_i ?_)
      unfold h_X1_isPublished
      refine hgI_e (fk.trans k1) (hbnd_i (c_there_f ha (by omega) (hx_1 (hrt_i ?_))))
      exact hP (ub v 7) x (h.th 1) (thX (by decide))
  · have hu : vB v 0 k = opn (m 0 0) K (m 64) (m 65) k := by
      have := h.1.1.hPu k
      rw [k1, nI_clamp (by omega)] at this
      exact this
    refine ⟨if opn (m 0 0) K (m 64) (m 65) k then 1 else 0, up2 m 82 0 0, ?_, (hI.m82 0).up, fun P X hP => ?_⟩
    · show qbd (q_isIn (nI k) 0 (m 60 0 - 1)) _ m = _
      rw [qbd_e (q_up_t k1 (by omega) hk), qbd_e q_may_t, qc_f one_ne]
      have e : q_isOpenKey (nI k) (up2 m 82 0 0) = some (if opn (m 0 0) K (m 64) (m 65) k then 1 else 0, up2 m 82 0 0) := q_openKey (m := up2 m 82 0 0) k1 k4 (by omega)
      rw [qbd_e e]
      cases opn (m 0 0) K (m 64) (m 65) k <;> rfl
    · unfold h_X0_isPublished
      refine hisK_i (htry_i ?_)
      unfold h_X1_isPublished
      have hbo : (if vB v 0 k then (1 : Int32) else 0) = 0 ∨ (if vB v 0 k then (1 : Int32) else 0) = 1 := by cases vB v 0 k <;> decide
      refine hgI_e (fk.trans k1) (hbnd_i (c_there_t (nI_pos (by omega)) (nI_lt hk (by omega)) (hgR_e h.1.1.s17 (hisK_i (hbn0_i ⟨k, ⟨rfl, by omega, by have := h.1.1.hCt.2.2.2.2.2.2.2.2.2.1; omega⟩, hasr_i hbo (hrt_i ?_)⟩)))))
      rw [hu] at hbo ⊢
      have main : ∀ y : Int64, y = (if opn (m 0 0) K (m 64) (m 65) k then (1 : Int32) else 0).toInt64 → P 0 (uO v z y) := fun y hy => by
        refine hP (uO v z y) y ?_ (fun _ => hy)
        exact (((h.m82 0).less (by omega) (by omega)).long z y)
      refine hbnd_i (hcnd_i (fun q => hrt_i (hbJ_i ?_ (hrt_i (main _ ?_)))) fun q => hrt_i (hbJ_i ?_ (hrt_i (main _ ?_))))
      · rw [h.1.2.2]
      · rw [q]; rfl
      · rw [h.1.2.2]
      · rw [hbo.resolve_left q]; rfl
