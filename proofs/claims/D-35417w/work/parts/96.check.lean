/-! ===== operations (25): check ===== -/
theorem nI_or (a b : Nat) : nI a ||| nI b = nI (a ||| b) := by
  apply Int32.toBitVec_inj.1
  show BitVec.ofNat 32 a ||| BitVec.ofNat 32 b = BitVec.ofNat 32 (a ||| b)
  apply BitVec.eq_of_getLsbD_eq
  intro i hi
  simp [hi]
theorem sh_k : ∀ k : Fin 32, ((nI k.1 &&& 31).toBitVec.smod 32).toNat = k.1 := by decide +kernel
theorem bt1_nI {N k : Nat} (hN : N < 2 ^ 31) (hk : k < 31) : bt1 (nI N) k = N.testBit k := by
  unfold bt1
  rw [pk_shrN hN (nI k &&& 31) k (sh_k ⟨k, by omega⟩), pk_andN (by have := Nat.div_le_self N (2 ^ k); omega) 1 (by decide), Nat.testBit_eq_decide_div_mod_eq]
  rw [decide_eq_decide]
  have h2 : N / 2 ^ k % 2 ^ 1 < 2 := Nat.mod_lt _ (by decide)
  constructor
  · intro h
    have := (nI_eq (a := N / 2 ^ k % 2 ^ 1) (b := 1) (by omega) (by omega)).mp (h.trans (by decide +kernel : (1 : Int32) = nI 1))
    exact this
  · intro h
    have h' : N / 2 ^ k % 2 ^ 1 = 1 := h
    rw [h']
    decide +kernel
def kN (p : Nat → Bool) : Nat → Nat
  | 0 => 0
  | k + 1 => kN p k ||| (if p k = true then 2 ^ k else 0)
theorem kN_lt {p : Nat → Bool} : ∀ n, kN p n < 2 ^ n
  | 0 => by show (0 : Nat) < 1; omega
  | n + 1 => by
    have ih := kN_lt (p := p) n
    show kN p n ||| (if p n = true then 2 ^ n else 0) < 2 ^ (n + 1)
    refine Nat.or_lt_two_pow (by omega) ?_
    split
    · exact Nat.pow_lt_pow_right (by decide) (by omega)
    · exact Nat.two_pow_pos _
theorem kN_bit {p : Nat → Bool} {k : Nat} : ∀ n, (kN p n).testBit k = (decide (k < n) && p k)
  | 0 => by simp [kN]
  | n + 1 => by
    have ih := kN_bit (p := p) (k := k) n
    show (kN p n ||| (if p n = true then 2 ^ n else 0)).testBit k = _
    rw [Nat.testBit_or, ih]
    by_cases q : k = n
    · subst q
      cases hp : p k
      · simp
      · rw [if_pos rfl, Nat.testBit_two_pow_self]; simp
    · have e : (if p n = true then 2 ^ n else 0 : Nat).testBit k = false := by
        split
        · rw [Nat.testBit_two_pow]; exact decide_eq_false (fun t => q t.symm)
        · exact Nat.zero_testBit k
      rw [e, Bool.or_false, decide_eq_decide.mpr (show k < n ↔ k < n + 1 by omega)]
theorem one_shl {k : Nat} (hk : k < 31) : (1 : Int32) <<< (nI k &&& 31) = nI (2 ^ k) := by
  have := pk_shlN (n := 1) (nI k &&& 31) k (sh_k ⟨k, by omega⟩) (by rw [Nat.one_mul]; exact Nat.pow_lt_pow_right (by decide) (by omega))
  rw [Nat.one_mul] at this
  exact this
def kyF (a1 : Int32) : (Int32 → PM Unit) → Int32 → PM Unit := (fun r55 => fun u54 => qc ((20 : Int32) ≤ u54) (qrt ()) (qa 67 4 a1 fun v61 => qbd (q_isOpenKey u54) (fun v62 => qbd (α := Int32) (qc (v62 = 0) (qrt (0 : Int32)) (qrt ((1 : Int32) <<< (u54 &&& 31)))) (fun u63 => qw 67 4 a1 (v61 ||| u63) <| r55 (u54 + (1 : Int32))))))
def mKy (m : Mst) (s : Nat) (p : Nat → Bool) (k : Nat) : Mst := up2 m 67 s (nI (kN p k))
theorem q_kyLoop {m : Mst} {s n : Nat} (hs : s < 4) (h60 : m 60 0 = nI n) (hn : n ≤ 20) : qlp (σ := Int32) (kyF (nI s)) (0 : Int32) (up2 m 67 s 0) = some ((), mKy m s (opn (m 0 0) n (m 64) (m 65)) 20) := by
  refine q_loop (N := 20) (s := fun j => nI j) (w := fun j => mKy m s (opn (m 0 0) n (m 64) (m 65)) j) nI_0.symm (fun j hj L => ?_) (fun L => ?_) (by decide)
  · have x67 : mKy m s (opn (m 0 0) n (m 64) (m 65)) j 67 s = nI (kN (opn (m 0 0) n (m 64) (m 65)) j) := up2_s
    have xk := q_openKey (m := mKy m s (opn (m 0 0) n (m 64) (m 65)) j) (k := j) (n := n) h60 hn hj
    have xe : opn (mKy m s (opn (m 0 0) n (m 64) (m 65)) j 0 0) n (mKy m s (opn (m 0 0) n (m 64) (m 65)) j 64) (mKy m s (opn (m 0 0) n (m 64) (m 65)) j 65) j = opn (m 0 0) n (m 64) (m 65) j := rfl
    rw [xe] at xk
    show qc ((20 : Int32) ≤ nI j) _ _ _ = _
    rw [qc_f (by rw [show (20 : Int32) = nI 20 from by decide +kernel]; exact nI_ge hj (by decide)), qa_e rfl hs (by decide), x67, qbd_e xk]
    refine qbd_t (r := if opn (m 0 0) n (m 64) (m 65) j = true then nI (2 ^ j) else 0) (m' := mKy m s (opn (m 0 0) n (m 64) (m 65)) j) ?_ ?_
    · cases hp : opn (m 0 0) n (m 64) (m 65) j
      · rfl
      · show qc ((1 : Int32) = 0) _ _ _ = _
        rw [qc_f one_ne, one_shl (by omega)]; rfl
    · rw [qw_e rfl hs (by decide), nI_1]
      have e : nI (kN (opn (m 0 0) n (m 64) (m 65)) j) ||| (if opn (m 0 0) n (m 64) (m 65) j = true then nI (2 ^ j) else 0) = nI (kN (opn (m 0 0) n (m 64) (m 65)) (j + 1)) := by
        show _ = nI (kN (opn (m 0 0) n (m 64) (m 65)) j ||| (if opn (m 0 0) n (m 64) (m 65) j = true then 2 ^ j else 0))
        rw [← nI_or]
        cases hp : opn (m 0 0) n (m 64) (m 65) j
        · rw [if_neg (by decide), if_neg (by decide), nI_0]
        · rw [if_pos rfl, if_pos rfl]
      rw [e]
      show L (nI (j + 1)) (up2 (mKy m s (opn (m 0 0) n (m 64) (m 65)) j) 67 s (nI (kN (opn (m 0 0) n (m 64) (m 65)) (j + 1)))) = L (nI (j + 1)) (mKy m s (opn (m 0 0) n (m 64) (m 65)) (j + 1))
      unfold mKy
      rw [up2_w]
  · show qc ((20 : Int32) ≤ nI 20) _ _ _ = _
    rw [qc_t (by decide +kernel)]
    rfl
/-- whether a service fetches -/
def ftc (m : Mst) (s t : Nat) : Prop := m 66 s = 0 ∧ (15 < m 0 0 - m 68 s ∨ ((m 67 s >>> (m 58 t &&& 31)) &&& (1 : Int32)) = 0)
def mFt (m : Mst) (s n : Nat) : Mst := up2 (mKy m s (opn (m 0 0) n (m 64) (m 65)) 20) 68 s (m 0 0)
theorem bt1_e {x : Int32} {k : Nat} : ((x >>> (nI k &&& 31)) &&& (1 : Int32)) = (if bt1 x k = true then 1 else 0) := by
  cases h : bt1 x k
  · exact bt1_iff.mpr h
  · have : ¬ ((x >>> (nI k &&& 31)) &&& (1 : Int32)) = 0 := fun t => by rw [bt1_iff.mp t] at h; cases h
    unfold bt1 at h
    exact of_decide_eq_true h
theorem op_check (a d e : Int32) : OpV (fun z => h_X0_check (idc 0 0) a d e z) (q_check a d e) := by
  intro v m T b z x h hI hT
  show OpA (fun z => h_X0_check (idc 0 0) a d e z) (q_check a d e) v m T b z x
  have hb := h.vb
  obtain ⟨d1, d2⟩ := hI.c52 hT
  obtain ⟨f1, f2⟩ := hI.c46 hT
  have c1 : ∀ (P : Int32 → Vw → Prop) (X : String → Vw → Prop), h_X1_check 0 a d e (fun r v' => (hbJ z r.toInt64 <| hrt (0 : Int32)) P X v') (fun E v' => (hhsel [("java/lang/IndexOutOfBoundsException", hrt (1 : Int32)), ("java/lang/IllegalArgumentException", hrt (2 : Int32))] E : PV Int32) P X v') v → h_X0_check (idc 0 0) a d e z P X v := fun P X q => by
    unfold h_X0_check
    exact hisK_i (htry_i q)
  obtain ⟨w, ew⟩ := q_isIn_x e 0 3 m
  rcases q_service_x a m with ⟨s, hs, rfl, e1⟩ | ⟨ha, e1⟩
  rotate_left
  · refine OpA.bad h hI 1 (by decide) ?_ fun P X hP => c1 P X ?_
    · unfold q_check
      rw [qbd_e e1, qbd_e qJ_0, qbd_e ew]
      refine qbd_t q_both_1 ?_
      rfl
    · unfold h_X1_check
      exact hbnd_i (serviceAt_f ha (by omega) (hx_1 (hrt_i hP)))
  rcases ix3 d (n := nn m 52) (by omega) with hd | ⟨t, ht, rfl⟩
  · refine OpA.bad h hI 1 (by decide) ?_ fun P X hP => c1 P X ?_
    · unfold q_check
      rw [qbd_e e1, qbd_e (qJ_2 one_ne (q_Token_f d1 (by omega) hd)), qbd_e ew]
      refine qbd_t q_both_1 ?_
      rfl
    · unfold h_X1_check
      exact hbnd_i (c_serviceAt h.1 hs (hgR_e h.1.1.s7 (hbnd_i (c_at_f (h.1.1.lt13 (by decide)) h.1.1.hL6.1 hd (by omega) (hx_1 (hrt_i hP))))))
  have ct : ∀ (kk : Nat → PV Int32) (P : Int32 → Vw → Prop) (X : String → Vw → Prop), kk (idc 11 t) P X v → (hgR 0 0 7 fun v1 => hbnd (ρ := Int32) (h_X1_at v1 (nI t)) kk) P X v := fun kk P X hk => hgR_e h.1.1.s7 (hbnd_i (c_at (h.1.1.lt13 (by decide)) h.1.1.hL6.1 (by omega) ht (h.1.1.hL6.2 t ht) hk))
  have e2 := q_Token_t d1 (by omega) ht
  by_cases hsc : e < 0 ∨ 3 < e
  · refine OpA.bad h hI 2 (by decide) ?_ fun P X hP => c1 P X ?_
    · unfold q_check
      rw [qbd_e e1, qbd_e (qJ_1 one_ne e2), qbd_e (q_isIn_f hsc)]
      refine qbd_t (q_both_2 one_ne) ?_
      rfl
    · unfold h_X1_check
      exact hbnd_i (c_serviceAt h.1 hs (ct _ _ _ (hisK_i (hbnd_i (c_fit_f hsc (by omega) (hx_s (by decide) (hx_1 (hrt_i hP))))))))
  have hmay : q_mayBoth 1 1 m = some (1, up2 m 82 0 0) := q_both_0 one_ne one_ne
  have hpre : ∀ out : Option (Int32 × Mst), (qa 54 200 (nI t) fun v9 => qc (v9 = nI s) (qI 0 fun v11 => qa 59 200 (nI t) fun v15 => qc (v11 ≤ v15) (qa 66 4 (nI s) fun v20 => qbd (α := Unit) (qc (v20 = 0) (qI 0 fun v46 => qa 68 4 (nI s) fun v50 => qjo (σ := Unit) (fun _ => qw 67 4 (nI s) (0 : Int32) <| qbd (qlp (σ := Int32) (kyF (nI s)) (0 : Int32)) (fun _ => qI 0 fun v67 => qw 68 4 (nI s) v67 <| qrt ())) fun j71 => qc ((15 : Int32) < (v46 - v50)) (j71 ()) (qa 67 4 (nI s) fun v76 => qa 58 200 (nI t) fun v80 => qc (((v76 >>> (v80 &&& 31)) &&& (1 : Int32)) = 0) (j71 ()) (qrt ()))) (qrt ())) (fun _ => qa 67 4 (nI s) fun v24 => qa 58 200 (nI t) fun v28 => qc (((v24 >>> (v28 &&& 31)) &&& (1 : Int32)) = 0) (qrt (3 : Int32)) (qa 57 200 (nI t) fun v34 => qa 69 240 (((60 : Int32) * nI s) + v34) fun v37 => qc (v37 = 0) (qa 55 200 (nI t) fun v42 => qc (((v42 >>> (e &&& 31)) &&& (1 : Int32)) = 0) (qrt (5 : Int32)) (qrt (0 : Int32))) (qrt (4 : Int32))))) (qrt (2 : Int32))) (qrt (1 : Int32))) (up2 m 82 0 0) = out → q_check (nI s) (nI t) e m = out := fun out ho => by
    unfold q_check
    rw [qbd_e e1, qbd_e (qJ_1 one_ne e2), qbd_e (q_isIn_t (fun t => hsc (Or.inl t)) fun t => hsc (Or.inr t))]
    refine qbd_t hmay ?_
    rw [qc_f one_ne]
    exact ho
  have x54 : vM v 11 t 2 = m 54 t := h.1.1.f 11 2 54 (by decide) ht
  have x59 : vM v 11 t 6 = m 59 t := h.1.1.f 11 6 59 (by decide) ht
  have x58 : vM v 11 t 5 = m 58 t := h.1.1.f 11 5 58 (by decide) ht
  have cpre : ∀ (P : Int32 → Vw → Prop) (X : String → Vw → Prop), (hcnd (m 54 t = nI s) (hisK 3 (idc 3 s) fun i9 => hbn0 (h_X4_check i9 (idc 11 t) e) (fun v11 => hrt v11)) (hrt (1 : Int32))) (fun r v' => (hbJ z r.toInt64 <| hrt (0 : Int32)) P X v') (fun E v' => (hhsel [("java/lang/IndexOutOfBoundsException", hrt (1 : Int32)), ("java/lang/IllegalArgumentException", hrt (2 : Int32))] E : PV Int32) P X v') v → h_X0_check (idc 0 0) (nI s) (nI t) e z P X v := fun P X hk => by
    refine c1 P X ?_
    unfold h_X1_check
    exact hbnd_i (c_serviceAt h.1 hs (ct _ _ _ (hisK_i (hbnd_i (c_fit_t (fun t => hsc (Or.inl t)) (Int32.not_lt.mp fun t => hsc (Or.inr t)) (hgI_e x54 hk))))))
  have h1 := h.m82 0
  have hI1 := hI.m82 0
  have g82 : up2 m 82 0 0 82 0 = 0 := up2_s
  by_cases A : m 54 t = nI s
  rotate_left
  · refine OpA.ok (r := 1) (m1 := up2 m 82 0 0) (hpre _ ?_) hI1.up rfl fun P X hP => cpre P X (hcnd_f A (hrt_i (hP v 40000 T (by omega) h1.1)))
    rw [qa_e rfl (by omega) (by decide), qc_f (show ¬ up2 m 82 0 0 54 t = nI s from A)]
    rfl
  have n6 : vN v 3 s 6 = idc 0 0 := (h.1.1.hSe s hs).2.2.2
  by_cases B : m 0 0 ≤ m 59 t
  rotate_left
  · refine OpA.ok (r := 2) (m1 := up2 m 82 0 0) (hpre _ ?_) hI1.up rfl fun P X hP => cpre P X (hcnd_t A (hisK_i (hbn0_i ?_)))
    · rw [qa_e rfl (by omega) (by decide), qc_t (show up2 m 82 0 0 54 t = nI s from A), qI_d, qa_e rfl (by omega) (by decide), qc_f (show ¬ up2 m 82 0 0 0 0 ≤ up2 m 82 0 0 59 t from B)]
      rfl
    · unfold h_X4_check
      exact hgR_e n6 (hisK_i (hgI_e h.1.1.g16 (hisK_i (hgI_e x59 (hcnd_f B (hrt_i (hrt_i (hP v 40000 T (by omega) h1.1))))))))
  obtain ⟨K, s0, k1, k2, k3, k4, -⟩ := hI.pKe
  obtain ⟨-, -, ⟨f, hf, ef⟩, ⟨ky, hky, eky⟩, -⟩ := hI.pTo t ht
  rw [k1, nI_clamp (by omega)] at hky
  have n0 : vN v 11 t 0 = idc 10 f := by
    have := h.1.1.hRt t ht
    rw [ef, rf_ix (by omega)] at this
    exact this
  -- the tail, for any cells
  have qtail : ∀ (M : Mst) (N : Nat), M 67 s = M 67 s → M 58 t = nI ky → M 57 t = nI f → (qa 67 4 (nI s) fun v24 => qa 58 200 (nI t) fun v28 => qc (((v24 >>> (v28 &&& 31)) &&& (1 : Int32)) = 0) (qrt (3 : Int32)) (qa 57 200 (nI t) fun v34 => qa 69 240 (((60 : Int32) * nI s) + v34) fun v37 => qc (v37 = 0) (qa 55 200 (nI t) fun v42 => qc (((v42 >>> (e &&& 31)) &&& (1 : Int32)) = 0) (qrt (5 : Int32)) (qrt (0 : Int32))) (qrt (4 : Int32)))) M = some (if bt1 (M 67 s) ky = false then 3 else if M 69 (60 * s + f) = 0 then (if ((M 55 t >>> (e &&& 31)) &&& (1 : Int32)) = 0 then 5 else 0) else 4, M) := fun M N _ y1 y2 => by
    rw [qa_e rfl hs (by decide), qa_e rfl (by omega) (by decide), y1]
    by_cases q1 : bt1 (M 67 s) ky = false
    · rw [qc_t (bt1_iff.mpr q1), if_pos q1]; rfl
    · rw [qc_f (fun r => q1 (bt1_iff.mp r)), if_neg q1, qa_e rfl (by omega) (by decide), y2, qa_e ix60 (by omega) (by decide)]
      by_cases q2 : M 69 (60 * s + f) = 0
      · rw [qc_t q2, if_pos q2, qa_e rfl (by omega) (by decide)]
        by_cases q3 : ((M 55 t >>> (e &&& 31)) &&& (1 : Int32)) = 0
        · rw [qc_t q3, if_pos q3]; rfl
        · rw [qc_f q3, if_neg q3]; rfl
      · rw [qc_f q2, if_neg q2]; rfl
  have and1 : ∀ w : Int32, (w &&& (1 : Int32)) = 0 ∨ (w &&& (1 : Int32)) = 1 := fun w => by
    obtain ⟨j, j1, j2⟩ := pk_andE w (m := 1) 1 (by decide)
    rw [j2]
    rcases (by omega : j = 0 ∨ j = 1) with r | r <;> subst r
    · exact Or.inl nI_0
    · exact Or.inr (by decide +kernel)
  have ctail : ∀ (M : Mst) (w : Vw) (dd : Nat) (P : Int32 → Vw → Prop) (X : String → Vw → Prop), CC w M m (z + 1, x) (b + dd) T → M 58 t = nI ky → M 57 t = nI f → t < nn M 52 → f < nn M 46 → P (if bt1 (M 67 s) ky = false then 3 else if M 69 (60 * s + f) = 0 then (if ((M 55 t >>> (e &&& 31)) &&& (1 : Int32)) = 0 then 5 else 0) else 4) w → (hgR 3 s 1 fun v10 => hgI 11 t 5 fun v11 => hisK 14 v10 fun i12 => hbn0 (h_J18_get i12 v11) (fun v14 => hcnd (v14 = 0) (hrt (3 : Int32)) (hgR 11 t 0 fun v16 => hbn0 (h_X4_isTold s v16) (fun v17 => hcnd (v17 = 0) (hgI 11 t 3 fun v19 => hcnd (((v19 >>> (e &&& 31)) &&& (1 : Int32)) = (1 : Int32)) (hrt (0 : Int32)) (hrt (5 : Int32))) (hrt (4 : Int32)))))) P X w := fun M w dd P X hw y1 y2 y3 y4 hP => by
    obtain ⟨a1, a2, a3, a4⟩ := hw.1.hCa s hs
    have a1 : vN w 3 s 1 = idc 14 (vN w 3 s 1 / 64) := a1
    have a3 : vN w 3 s 1 / 64 < vK w 14 := a3
    have a5 : vB w (vN w 3 s 1 / 64) ky = bt1 (M 67 s) ky := a4 ky (by omega)
    have hn0 : vN w 11 t 0 = idc 10 f := by
      have := hw.1.hRt t y3
      rw [y2, rf_ix (by omega)] at this
      exact this
    refine hgR_e a1 (hgI_e ((hw.1.f 11 5 58 (by decide) y3).trans y1) (hisK_i (hbn0_i ⟨ky, ⟨rfl, by omega, a3⟩, ?_⟩)))
    rw [a5]
    cases q1 : bt1 (M 67 s) ky
    · rw [if_pos q1] at hP
      exact hcnd_t rfl (hrt_i hP)
    · rw [if_neg (by rw [q1]; decide)] at hP
      refine hcnd_f one_ne (hgR_e hn0 (hbn0_i (c_isTold hw hs y4 (by omega) ?_)))
      by_cases q2 : M 69 (60 * s + f) = 0
      · rw [if_pos q2] at hP
        rw [decide_eq_false (fun t => t q2)]
        refine hcnd_t rfl (hgI_e (hw.1.f 11 3 55 (by decide) y3) (hcnd_i (fun q3 => hrt_i ?_) fun q3 => hrt_i ?_))
        · rw [if_neg (by rw [q3]; decide)] at hP; exact hP
        · rw [if_pos ((and1 _).resolve_right q3)] at hP; exact hP
      · rw [if_neg q2] at hP
        rw [decide_eq_true q2]
        exact hcnd_f one_ne (hrt_i hP)
  have x66 : vM v 3 s 0 = m 66 s := h.1.1.f 3 0 66 (by decide) hs
  have x68 : vM v 3 s 2 = m 68 s := h.1.1.f 3 2 68 (by decide) hs
  obtain ⟨a1, a2, a3, a4⟩ := h.1.1.hCa s hs
  have a1 : vN v 3 s 1 = idc 14 (vN v 3 s 1 / 64) := a1
  have a3 : vN v 3 s 1 / 64 < vK v 14 := a3
  have a5 : vB v (vN v 3 s 1 / 64) ky = bt1 (m 67 s) ky := a4 ky (by omega)
  by_cases F : ftc m s t
  rotate_left
  · -- nothing is fetched
    refine OpA.ok (r := if bt1 (m 67 s) ky = false then 3 else if m 69 (60 * s + f) = 0 then (if ((m 55 t >>> (e &&& 31)) &&& (1 : Int32)) = 0 then 5 else 0) else 4) (m1 := up2 m 82 0 0) (hpre _ ?_) hI1.up rfl fun P X hP => cpre P X (hcnd_t A (hisK_i (hbn0_i ?_)))
    · rw [qa_e rfl (by omega) (by decide), qc_t (show up2 m 82 0 0 54 t = nI s from A), qI_d, qa_e rfl (by omega) (by decide), qc_t (show up2 m 82 0 0 0 0 ≤ up2 m 82 0 0 59 t from B), qa_e rfl hs (by decide)]
      refine qbd_t (r := ()) (m' := up2 m 82 0 0) ?_ (qtail (up2 m 82 0 0) 0 rfl eky ef)
      by_cases q1 : m 66 s = 0
      · rw [qc_t (show up2 m 82 0 0 66 s = 0 from q1), qI_d, qa_e rfl hs (by decide)]
        show qc (15 < m 0 0 - m 68 s) _ _ _ = _
        rw [qc_f (fun r => F ⟨q1, Or.inl r⟩), qa_e rfl hs (by decide), qa_e rfl (by omega) (by decide)]
        rw [qc_f (show ¬ ((up2 m 82 0 0 67 s >>> (up2 m 82 0 0 58 t &&& 31)) &&& (1 : Int32)) = 0 from fun r => F ⟨q1, Or.inr r⟩)]
        rfl
      · rw [qc_f (show ¬ up2 m 82 0 0 66 s = 0 from q1)]; rfl
    · unfold h_X4_check
      refine hgR_e n6 (hisK_i (hgI_e h.1.1.g16 (hisK_i (hgI_e x59 (hcnd_t B (hgI_e x66 (hbnd_i (hcnd_i (fun q1 => hgR_e n6 (hisK_i (hgI_e h.1.1.g16 (hgI_e x68 (hjo_i (hcnd_f (fun r => F ⟨q1, Or.inl r⟩) (hgR_e a1 (hgI_e (x58.trans eky) (hisK_i (hbn0_i ⟨ky, ⟨rfl, by omega, a3⟩, ?_⟩))))))))) ) fun q1 => hrt_i ?_))))))))
      · rw [a5]
        have hbt : bt1 (m 67 s) ky = true := by
          cases q : bt1 (m 67 s) ky
          · exact absurd ⟨q1, Or.inr (by rw [eky]; exact bt1_iff.mpr q)⟩ F
          · rfl
        rw [hbt]
        refine hcnd_f one_ne (hrt_i ?_)
        have := ctail (up2 m 82 0 0) v 40000 (fun r v' => (hrt r : PV Int32) (fun r v' => (hbJ z r.toInt64 <| hrt (0 : Int32)) P X v') (fun E v' => (hhsel [("java/lang/IndexOutOfBoundsException", hrt (1 : Int32)), ("java/lang/IllegalArgumentException", hrt (2 : Int32))] E : PV Int32) P X v') v') (fun _ _ => False) h1.1 eky ef ht hf (hrt_i (hP v 40000 T (by omega) h1.1))
        exact this
      · have := ctail (up2 m 82 0 0) v 40000 (fun r v' => (hrt r : PV Int32) (fun r v' => (hbJ z r.toInt64 <| hrt (0 : Int32)) P X v') (fun E v' => (hhsel [("java/lang/IndexOutOfBoundsException", hrt (1 : Int32)), ("java/lang/IllegalArgumentException", hrt (2 : Int32))] E : PV Int32) P X v') v') (fun _ _ => False) h1.1 eky ef ht hf (hrt_i (hP v 40000 T (by omega) h1.1))
        exact this
  · have g60 : up2 m 82 0 0 60 0 = nI K := k1
    have hky2 := q_kyLoop (m := up2 m 82 0 0) hs g60 k4
    have hFt : ∀ (out : Option (Unit × Mst)), out = some ((), mFt (up2 m 82 0 0) s K) → (qjo (σ := Unit) (fun _ => qw 67 4 (nI s) (0 : Int32) <| qbd (qlp (σ := Int32) (kyF (nI s)) (0 : Int32)) (fun _ => qI 0 fun v67 => qw 68 4 (nI s) v67 <| qrt ())) fun j71 => j71 ()) (up2 m 82 0 0) = out := fun out ho => by
      rw [ho]
      show qw 67 4 (nI s) 0 _ _ = _
      rw [qw_e rfl hs (by decide), qbd_e hky2, qI_d, qw_e rfl hs (by decide)]
      rfl
    have b58 : mFt (up2 m 82 0 0) s K 58 t = nI ky := eky
    have b57 : mFt (up2 m 82 0 0) s K 57 t = nI f := ef
    have b82 : mFt (up2 m 82 0 0) s K 82 0 = 0 := rfl
    have c52 : nn (mFt (up2 m 82 0 0) s K) 52 = nn m 52 := rfl
    have c46 : nn (mFt (up2 m 82 0 0) s K) 46 = nn m 46 := rfl
    have hI2 : Inv (mFt (up2 m 82 0 0) s K) (T + 1) := hI1.up
    have rel : ∀ X : Int32, X = nI (kN (opn (m 0 0) K (m 64) (m 65)) 20) → CC (uM (uN (uBn (uBs v 0 (vB v 0) 3) (vB v 0) 7) 3 s 1 (idc 14 (vK v 14))) 3 s 2 (m 0 0)) (mFt (up2 m 82 0 0) s K) m (z + 1, x) (b + 39000) T := fun X hX => by
      have hXb : ∀ k, k < 20 → bt1 X k = vB v 0 k := fun k hk => by
        have hlt := kN_lt (p := opn (m 0 0) K (m 64) (m 65)) 20
        rw [hX, bt1_nI (by omega) (by omega), kN_bit, decide_eq_true hk, Bool.true_and]
        have := h.1.1.hPu k
        rw [k1, nI_clamp (by omega)] at this
        exact this.symm
      have := (h1.1.1.less (b' := b + 39000 + 10) (by omega) (Nat.le_refl _)).cache hs X hXb
      have e : mFt (up2 m 82 0 0) s K = up2 (up2 (up2 m 82 0 0) 67 s X) 68 s (m 0 0) := by rw [hX]; rfl
      rw [e]
      exact ⟨this, ((h.1.2.1.eqv (v' := uBn (uBs v 0 (vB v 0) 3) (vB v 0) 7) rfl rfl rfl).oN (by decide)).oM rfl, h.1.2.2⟩
    have rel := rel _ rfl
    generalize mFt (up2 m 82 0 0) s K = M at hFt b58 b57 b82 c52 c46 hI2 rel
    refine OpA.ok (r := if bt1 (M 67 s) ky = false then 3 else if M 69 (60 * s + f) = 0 then (if ((M 55 t >>> (e &&& 31)) &&& (1 : Int32)) = 0 then 5 else 0) else 4) (m1 := M) (hpre _ ?_) hI2 b82 fun P X hP => cpre P X (hcnd_t A (hisK_i (hbn0_i ?_)))
    · rw [qa_e rfl (by omega) (by decide), qc_t (show up2 m 82 0 0 54 t = nI s from A), qI_d, qa_e rfl (by omega) (by decide), qc_t (show up2 m 82 0 0 0 0 ≤ up2 m 82 0 0 59 t from B), qa_e rfl hs (by decide)]
      refine qbd_t (r := ()) (m' := M) ?_ (qtail M 0 rfl b58 b57)
      rw [qc_t (show up2 m 82 0 0 66 s = 0 from F.1), qI_d, qa_e rfl hs (by decide)]
      have hj := hFt _ rfl
      show qc (15 < m 0 0 - m 68 s) _ _ _ = _
      by_cases q1 : 15 < m 0 0 - m 68 s
      · rw [qc_t q1]; exact hj
      · rw [qc_f q1, qa_e rfl hs (by decide), qa_e rfl (by omega) (by decide), qc_t (show ((up2 m 82 0 0 67 s >>> (up2 m 82 0 0 58 t &&& 31)) &&& (1 : Int32)) = 0 from F.2.resolve_left q1)]
        exact hj
    · unfold h_X4_check
      have n17 := h.1.1.s17
      have h14 := h.1.1.hCt.2.2.2.2.2.2.2.2.2.1
      have ftch : ∀ (P' : Unit → Vw → Prop) (X' : String → Vw → Prop), P' () (uM (uN (uBn (uBs v 0 (vB v 0) 3) (vB v 0) 7) 3 s 1 (idc 14 (vK v 14))) 3 s 2 (m 0 0)) → (hgR 3 s 6 fun v28 => hisK 0 v28 fun i29 => hgR 0 i29 17 fun v31 => hisK 14 v31 fun i32 => hbn0 (h_J18_clone i32) (fun v34 => hisK 14 v34 fun i35 => hpR 3 s 1 (idc 14 i35) <| hgR 3 s 6 fun v37 => hisK 0 v37 fun i38 => hgI 0 i38 16 fun v40 => hpI 3 s 2 v40 <| hrt ())) P' X' v := fun P' X' hp => by
        refine hgR_e n6 (hisK_i (hgR_e n17 (hisK_i (hbn0_i ⟨⟨by omega, by omega⟩, ?_⟩))))
        refine hisK_i (hpR_i (hgR_e (x := idc 0 0) ?_ (hisK_i (hgI_e (x := m 0 0) h.1.1.g16 (hpI_i (hrt_i hp))))))
        exact (vN_uNk (by decide)).trans n6
      have fin := ctail M _ 39000 (fun r v' => (hrt r : PV Int32) (fun r v' => (hbJ z r.toInt64 <| hrt (0 : Int32)) P X v') (fun E v' => (hhsel [("java/lang/IndexOutOfBoundsException", hrt (1 : Int32)), ("java/lang/IllegalArgumentException", hrt (2 : Int32))] E : PV Int32) P X v') v') (fun _ _ => False) rel b58 b57 (by omega) (by omega) (hrt_i (hP _ 39000 T (by omega) rel))
      refine hgR_e n6 (hisK_i (hgI_e h.1.1.g16 (hisK_i (hgI_e x59 (hcnd_t B (hgI_e x66 (hbnd_i (hcnd_t F.1 (hgR_e n6 (hisK_i (hgI_e h.1.1.g16 (hgI_e x68 (hjo_i (hcnd_i (fun q1 => ftch _ _ fin) fun q1 => hgR_e a1 (hgI_e (x58.trans eky) (hisK_i (hbn0_i ⟨ky, ⟨rfl, by omega, a3⟩, ?_⟩)))))))))))))))))
      rw [a5]
      have hbt : bt1 (m 67 s) ky = false := bt1_iff.mp (by have := F.2.resolve_left q1; rw [eky] at this; exact this)
      rw [hbt]
      exact hcnd_t rfl (ftch _ _ fin)
