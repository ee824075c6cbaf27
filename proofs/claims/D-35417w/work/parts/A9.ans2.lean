/-! ===== a person answers: what it comes to ===== -/
def tkB (p : Nat) (a1 a2 a3 : Int32) : PV Int32 := hgR 2 p 2 fun v6 => hbnd (ρ := _) (α := Int32) (hcnd (a2 = 0) (hgR 2 p 2 fun v26 => hisK 32 v26 fun i27 => haI 32 i27 a1 fun v29 => hrt (v29 + (1 : Int32))) (hrt (0 : Int32))) (fun u7 => hisK 32 v6 fun i8 => hbI 32 i8 a1 u7 <| hgR 2 p 2 fun v10 => hisK 32 v10 fun i11 => haI 32 i11 a1 fun v13 => hbnd (ρ := _) (α := Unit) (hcnd (v13 = (5 : Int32)) (hbn0 (h_X3_suspend p a1) (fun _ => hrt ())) (hrt ())) (fun _ => hbnd (ρ := _) (α := Int32) (hjo (σ := Unit) (fun _ => hgI 2 p 3 fun v16 => hrt v16) fun j18 => hcnd (a2 = 0) (j18 ()) (hcnd (a1 = (2 : Int32)) (hrt a3) (j18 ()))) (fun u14 => hpI 2 p 3 u14 <| hasr ((a2 = 0) ∨ (a2 = 1)) (hrt a2))))
def mAn (m : Mst) (p k : Nat) (u : Int32) : Mst := if u = 5 then mSu (up2 m 2 (3 * p + k) u) p k else up2 m 2 (3 * p + k) u
theorem c_tkR {v : Vw} {m m0 : Mst} {o : Nat × Int64} {b T p k : Nat} {u : Int32} (h : CC v m m0 o (b + 260) T) (hw : wOK m) (hp : p < 6) (hk : k < 3) {K : PV Int32} {P : Int32 → Vw → Prop} {X : String → Vw → Prop} (hP : ∀ v', CC v' (mAn m p k u) m0 o b T → K P X v') : (hbI 32 (5 + 3 * p) (nI k) u <| hgR 2 p 2 fun v10 => hisK 32 v10 fun i11 => haI 32 i11 (nI k) fun v13 => hbnd (ρ := Int32) (α := Unit) (hcnd (v13 = (5 : Int32)) (hbn0 (h_X3_suspend p (nI k)) (fun _ => hrt ())) (hrt ())) (fun _ => K)) P X v := by
  obtain ⟨p1, p2, p3, p4, p5, p6, p7, p8, p9⟩ := h.1.hPe p hp
  obtain ⟨l1, l2, l3⟩ := h.1.hLn.2.2.2.2.2.2.2 p hp
  have h1 : CC (uM v 32 (5 + 3 * p) k u) (up2 m 2 (3 * p + k) u) m0 o (b + 260) T := ⟨h.1.arRow p k hp hk u, h.2.1.oM (by unfold mcl; rw [decide_eq_false (show ¬ 22 ≤ 5 + 3 * p by omega)]; rfl), h.2.2⟩
  have e1 : vM (uM v 32 (5 + 3 * p) k u) 32 (5 + 3 * p) k = u := up3_s
  unfold mAn at hP
  refine hbI_e rfl (by rw [l2]; exact hk) (by omega) (hgR_e p3 (hisK_i (haI_e (n := k) (y := u) rfl (show k < vL v 32 (5 + 3 * p) by rw [l2]; exact hk) (by omega) e1 (hbnd_i (hcnd_i (fun q => hbn0_i ?_) fun q => hrt_i ?_)))))
  · rw [if_pos q] at hP
    exact c_suspend h1 (hw.o (by decide)) hp hk fun v2 h2 => hrt_i (hP v2 h2)
  · rw [if_neg q] at hP
    exact hP _ (h1.less (by omega) (Nat.le_refl _))
theorem c_tkB {v : Vw} {m m0 : Mst} {o : Nat × Int64} {b T p k : Nat} {ok n : Int32} (h : CC v m m0 o (b + 260) T) (hw : wOK m) (hp : p < 6) (hk : k < 3) (hok : ok = 0 ∨ ok = 1) {P : Int32 → Vw → Prop} {X : String → Vw → Prop} (h0 : ok = 0 → ∀ v', CC v' (mAn m p k (m 2 (3 * p + k) + 1)) m0 o b T → P 0 v') (h1 : ok = 1 → ∀ v', CC v' (if k = 2 then up2 (mAn m p k 0) 3 p n else mAn m p k 0) m0 o b T → P 1 v') : tkB p (nI k) ok n P X v := by
  obtain ⟨p1, p2, p3, p4, p5, p6, p7, p8, p9⟩ := h.1.hPe p hp
  obtain ⟨l1, l2, l3⟩ := h.1.hLn.2.2.2.2.2.2.2 p hp
  unfold tkB
  rcases hok with e | e
  · subst e
    refine hgR_e p3 (hbnd_i (hcnd_t rfl (hgR_e p3 (hisK_i (haI_e rfl (by rw [l2]; exact hk) (by omega) ((h.1.hAr.2.2.2.2 p hp).2.1 k hk) (hrt_i (hisK_i ?_)))))))
    refine c_tkR h hw hp hk fun v' hv => ?_
    refine hbnd_i (hjo_i (hcnd_t rfl (hgI_e (hv.1.f 2 3 3 (by decide) hp) (hrt_i (hpI_i (hasr_i (Or.inl rfl) (hrt_i (h0 rfl _ ?_))))))))
    have t := hv.1.counter p (mAn m p k (m 2 (3 * p + k) + 1) 3 p)
    rw [up2_eta] at t
    exact ⟨t, hv.2.1.oM rfl, hv.2.2⟩
  · subst e
    refine hgR_e p3 (hbnd_i (hcnd_f one_ne (hrt_i (hisK_i ?_))))
    refine c_tkR h hw hp hk fun v' hv => ?_
    refine hbnd_i (hjo_i (hcnd_f one_ne (hcnd_i (fun q => hrt_i (hpI_i (hasr_i (Or.inr rfl) (hrt_i (h1 rfl _ ?_))))) fun q => hgI_e (hv.1.f 2 3 3 (by decide) hp) (hrt_i (hpI_i (hasr_i (Or.inr rfl) (hrt_i (h1 rfl _ ?_))))))))
    · have k2 : k = 2 := (nI_eq (by omega) (by decide)).mp (q.trans (by decide +kernel : (2 : Int32) = nI 2))
      rw [if_pos k2]
      exact ⟨hv.1.counter p n, hv.2.1.oM rfl, hv.2.2⟩
    · have k2 : ¬ k = 2 := fun t => q (by rw [t]; decide +kernel)
      have t := hv.1.counter p (mAn m p k 0 3 p)
      rw [up2_eta] at t
      rw [if_neg k2]
      exact ⟨t, hv.2.1.oM rfl, hv.2.2⟩
theorem q_shift {M : Mst} {p : Nat} (hp : p < 6) : (qa 4 18 (((3 : Int32) * nI p) + (1 : Int32)) fun v9 => qw 4 18 ((3 : Int32) * nI p) v9 <| qa 4 18 (((3 : Int32) * nI p) + (2 : Int32)) fun v16 => qw 4 18 (((3 : Int32) * nI p) + (1 : Int32)) v16 <| qI 0 fun v20 => qw 4 18 (((3 : Int32) * nI p) + (2 : Int32)) v20 <| qas (((0 : Int32) = 0) ∨ ((0 : Int32) = 1)) (qrt (0 : Int32))) M = some (0, wsh M p) := by
  have x0 : (3 : Int32) * nI p = nI (3 * p) := by rw [show (3 : Int32) = nI 3 from by decide +kernel, pk_mul]
  have x1 : ((3 : Int32) * nI p) + 1 = nI (3 * p + 1) := by rw [x0, nI_1]
  have x2 : ((3 : Int32) * nI p) + 2 = nI (3 * p + 2) := by rw [x0, show (2 : Int32) = nI 2 from by decide +kernel, nI_add]
  have e : up2 M 4 (3 * p) (M 4 (3 * p + 1)) 4 (3 * p + 2) = M 4 (3 * p + 2) := up2_n (fun t => by omega)
  rw [qa_e x1 (by omega) (by decide), qw_e x0 (by omega) (by decide), qa_e x2 (by omega) (by decide), qw_e x1 (by omega) (by decide), qI_d, qw_e x2 (by omega) (by decide), qas_t (Or.inl rfl), e]
  rfl
/-- the court after the test -/
def anK (p : Nat) : Int32 → PV Int32 := fun v1 => hcnd (v1 = 0) (hgR 2 p 9 fun v3 => hgR 2 p 10 fun v4 => hisK 0 v4 fun i5 => hgI 0 i5 16 fun v7 => hbn0 (h_J17_valueOf v7) (fun v8 => hisK 15 v3 fun i9 => hbn0 (h_J20_add i9 v8) (fun v11 => hasr ((v1 = 0) ∨ (v1 = 1)) (hrt v1)))) (hasr ((v1 = 0) ∨ (v1 = 1)) (hrt v1))
theorem c_an0 {v : Vw} {m m0 : Mst} {o : Nat × Int64} {b T p : Nat} (h : CC v m m0 o (b + 6) T) (hT : T ≤ 1000) (hc : ix (m 0 0) 30001) (hp : p < 6) {P : Int32 → Vw → Prop} {X : String → Vw → Prop} (hP : ∀ v', CC v' (wsh m p) m0 o b (T + 1) → P 0 v') : anK p 0 P X v := by
  obtain ⟨p1, p2, p3, p4, p5, p6, p7, p8, p9⟩ := h.1.hPe p hp
  unfold anK
  exact hcnd_t rfl (hgR_e p7 (hgR_e p8 (hisK_i (hgI_e h.1.g16 (hbn0_i (c_valueOf (b := b + 4) h hc fun v' x hv h1 h2 => hisK_i (hbn0_i (c_wadd hv hT hp hc h1 h2 fun v2 hv2 => hasr_i (Or.inl rfl) (hrt_i (hP v2 hv2))))))))))
theorem c_an1 {v : Vw} {p : Nat} {P : Int32 → Vw → Prop} {X : String → Vw → Prop} (hP : P 1 v) : anK p 1 P X v := by
  unfold anK
  exact hcnd_f one_ne (hasr_i (Or.inr rfl) (hrt_i hP))
theorem mSu_o {m : Mst} {p k F : Nat} (h : F ≠ 77 ∧ F ≠ 78 ∧ F ≠ 79 ∧ F ≠ 80 ∧ F ≠ 81) (h1 : F ≠ 1) : mSu m p k F = m F := by
  unfold mSu
  rw [mW_o h, up2_o h1]
/-- what an answer may change -/
def anO (m m' : Mst) : Prop := ∀ F, (F ≠ 77 ∧ F ≠ 78 ∧ F ≠ 79 ∧ F ≠ 80 ∧ F ≠ 81) → (F ≠ 1 ∧ F ≠ 2 ∧ F ≠ 3 ∧ F ≠ 4) → m' F = m F
def anI (m m' : Mst) (T : Nat) : Prop := Inv m' T ∧ nn m' 77 + pt m' ≤ nn m 77 + pt m + 1 ∧ anO m m'
theorem anI.id {m m' : Mst} {T : Nat} (h : Inv m T) (e : Inv m' T) (hp : nn m' 77 + pt m' = nn m 77 + pt m) (ho : anO m m') : anI m m' T := ⟨e, by omega, ho⟩
theorem anI.ws {m m' : Mst} {T p : Nat} (h : anI m m' T) : anI m (wsh m' p) T := by
  obtain ⟨h1, h2, h3⟩ := h
  exact ⟨h1, h2, fun F q1 q2 => (wsh_o q2.2.2.2).trans (h3 F q1 q2)⟩
theorem anI.su {m : Mst} {T p k : Nat} {M : Mst} (h : Inv M T) (hM : nn M 77 + pt M = nn m 77 + pt m) (ho : anO m M) (hT : T ≤ 24) (hp : p < 6) (hk : k < 3) (hle : nn m 77 + 1 + pt m ≤ 4 * T) : anI m (mSu M p k) T := by
  have h1 : Inv (up2 M 1 (3 * p + k) 2) T := h
  have hw := h1.w24 hT
  have n77 := nn_w (k := (4 : Int32)) (n := nI (3 * p + k)) hw
  have h2 := h1.wr (k := (4 : Int32)) (n := nI (3 * p + k)) hT ⟨4, by decide, by decide +kernel⟩ ⟨3 * p + k, by omega, rfl⟩ (show nn M 77 + 1 + pt M ≤ 4 * T by omega)
  refine ⟨h2, ?_, fun F q1 q2 => (mSu_o q1 q2.1).trans (ho F q1 q2)⟩
  have ept : pt (mSu M p k) = pt M := by
    have e := fun F q1 q2 => mSu_o (m := M) (p := p) (k := k) (F := F) q1 q2
    have e30 : nn (mSu M p k) 30 = nn M 30 := congrArg (fun r => (r 0).toNatClampNeg) (e 30 (by decide) (by decide))
    have e46 : nn (mSu M p k) 46 = nn M 46 := congrArg (fun r => (r 0).toNatClampNeg) (e 46 (by decide) (by decide))
    unfold pt
    rw [e 35 (by decide) (by decide), e30, e 51 (by decide) (by decide), e46, e 62 (by decide) (by decide)]
  have e77 : nn (mSu M p k) 77 = nn M 77 + 1 := n77
  rw [ept, e77]
  omega
