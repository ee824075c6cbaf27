/-! ===== a person answers: taken or not, both sides ===== -/
theorem hrnd {c : Nat} (hc : c ≤ 30000) : ¬ nI c < (-128 : Int32) := by
  rw [Int32.lt_iff_toInt_lt, nI_toInt (by omega), show (-128 : Int32).toInt = -128 from by decide +kernel]
  omega
theorem c_valueOf {v : Vw} {m m0 : Mst} {o : Nat × Int64} {b T : Nat} (h : CC v m m0 o (b + 2) T) (hc : ix (m 0 0) 30001) {P : Nat → Vw → Prop} {X : String → Vw → Prop} (hP : ∀ (v' : Vw) (x : Nat), CC v' m m0 o b T → (isB x ∧ (x % 64 = 20 → x / 64 < vK v' 20)) → bxc (fun i => vM v' 20 i 0) x = m 0 0 → P x v') : h_J17_valueOf (m 0 0) P X v := by
  obtain ⟨c, c1, c2⟩ := hc
  have hb := h.1.bud
  have i128 : (128 : Int32) = nI 128 := by decide +kernel
  have i127 : (127 : Int32) = nI 127 := by decide +kernel
  unfold h_J17_valueOf
  refine hjo_i (hcnd_f (by rw [c2]; exact hrnd (by omega)) (hcnd_i (fun q => ?_) fun q => ?_))
  · refine hnw_i (by omega) (hbn0_i ?_)
    unfold h_J17_init
    refine hbn0_i ?_
    unfold h_J16_init_20
    refine hrt_i (hpI_i (hrt_i (hrt_i (hP _ _ ⟨h.1.box (m 0 0), (h.2.1.oK (K := 20) (n := 1) (Or.inl ⟨by decide, by decide, by decide⟩)).oM (K := 20) rfl, h.2.2⟩ ⟨Or.inl (idc_mod (by decide)), fun _ => ?_⟩ ?_))))
    · show idc 20 (vK v 20) / 64 < up1 (vK v) 20 (vK v 20 + 1) 20
      rw [idc_div (by decide), up1_s]; omega
    · unfold bxc
      rw [if_pos (idc_mod (by decide)), idc_div (by decide)]
      exact up3_s
  · have hle : c ≤ 127 := by
      rw [c2, i127] at q
      exact Classical.byContradiction fun t => q (nI_lt (by omega) (by omega))
    have e1 : m 0 0 + 128 = nI (c + 128) := by rw [c2, i128, nI_add]
    rw [e1]
    refine hasr_i (in_of ⟨?_, by rw [nI_clamp (by omega)]; omega⟩) (hrt_i ?_)
    · rw [← nI_0]; exact nI_le (by omega) (by omega)
    · rw [nI_clamp (by omega)]
      refine hP v _ (h.less (by omega) (Nat.le_refl _)) ⟨Or.inr ⟨idc_mod (by decide), by rw [idc_div (by decide)]; omega⟩, fun t => ?_⟩ ?_
      · rw [idc_mod (by decide)] at t; exact absurd t (by decide)
      · unfold bxc
        rw [if_neg (by rw [idc_mod (by decide)]; decide), idc_div (by decide), c2]
        show nI (c + 128) - 128 = nI c
        rw [i128, pk_sub (by omega), Nat.add_sub_cancel]
/-- a wrong answer noted -/
def wsh (m : Mst) (p : Nat) : Mst := up2 (up2 (up2 m 4 (3 * p) (m 4 (3 * p + 1))) 4 (3 * p + 1) (m 4 (3 * p + 2))) 4 (3 * p + 2) (m 0 0)
theorem wsh_o {m : Mst} {p F : Nat} (h : F ≠ 4) : wsh m p F = m F := by
  unfold wsh
  rw [up2_o h, up2_o h, up2_o h]
theorem c_wadd {v : Vw} {m m0 : Mst} {o : Nat × Int64} {b T p x : Nat} (h : CC v m m0 o (b + 4) T) (hT : T ≤ 1000) (hp : p < 6) (hc : ix (m 0 0) 30001) (hx : isB x ∧ (x % 64 = 20 → x / 64 < vK v 20)) (hv : bxc (fun i => vM v 20 i 0) x = m 0 0) {P : Int32 → Vw → Prop} {X : String → Vw → Prop} (hP : ∀ v', CC v' (wsh m p) m0 o b (T + 1) → P 1 v') : h_J20_add p x P X v := by
  have hb := h.1.bud
  have k15 : vK v 15 = 10 := h.1.hCt.2.2.2.2.2.2.2.2.2.2.1
  have hl := (h.1.hWr p hp).1
  obtain ⟨c, c1, c2⟩ := hc
  have rel := h.1.wadd hp hx hv ⟨c, by omega, c2⟩ (fun hU s hs => by
    show (up1 (vW v) p (vW v p ++ [x]) (6 + s)).Nodup ∧ ∀ y, y ∈ up1 (vW v) p (vW v p ++ [x]) (6 + s) ↔ _
    rw [up1_n (by omega)]
    exact hU s hs)
  exact ⟨⟨by omega, by omega, by omega⟩, hP _ ⟨rel, h.2.1.eqv rfl rfl rfl, h.2.2⟩⟩
/-- an active factor suspended -/
def mSu (m : Mst) (p k : Nat) : Mst := mW (up2 m 1 (3 * p + k) 2) 4 (nI (3 * p + k))
theorem q_suspend_eq {m : Mst} {p k : Nat} (hw : wOK m) (hp : p < 6) (hk : k < 3) : q_suspend (nI p) (nI k) m = some ((), mSu m p k) := by
  unfold q_suspend
  rw [qw_e ix3p (by omega) (by decide), ix3p, qbd_e (q_write_eq (hw.o (by decide)))]
  rfl
theorem c_suspend {v : Vw} {m m0 : Mst} {o : Nat × Int64} {b T p k : Nat} (h : CC v m m0 o (b + 260) T) (hw : wOK m) (hp : p < 6) (hk : k < 3) {P : Unit → Vw → Prop} {X : String → Vw → Prop} (hP : ∀ v', CC v' (mSu m p k) m0 o b T → P () v') : h_X3_suspend p (nI k) P X v := by
  obtain ⟨p1, p2, p3, p4, p5, p6, p7, p8, p9⟩ := h.1.hPe p hp
  obtain ⟨l1, l2, l3⟩ := h.1.hLn.2.2.2.2.2.2.2 p hp
  have h1 : CC (uM v 32 (4 + 3 * p) k 2) (up2 m 1 (3 * p + k) 2) m0 o (b + 260) T := ⟨h.1.arStates p k hp hk 2, h.2.1.oM (by unfold mcl; rw [decide_eq_false (show ¬ 22 ≤ 4 + 3 * p by omega)]; rfl), h.2.2⟩
  unfold h_X3_suspend
  refine hgR_e p2 (hisK_i (hbI_e rfl (by rw [l1]; exact hk) (by omega) (hgR_e p8 (hgI_e (x := nI p) ?_ (hisK_i (hbn0_i ?_))))))
  · show up3 (vM v) 32 (4 + 3 * p) k 2 2 p 0 = nI p
    rw [up3_o (by decide)]; exact p9
  · rw [ix3p]
    exact c_writeC h1 (hw.o (by decide)) ⟨4, by decide, by decide +kernel⟩ ⟨3 * p + k, by omega, rfl⟩ fun v' hv => hrt_i (hP v' hv)
