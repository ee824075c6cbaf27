/-! ===== the court's methods over views (printed by gen/views.py) ===== -/
def h_X0_pass (a1 : Nat) (a2 : Int32) (a3 : Nat) : PV Int32 := hisK 0 a1 fun i1 => htryE (h_X1_pass i1 a2) (fun v3 => hbJ a3 v3.toInt64 <| hrt (0 : Int32)) (hhsel [("java/lang/IllegalArgumentException", hrt (1 : Int32)), ("java/lang/IllegalStateException", hrt (2 : Int32))])
theorem s_X0_pass (a1 : Nat) (a2 : Int32) (a3 : Nat) : Sim (h_X0_pass a1 a2 a3) (f_X0_pass a1 a2 a3) := by
  unfold h_X0_pass f_X0_pass
  refine s_isK fun i1 => ?_
  refine s_tryE (s_X1_pass i1 a2) (fun v3 => ?_) (fun E => ?_)
  · refine s_bJ ?_
    exact s_rt _
  · refine s_hsel1 E ?_ ?_
    · exact s_rt _
    refine s_hsel1 E ?_ ?_
    · exact s_rt _
    exact s_hsel0 E
def h_X0_enroll (a1 : Nat) (a2 : Int32) (a3 : Int32) (a4 : Nat) : PV Int32 := hisK 0 a1 fun i1 => htryE (h_X1_enroll i1 a2 a3) (fun v3 => hbJ a4 v3.toInt64 <| hrt (0 : Int32)) (hhsel [("java/lang/IndexOutOfBoundsException", hrt (1 : Int32)), ("java/lang/IllegalArgumentException", hrt (2 : Int32))])
theorem s_X0_enroll (a1 : Nat) (a2 : Int32) (a3 : Int32) (a4 : Nat) : Sim (h_X0_enroll a1 a2 a3 a4) (f_X0_enroll a1 a2 a3 a4) := by
  unfold h_X0_enroll f_X0_enroll
  refine s_isK fun i1 => ?_
  refine s_tryE (s_X1_enroll i1 a2 a3) (fun v3 => ?_) (fun E => ?_)
  · refine s_bJ ?_
    exact s_rt _
  · refine s_hsel1 E ?_ ?_
    · exact s_rt _
    refine s_hsel1 E ?_ ?_
    · exact s_rt _
    exact s_hsel0 E
def h_X0_factor (a1 : Nat) (a2 : Int32) (a3 : Int32) (a4 : Nat) : PV Int32 := hisK 0 a1 fun i1 => htryE (h_X1_factor i1 a2 a3) (fun v3 => hbJ a4 v3.toInt64 <| hrt (0 : Int32)) (hhsel [("java/lang/IndexOutOfBoundsException", hrt (1 : Int32)), ("java/lang/IllegalArgumentException", hrt (2 : Int32))])
theorem s_X0_factor (a1 : Nat) (a2 : Int32) (a3 : Int32) (a4 : Nat) : Sim (h_X0_factor a1 a2 a3 a4) (f_X0_factor a1 a2 a3 a4) := by
  unfold h_X0_factor f_X0_factor
  refine s_isK fun i1 => ?_
  refine s_tryE (s_X1_factor i1 a2 a3) (fun v3 => ?_) (fun E => ?_)
  · refine s_bJ ?_
    exact s_rt _
  · refine s_hsel1 E ?_ ?_
    · exact s_rt _
    refine s_hsel1 E ?_ ?_
    · exact s_rt _
    exact s_hsel0 E
def h_X0_step (a1 : Nat) (a2 : Int32) (a3 : Int32) (a4 : Int32) (a5 : Int32) (a6 : Int32) (a7 : Nat) : PV Int32 := hisK 0 a1 fun i1 => htryE (h_X1_step i1 a2 a3 a4 a5 a6) (fun v3 => hbJ a7 v3.toInt64 <| hrt (0 : Int32)) (hhsel [("java/lang/IllegalArgumentException", hrt (1 : Int32)), ("java/lang/IllegalStateException", hrt (2 : Int32))])
theorem s_X0_step (a1 : Nat) (a2 : Int32) (a3 : Int32) (a4 : Int32) (a5 : Int32) (a6 : Int32) (a7 : Nat) : Sim (h_X0_step a1 a2 a3 a4 a5 a6 a7) (f_X0_step a1 a2 a3 a4 a5 a6 a7) := by
  unfold h_X0_step f_X0_step
  refine s_isK fun i1 => ?_
  refine s_tryE (s_X1_step i1 a2 a3 a4 a5 a6) (fun v3 => ?_) (fun E => ?_)
  · refine s_bJ ?_
    exact s_rt _
  · refine s_hsel1 E ?_ ?_
    · exact s_rt _
    refine s_hsel1 E ?_ ?_
    · exact s_rt _
    exact s_hsel0 E
def h_X0_publish (a1 : Nat) (a2 : Nat) : PV Int32 := hisK 0 a1 fun i1 => htryE (h_X1_publish i1) (fun v3 => hbJ a2 v3.toInt64 <| hrt (0 : Int32)) (hhsel [("java/lang/IllegalStateException", hrt (1 : Int32))])
theorem s_X0_publish (a1 : Nat) (a2 : Nat) : Sim (h_X0_publish a1 a2) (f_X0_publish a1 a2) := by
  unfold h_X0_publish f_X0_publish
  refine s_isK fun i1 => ?_
  refine s_tryE (s_X1_publish i1) (fun v3 => ?_) (fun E => ?_)
  · refine s_bJ ?_
    exact s_rt _
  · refine s_hsel1 E ?_ ?_
    · exact s_rt _
    exact s_hsel0 E
def h_X0_weakest (a1 : Nat) (a2 : Int32) (a3 : Nat) : PV Int32 := hisK 0 a1 fun i1 => htryE (h_X1_weakest i1 a2) (fun v3 => hbJ a3 v3.toInt64 <| hrt (0 : Int32)) (hhsel [("java/lang/IndexOutOfBoundsException", hrt (1 : Int32))])
theorem s_X0_weakest (a1 : Nat) (a2 : Int32) (a3 : Nat) : Sim (h_X0_weakest a1 a2 a3) (f_X0_weakest a1 a2 a3) := by
  unfold h_X0_weakest f_X0_weakest
  refine s_isK fun i1 => ?_
  refine s_tryE (s_X1_weakest i1 a2) (fun v3 => ?_) (fun E => ?_)
  · refine s_bJ ?_
    exact s_rt _
  · refine s_hsel1 E ?_ ?_
    · exact s_rt _
    exact s_hsel0 E
def h_X0_points (a1 : Nat) (a2 : Int32) (a3 : Int32) (a4 : Int32) (a5 : Nat) : PV Int32 := hisK 0 a1 fun i1 => htryE (h_X1_points i1 a2 a3 a4) (fun v3 => hbJ a5 v3.toInt64 <| hrt (0 : Int32)) (hhsel [("java/lang/IllegalArgumentException", hrt (1 : Int32))])
theorem s_X0_points (a1 : Nat) (a2 : Int32) (a3 : Int32) (a4 : Int32) (a5 : Nat) : Sim (h_X0_points a1 a2 a3 a4 a5) (f_X0_points a1 a2 a3 a4 a5) := by
  unfold h_X0_points f_X0_points
  refine s_isK fun i1 => ?_
  refine s_tryE (s_X1_points i1 a2 a3 a4) (fun v3 => ?_) (fun E => ?_)
  · refine s_bJ ?_
    exact s_rt _
  · refine s_hsel1 E ?_ ?_
    · exact s_rt _
    exact s_hsel0 E
def h_X0_begin (a1 : Nat) (a2 : Int32) (a3 : Int32) (a4 : Int32) (a5 : Nat) : PV Int32 := hisK 0 a1 fun i1 => htryE (h_X1_begin i1 a2 a3 a4) (fun v3 => hbJ a5 v3.toInt64 <| hrt (0 : Int32)) (hhsel [("java/lang/IndexOutOfBoundsException", hrt (1 : Int32)), ("java/lang/IllegalStateException", hrt (2 : Int32))])
theorem s_X0_begin (a1 : Nat) (a2 : Int32) (a3 : Int32) (a4 : Int32) (a5 : Nat) : Sim (h_X0_begin a1 a2 a3 a4 a5) (f_X0_begin a1 a2 a3 a4 a5) := by
  unfold h_X0_begin f_X0_begin
  refine s_isK fun i1 => ?_
  refine s_tryE (s_X1_begin i1 a2 a3 a4) (fun v3 => ?_) (fun E => ?_)
  · refine s_bJ ?_
    exact s_rt _
  · refine s_hsel1 E ?_ ?_
    · exact s_rt _
    refine s_hsel1 E ?_ ?_
    · exact s_rt _
    exact s_hsel0 E
def h_X0_answer (a1 : Nat) (a2 : Int32) (a3 : Int32) (a4 : Int32) (a5 : Nat) : PV Int32 := hisK 0 a1 fun i1 => htryE (h_X1_answer i1 a2 a3 a4) (fun v3 => hbJ a5 v3.toInt64 <| hrt (0 : Int32)) (hhsel [("java/lang/IndexOutOfBoundsException", hrt (1 : Int32)), ("java/lang/IllegalArgumentException", hrt (2 : Int32)), ("java/lang/IllegalStateException", hrt (3 : Int32))])
theorem s_X0_answer (a1 : Nat) (a2 : Int32) (a3 : Int32) (a4 : Int32) (a5 : Nat) : Sim (h_X0_answer a1 a2 a3 a4 a5) (f_X0_answer a1 a2 a3 a4 a5) := by
  unfold h_X0_answer f_X0_answer
  refine s_isK fun i1 => ?_
  refine s_tryE (s_X1_answer i1 a2 a3 a4) (fun v3 => ?_) (fun E => ?_)
  · refine s_bJ ?_
    exact s_rt _
  · refine s_hsel1 E ?_ ?_
    · exact s_rt _
    refine s_hsel1 E ?_ ?_
    · exact s_rt _
    refine s_hsel1 E ?_ ?_
    · exact s_rt _
    exact s_hsel0 E
def h_X0_state (a1 : Nat) (a2 : Int32) (a3 : Nat) : PV Int32 := hisK 0 a1 fun i1 => htryE (h_X1_state i1 a2) (fun v3 => hbJ a3 v3.toInt64 <| hrt (0 : Int32)) (hhsel [("java/lang/IndexOutOfBoundsException", hrt (1 : Int32))])
theorem s_X0_state (a1 : Nat) (a2 : Int32) (a3 : Nat) : Sim (h_X0_state a1 a2 a3) (f_X0_state a1 a2 a3) := by
  unfold h_X0_state f_X0_state
  refine s_isK fun i1 => ?_
  refine s_tryE (s_X1_state i1 a2) (fun v3 => ?_) (fun E => ?_)
  · refine s_bJ ?_
    exact s_rt _
  · refine s_hsel1 E ?_ ?_
    · exact s_rt _
    exact s_hsel0 E
def h_X0_asked (a1 : Nat) (a2 : Int32) (a3 : Nat) : PV Int32 := hisK 0 a1 fun i1 => htryE (h_X1_asked i1 a2) (fun v3 => hbJ a3 v3.toInt64 <| hrt (0 : Int32)) (hhsel [("java/lang/IndexOutOfBoundsException", hrt (1 : Int32))])
theorem s_X0_asked (a1 : Nat) (a2 : Int32) (a3 : Nat) : Sim (h_X0_asked a1 a2 a3) (f_X0_asked a1 a2 a3) := by
  unfold h_X0_asked f_X0_asked
  refine s_isK fun i1 => ?_
  refine s_tryE (s_X1_asked i1 a2) (fun v3 => ?_) (fun E => ?_)
  · refine s_bJ ?_
    exact s_rt _
  · refine s_hsel1 E ?_ ?_
    · exact s_rt _
    exact s_hsel0 E
def h_X0_sessionOf (a1 : Nat) (a2 : Int32) (a3 : Nat) : PV Int32 := hisK 0 a1 fun i1 => htryE (h_X1_sessionOf i1 a2) (fun v3 => hbJ a3 v3.toInt64 <| hrt (0 : Int32)) (hhsel [("java/lang/IndexOutOfBoundsException", hrt (1 : Int32))])
theorem s_X0_sessionOf (a1 : Nat) (a2 : Int32) (a3 : Nat) : Sim (h_X0_sessionOf a1 a2 a3) (f_X0_sessionOf a1 a2 a3) := by
  unfold h_X0_sessionOf f_X0_sessionOf
  refine s_isK fun i1 => ?_
  refine s_tryE (s_X1_sessionOf i1 a2) (fun v3 => ?_) (fun E => ?_)
  · refine s_bJ ?_
    exact s_rt _
  · refine s_hsel1 E ?_ ?_
    · exact s_rt _
    exact s_hsel0 E
def h_X0_risk (a1 : Nat) (a2 : Int32) (a3 : Nat) : PV Int32 := hisK 0 a1 fun i1 => htryE (h_X1_risk i1 a2) (fun v3 => hbJ a3 v3.toInt64 <| hrt (0 : Int32)) (hhsel [("java/lang/IndexOutOfBoundsException", hrt (1 : Int32))])
theorem s_X0_risk (a1 : Nat) (a2 : Int32) (a3 : Nat) : Sim (h_X0_risk a1 a2 a3) (f_X0_risk a1 a2 a3) := by
  unfold h_X0_risk f_X0_risk
  refine s_isK fun i1 => ?_
  refine s_tryE (s_X1_risk i1 a2) (fun v3 => ?_) (fun E => ?_)
  · refine s_bJ ?_
    exact s_rt _
  · refine s_hsel1 E ?_ ?_
    · exact s_rt _
    exact s_hsel0 E
def h_X0_trialRisk (a1 : Nat) (a2 : Int32) (a3 : Nat) : PV Int32 := hisK 0 a1 fun i1 => htryE (h_X1_trialRisk i1 a2) (fun v3 => hbJ a3 v3.toInt64 <| hrt (0 : Int32)) (hhsel [("java/lang/IndexOutOfBoundsException", hrt (1 : Int32))])
theorem s_X0_trialRisk (a1 : Nat) (a2 : Int32) (a3 : Nat) : Sim (h_X0_trialRisk a1 a2 a3) (f_X0_trialRisk a1 a2 a3) := by
  unfold h_X0_trialRisk f_X0_trialRisk
  refine s_isK fun i1 => ?_
  refine s_tryE (s_X1_trialRisk i1 a2) (fun v3 => ?_) (fun E => ?_)
  · refine s_bJ ?_
    exact s_rt _
  · refine s_hsel1 E ?_ ?_
    · exact s_rt _
    exact s_hsel0 E
def h_X0_isLive (a1 : Nat) (a2 : Int32) (a3 : Nat) : PV Int32 := hisK 0 a1 fun i1 => htryE (h_X1_isLive i1 a2) (fun v3 => hbnd (ρ := _) (α := Int64) (hcnd (v3 = 0) (hrt (0 : Int64)) (hrt (1 : Int64))) (fun u4 => hbJ a3 u4 <| hrt (0 : Int32))) (hhsel [("java/lang/IndexOutOfBoundsException", hrt (1 : Int32))])
theorem s_X0_isLive (a1 : Nat) (a2 : Int32) (a3 : Nat) : Sim (h_X0_isLive a1 a2 a3) (f_X0_isLive a1 a2 a3) := by
  unfold h_X0_isLive f_X0_isLive
  refine s_isK fun i1 => ?_
  refine s_tryE (s_X1_isLive i1 a2) (fun v3 => ?_) (fun E => ?_)
  · refine s_bnd ?_ ?_
    · refine s_cnd ?_ ?_
      · exact s_rt _
      · exact s_rt _
    refine fun u4 => ?_
    refine s_bJ ?_
    exact s_rt _
  · refine s_hsel1 E ?_ ?_
    · exact s_rt _
    exact s_hsel0 E
def h_X0_isLiveByAudit (a1 : Nat) (a2 : Int32) (a3 : Nat) : PV Int32 := hisK 0 a1 fun i1 => htryE (h_X1_isLiveByAudit i1 a2) (fun v3 => hbnd (ρ := _) (α := Int64) (hcnd (v3 = 0) (hrt (0 : Int64)) (hrt (1 : Int64))) (fun u4 => hbJ a3 u4 <| hrt (0 : Int32))) (hhsel [("java/lang/IndexOutOfBoundsException", hrt (1 : Int32))])
theorem s_X0_isLiveByAudit (a1 : Nat) (a2 : Int32) (a3 : Nat) : Sim (h_X0_isLiveByAudit a1 a2 a3) (f_X0_isLiveByAudit a1 a2 a3) := by
  unfold h_X0_isLiveByAudit f_X0_isLiveByAudit
  refine s_isK fun i1 => ?_
  refine s_tryE (s_X1_isLiveByAudit i1 a2) (fun v3 => ?_) (fun E => ?_)
  · refine s_bnd ?_ ?_
    · refine s_cnd ?_ ?_
      · exact s_rt _
      · exact s_rt _
    refine fun u4 => ?_
    refine s_bJ ?_
    exact s_rt _
  · refine s_hsel1 E ?_ ?_
    · exact s_rt _
    exact s_hsel0 E
def h_X0_level (a1 : Nat) (a2 : Int32) (a3 : Nat) : PV Int32 := hisK 0 a1 fun i1 => htryE (h_X1_level i1 a2) (fun v3 => hbJ a3 v3.toInt64 <| hrt (0 : Int32)) (hhsel [("java/lang/IndexOutOfBoundsException", hrt (1 : Int32))])
theorem s_X0_level (a1 : Nat) (a2 : Int32) (a3 : Nat) : Sim (h_X0_level a1 a2 a3) (f_X0_level a1 a2 a3) := by
  unfold h_X0_level f_X0_level
  refine s_isK fun i1 => ?_
  refine s_tryE (s_X1_level i1 a2) (fun v3 => ?_) (fun E => ?_)
  · refine s_bJ ?_
    exact s_rt _
  · refine s_hsel1 E ?_ ?_
    · exact s_rt _
    exact s_hsel0 E
def h_X0_stepUp (a1 : Nat) (a2 : Int32) (a3 : Int32) (a4 : Int32) (a5 : Int32) (a6 : Nat) : PV Int32 := hisK 0 a1 fun i1 => htryE (h_X1_stepUp i1 a2 a3 a4 a5) (fun v3 => hbJ a6 v3.toInt64 <| hrt (0 : Int32)) (hhsel [("java/lang/IndexOutOfBoundsException", hrt (1 : Int32)), ("java/lang/IllegalArgumentException", hrt (2 : Int32)), ("java/lang/IllegalStateException", hrt (3 : Int32))])
theorem s_X0_stepUp (a1 : Nat) (a2 : Int32) (a3 : Int32) (a4 : Int32) (a5 : Int32) (a6 : Nat) : Sim (h_X0_stepUp a1 a2 a3 a4 a5 a6) (f_X0_stepUp a1 a2 a3 a4 a5 a6) := by
  unfold h_X0_stepUp f_X0_stepUp
  refine s_isK fun i1 => ?_
  refine s_tryE (s_X1_stepUp i1 a2 a3 a4 a5) (fun v3 => ?_) (fun E => ?_)
  · refine s_bJ ?_
    exact s_rt _
  · refine s_hsel1 E ?_ ?_
    · exact s_rt _
    refine s_hsel1 E ?_ ?_
    · exact s_rt _
    refine s_hsel1 E ?_ ?_
    · exact s_rt _
    exact s_hsel0 E
def h_X0_signOut (a1 : Nat) (a2 : Int32) (a3 : Nat) : PV Int32 := hisK 0 a1 fun i1 => htryE (h_X1_signOut i1 a2) (fun v3 => hbJ a3 v3.toInt64 <| hrt (0 : Int32)) (hhsel [("java/lang/IndexOutOfBoundsException", hrt (1 : Int32)), ("java/lang/IllegalStateException", hrt (2 : Int32))])
theorem s_X0_signOut (a1 : Nat) (a2 : Int32) (a3 : Nat) : Sim (h_X0_signOut a1 a2 a3) (f_X0_signOut a1 a2 a3) := by
  unfold h_X0_signOut f_X0_signOut
  refine s_isK fun i1 => ?_
  refine s_tryE (s_X1_signOut i1 a2) (fun v3 => ?_) (fun E => ?_)
  · refine s_bJ ?_
    exact s_rt _
  · refine s_hsel1 E ?_ ?_
    · exact s_rt _
    refine s_hsel1 E ?_ ?_
    · exact s_rt _
    exact s_hsel0 E
def h_X0_helper (a1 : Nat) (a2 : Int32) (a3 : Nat) : PV Int32 := hisK 0 a1 fun i1 => htryE (h_X1_helper i1 a2) (fun v3 => hbnd (ρ := _) (α := Int64) (hcnd (v3 = 0) (hrt (0 : Int64)) (hrt (1 : Int64))) (fun u4 => hbJ a3 u4 <| hrt (0 : Int32))) (hhsel [("java/lang/IndexOutOfBoundsException", hrt (1 : Int32))])
theorem s_X0_helper (a1 : Nat) (a2 : Int32) (a3 : Nat) : Sim (h_X0_helper a1 a2 a3) (f_X0_helper a1 a2 a3) := by
  unfold h_X0_helper f_X0_helper
  refine s_isK fun i1 => ?_
  refine s_tryE (s_X1_helper i1 a2) (fun v3 => ?_) (fun E => ?_)
  · refine s_bnd ?_ ?_
    · refine s_cnd ?_ ?_
      · exact s_rt _
      · exact s_rt _
    refine fun u4 => ?_
    refine s_bJ ?_
    exact s_rt _
  · refine s_hsel1 E ?_ ?_
    · exact s_rt _
    exact s_hsel0 E
def h_X0_act (a1 : Nat) (a2 : Int32) (a3 : Int32) (a4 : Nat) : PV Int32 := hisK 0 a1 fun i1 => htryE (h_X1_act i1 a2 a3) (fun v3 => hbJ a4 v3.toInt64 <| hrt (0 : Int32)) (hhsel [("java/lang/IndexOutOfBoundsException", hrt (1 : Int32)), ("java/lang/IllegalStateException", hrt (2 : Int32))])
theorem s_X0_act (a1 : Nat) (a2 : Int32) (a3 : Int32) (a4 : Nat) : Sim (h_X0_act a1 a2 a3 a4) (f_X0_act a1 a2 a3 a4) := by
  unfold h_X0_act f_X0_act
  refine s_isK fun i1 => ?_
  refine s_tryE (s_X1_act i1 a2 a3) (fun v3 => ?_) (fun E => ?_)
  · refine s_bJ ?_
    exact s_rt _
  · refine s_hsel1 E ?_ ?_
    · exact s_rt _
    refine s_hsel1 E ?_ ?_
    · exact s_rt _
    exact s_hsel0 E
def h_X0_consent (a1 : Nat) (a2 : Int32) (a3 : Int32) (a4 : Int32) (a5 : Nat) : PV Int32 := hisK 0 a1 fun i1 => htryE (h_X1_consent i1 a2 a3 a4) (fun v3 => hbJ a5 v3.toInt64 <| hrt (0 : Int32)) (hhsel [("java/lang/IndexOutOfBoundsException", hrt (1 : Int32)), ("java/lang/IllegalArgumentException", hrt (2 : Int32))])
theorem s_X0_consent (a1 : Nat) (a2 : Int32) (a3 : Int32) (a4 : Int32) (a5 : Nat) : Sim (h_X0_consent a1 a2 a3 a4 a5) (f_X0_consent a1 a2 a3 a4 a5) := by
  unfold h_X0_consent f_X0_consent
  refine s_isK fun i1 => ?_
  refine s_tryE (s_X1_consent i1 a2 a3 a4) (fun v3 => ?_) (fun E => ?_)
  · refine s_bJ ?_
    exact s_rt _
  · refine s_hsel1 E ?_ ?_
    · exact s_rt _
    refine s_hsel1 E ?_ ?_
    · exact s_rt _
    exact s_hsel0 E
def h_X0_withdraw (a1 : Nat) (a2 : Int32) (a3 : Int32) (a4 : Nat) : PV Int32 := hisK 0 a1 fun i1 => htryE (h_X1_withdraw i1 a2 a3) (fun v3 => hbJ a4 v3.toInt64 <| hrt (0 : Int32)) (hhsel [("java/lang/IndexOutOfBoundsException", hrt (1 : Int32))])
theorem s_X0_withdraw (a1 : Nat) (a2 : Int32) (a3 : Int32) (a4 : Nat) : Sim (h_X0_withdraw a1 a2 a3 a4) (f_X0_withdraw a1 a2 a3 a4) := by
  unfold h_X0_withdraw f_X0_withdraw
  refine s_isK fun i1 => ?_
  refine s_tryE (s_X1_withdraw i1 a2 a3) (fun v3 => ?_) (fun E => ?_)
  · refine s_bJ ?_
    exact s_rt _
  · refine s_hsel1 E ?_ ?_
    · exact s_rt _
    exact s_hsel0 E
def h_X0_need (a1 : Nat) (a2 : Int32) (a3 : Int32) (a4 : Nat) : PV Int32 := hisK 0 a1 fun i1 => htryE (h_X1_need i1 a2 a3) (fun v3 => hbJ a4 v3.toInt64 <| hrt (0 : Int32)) (hhsel [("java/lang/IndexOutOfBoundsException", hrt (1 : Int32)), ("java/lang/IllegalArgumentException", hrt (2 : Int32))])
theorem s_X0_need (a1 : Nat) (a2 : Int32) (a3 : Int32) (a4 : Nat) : Sim (h_X0_need a1 a2 a3 a4) (f_X0_need a1 a2 a3 a4) := by
  unfold h_X0_need f_X0_need
  refine s_isK fun i1 => ?_
  refine s_tryE (s_X1_need i1 a2 a3) (fun v3 => ?_) (fun E => ?_)
  · refine s_bJ ?_
    exact s_rt _
  · refine s_hsel1 E ?_ ?_
    · exact s_rt _
    refine s_hsel1 E ?_ ?_
    · exact s_rt _
    exact s_hsel0 E
def h_X0_authorize (a1 : Nat) (a2 : Int32) (a3 : Int32) (a4 : Int32) (a5 : Int32) (a6 : Nat) : PV Int32 := hisK 0 a1 fun i1 => htryE (h_X1_authorize i1 a2 a3 a4 a5) (fun v3 => hbJ a6 v3.toInt64 <| hrt (0 : Int32)) (hhsel [("java/lang/IndexOutOfBoundsException", hrt (1 : Int32)), ("java/lang/IllegalArgumentException", hrt (2 : Int32)), ("java/lang/IllegalStateException", hrt (3 : Int32))])
theorem s_X0_authorize (a1 : Nat) (a2 : Int32) (a3 : Int32) (a4 : Int32) (a5 : Int32) (a6 : Nat) : Sim (h_X0_authorize a1 a2 a3 a4 a5 a6) (f_X0_authorize a1 a2 a3 a4 a5 a6) := by
  unfold h_X0_authorize f_X0_authorize
  refine s_isK fun i1 => ?_
  refine s_tryE (s_X1_authorize i1 a2 a3 a4 a5) (fun v3 => ?_) (fun E => ?_)
  · refine s_bJ ?_
    exact s_rt _
  · refine s_hsel1 E ?_ ?_
    · exact s_rt _
    refine s_hsel1 E ?_ ?_
    · exact s_rt _
    refine s_hsel1 E ?_ ?_
    · exact s_rt _
    exact s_hsel0 E
def h_X0_redeem (a1 : Nat) (a2 : Int32) (a3 : Nat) : PV Int32 := hisK 0 a1 fun i1 => htryE (h_X1_redeem i1 a2) (fun v3 => hbJ a3 v3.toInt64 <| hrt (0 : Int32)) (hhsel [("java/lang/IndexOutOfBoundsException", hrt (1 : Int32)), ("java/lang/IllegalStateException", hrt (2 : Int32))])
theorem s_X0_redeem (a1 : Nat) (a2 : Int32) (a3 : Nat) : Sim (h_X0_redeem a1 a2 a3) (f_X0_redeem a1 a2 a3) := by
  unfold h_X0_redeem f_X0_redeem
  refine s_isK fun i1 => ?_
  refine s_tryE (s_X1_redeem i1 a2) (fun v3 => ?_) (fun E => ?_)
  · refine s_bJ ?_
    exact s_rt _
  · refine s_hsel1 E ?_ ?_
    · exact s_rt _
    refine s_hsel1 E ?_ ?_
    · exact s_rt _
    exact s_hsel0 E
def h_X0_refresh (a1 : Nat) (a2 : Int32) (a3 : Int32) (a4 : Nat) : PV Int32 := hisK 0 a1 fun i1 => htryE (h_X1_refresh i1 a2 a3) (fun v3 => hbJ a4 v3.toInt64 <| hrt (0 : Int32)) (hhsel [("java/lang/IndexOutOfBoundsException", hrt (1 : Int32)), ("java/lang/IllegalArgumentException", hrt (2 : Int32)), ("java/lang/IllegalStateException", hrt (3 : Int32))])
theorem s_X0_refresh (a1 : Nat) (a2 : Int32) (a3 : Int32) (a4 : Nat) : Sim (h_X0_refresh a1 a2 a3 a4) (f_X0_refresh a1 a2 a3 a4) := by
  unfold h_X0_refresh f_X0_refresh
  refine s_isK fun i1 => ?_
  refine s_tryE (s_X1_refresh i1 a2 a3) (fun v3 => ?_) (fun E => ?_)
  · refine s_bJ ?_
    exact s_rt _
  · refine s_hsel1 E ?_ ?_
    · exact s_rt _
    refine s_hsel1 E ?_ ?_
    · exact s_rt _
    refine s_hsel1 E ?_ ?_
    · exact s_rt _
    exact s_hsel0 E
def h_X0_isGood (a1 : Nat) (a2 : Int32) (a3 : Nat) : PV Int32 := hisK 0 a1 fun i1 => htryE (h_X1_isGood i1 a2) (fun v3 => hbnd (ρ := _) (α := Int64) (hcnd (v3 = 0) (hrt (0 : Int64)) (hrt (1 : Int64))) (fun u4 => hbJ a3 u4 <| hrt (0 : Int32))) (hhsel [("java/lang/IndexOutOfBoundsException", hrt (1 : Int32))])
theorem s_X0_isGood (a1 : Nat) (a2 : Int32) (a3 : Nat) : Sim (h_X0_isGood a1 a2 a3) (f_X0_isGood a1 a2 a3) := by
  unfold h_X0_isGood f_X0_isGood
  refine s_isK fun i1 => ?_
  refine s_tryE (s_X1_isGood i1 a2) (fun v3 => ?_) (fun E => ?_)
  · refine s_bnd ?_ ?_
    · refine s_cnd ?_ ?_
      · exact s_rt _
      · exact s_rt _
    refine fun u4 => ?_
    refine s_bJ ?_
    exact s_rt _
  · refine s_hsel1 E ?_ ?_
    · exact s_rt _
    exact s_hsel0 E
def h_X0_tokenOf (a1 : Nat) (a2 : Int32) (a3 : Nat) : PV Int32 := hisK 0 a1 fun i1 => htryE (h_X1_tokenOf i1 a2) (fun v3 => hbJ a3 v3.toInt64 <| hrt (0 : Int32)) (hhsel [("java/lang/IndexOutOfBoundsException", hrt (1 : Int32))])
theorem s_X0_tokenOf (a1 : Nat) (a2 : Int32) (a3 : Nat) : Sim (h_X0_tokenOf a1 a2 a3) (f_X0_tokenOf a1 a2 a3) := by
  unfold h_X0_tokenOf f_X0_tokenOf
  refine s_isK fun i1 => ?_
  refine s_tryE (s_X1_tokenOf i1 a2) (fun v3 => ?_) (fun E => ?_)
  · refine s_bJ ?_
    exact s_rt _
  · refine s_hsel1 E ?_ ?_
    · exact s_rt _
    exact s_hsel0 E
def h_X0_exchange (a1 : Nat) (a2 : Int32) (a3 : Int32) (a4 : Int32) (a5 : Nat) : PV Int32 := hisK 0 a1 fun i1 => htryE (h_X1_exchange i1 a2 a3 a4) (fun v3 => hbJ a5 v3.toInt64 <| hrt (0 : Int32)) (hhsel [("java/lang/IndexOutOfBoundsException", hrt (1 : Int32)), ("java/lang/IllegalArgumentException", hrt (2 : Int32)), ("java/lang/IllegalStateException", hrt (3 : Int32))])
theorem s_X0_exchange (a1 : Nat) (a2 : Int32) (a3 : Int32) (a4 : Int32) (a5 : Nat) : Sim (h_X0_exchange a1 a2 a3 a4 a5) (f_X0_exchange a1 a2 a3 a4 a5) := by
  unfold h_X0_exchange f_X0_exchange
  refine s_isK fun i1 => ?_
  refine s_tryE (s_X1_exchange i1 a2 a3 a4) (fun v3 => ?_) (fun E => ?_)
  · refine s_bJ ?_
    exact s_rt _
  · refine s_hsel1 E ?_ ?_
    · exact s_rt _
    refine s_hsel1 E ?_ ?_
    · exact s_rt _
    refine s_hsel1 E ?_ ?_
    · exact s_rt _
    exact s_hsel0 E
def h_X0_token (a1 : Nat) (a2 : Int32) (a3 : Nat) : PV Int32 := hisK 0 a1 fun i1 => htryE (h_X1_token i1 a2) (fun v3 => hbJ a3 v3.toInt64 <| hrt (0 : Int32)) (hhsel [("java/lang/IndexOutOfBoundsException", hrt (1 : Int32))])
theorem s_X0_token (a1 : Nat) (a2 : Int32) (a3 : Nat) : Sim (h_X0_token a1 a2 a3) (f_X0_token a1 a2 a3) := by
  unfold h_X0_token f_X0_token
  refine s_isK fun i1 => ?_
  refine s_tryE (s_X1_token i1 a2) (fun v3 => ?_) (fun E => ?_)
  · refine s_bJ ?_
    exact s_rt _
  · refine s_hsel1 E ?_ ?_
    · exact s_rt _
    exact s_hsel0 E
def h_X0_turn (a1 : Nat) (a2 : Nat) : PV Int32 := hisK 0 a1 fun i1 => htryE (h_X1_turn i1) (fun v3 => hbJ a2 v3.toInt64 <| hrt (0 : Int32)) (hhsel [("java/lang/IllegalStateException", hrt (1 : Int32))])
theorem s_X0_turn (a1 : Nat) (a2 : Nat) : Sim (h_X0_turn a1 a2) (f_X0_turn a1 a2) := by
  unfold h_X0_turn f_X0_turn
  refine s_isK fun i1 => ?_
  refine s_tryE (s_X1_turn i1) (fun v3 => ?_) (fun E => ?_)
  · refine s_bJ ?_
    exact s_rt _
  · refine s_hsel1 E ?_ ?_
    · exact s_rt _
    exact s_hsel0 E
def h_X0_emergency (a1 : Nat) (a2 : Nat) : PV Int32 := hisK 0 a1 fun i1 => htryE (h_X1_emergency i1) (fun v3 => hbJ a2 v3.toInt64 <| hrt (0 : Int32)) (hhsel [("java/lang/IllegalStateException", hrt (1 : Int32))])
theorem s_X0_emergency (a1 : Nat) (a2 : Nat) : Sim (h_X0_emergency a1 a2) (f_X0_emergency a1 a2) := by
  unfold h_X0_emergency f_X0_emergency
  refine s_isK fun i1 => ?_
  refine s_tryE (s_X1_emergency i1) (fun v3 => ?_) (fun E => ?_)
  · refine s_bJ ?_
    exact s_rt _
  · refine s_hsel1 E ?_ ?_
    · exact s_rt _
    exact s_hsel0 E
def h_X0_isPublished (a1 : Nat) (a2 : Int32) (a3 : Nat) : PV Int32 := hisK 0 a1 fun i1 => htryE (h_X1_isPublished i1 a2) (fun v3 => hbnd (ρ := _) (α := Int64) (hcnd (v3 = 0) (hrt (0 : Int64)) (hrt (1 : Int64))) (fun u4 => hbJ a3 u4 <| hrt (0 : Int32))) (hhsel [("java/lang/IndexOutOfBoundsException", hrt (1 : Int32))])
theorem s_X0_isPublished (a1 : Nat) (a2 : Int32) (a3 : Nat) : Sim (h_X0_isPublished a1 a2 a3) (f_X0_isPublished a1 a2 a3) := by
  unfold h_X0_isPublished f_X0_isPublished
  refine s_isK fun i1 => ?_
  refine s_tryE (s_X1_isPublished i1 a2) (fun v3 => ?_) (fun E => ?_)
  · refine s_bnd ?_ ?_
    · refine s_cnd ?_ ?_
      · exact s_rt _
      · exact s_rt _
    refine fun u4 => ?_
    refine s_bJ ?_
    exact s_rt _
  · refine s_hsel1 E ?_ ?_
    · exact s_rt _
    exact s_hsel0 E
def h_X0_line (a1 : Nat) (a2 : Int32) (a3 : Nat) : PV Int32 := hisK 0 a1 fun i1 => htryE (h_X1_line i1 a2) (fun v3 => hbJ a3 v3.toInt64 <| hrt (0 : Int32)) (hhsel [("java/lang/IndexOutOfBoundsException", hrt (1 : Int32))])
theorem s_X0_line (a1 : Nat) (a2 : Int32) (a3 : Nat) : Sim (h_X0_line a1 a2 a3) (f_X0_line a1 a2 a3) := by
  unfold h_X0_line f_X0_line
  refine s_isK fun i1 => ?_
  refine s_tryE (s_X1_line i1 a2) (fun v3 => ?_) (fun E => ?_)
  · refine s_bJ ?_
    exact s_rt _
  · refine s_hsel1 E ?_ ?_
    · exact s_rt _
    exact s_hsel0 E
def h_X0_check (a1 : Nat) (a2 : Int32) (a3 : Int32) (a4 : Int32) (a5 : Nat) : PV Int32 := hisK 0 a1 fun i1 => htryE (h_X1_check i1 a2 a3 a4) (fun v3 => hbJ a5 v3.toInt64 <| hrt (0 : Int32)) (hhsel [("java/lang/IndexOutOfBoundsException", hrt (1 : Int32)), ("java/lang/IllegalArgumentException", hrt (2 : Int32))])
theorem s_X0_check (a1 : Nat) (a2 : Int32) (a3 : Int32) (a4 : Int32) (a5 : Nat) : Sim (h_X0_check a1 a2 a3 a4 a5) (f_X0_check a1 a2 a3 a4 a5) := by
  unfold h_X0_check f_X0_check
  refine s_isK fun i1 => ?_
  refine s_tryE (s_X1_check i1 a2 a3 a4) (fun v3 => ?_) (fun E => ?_)
  · refine s_bJ ?_
    exact s_rt _
  · refine s_hsel1 E ?_ ?_
    · exact s_rt _
    refine s_hsel1 E ?_ ?_
    · exact s_rt _
    exact s_hsel0 E
def h_X0_lag (a1 : Nat) (a2 : Int32) (a3 : Nat) : PV Int32 := hisK 0 a1 fun i1 => htryE (h_X1_lag i1 a2) (fun v3 => hbJ a3 v3.toInt64 <| hrt (0 : Int32)) (hhsel [("java/lang/IndexOutOfBoundsException", hrt (1 : Int32))])
theorem s_X0_lag (a1 : Nat) (a2 : Int32) (a3 : Nat) : Sim (h_X0_lag a1 a2 a3) (f_X0_lag a1 a2 a3) := by
  unfold h_X0_lag f_X0_lag
  refine s_isK fun i1 => ?_
  refine s_tryE (s_X1_lag i1 a2) (fun v3 => ?_) (fun E => ?_)
  · refine s_bJ ?_
    exact s_rt _
  · refine s_hsel1 E ?_ ?_
    · exact s_rt _
    exact s_hsel0 E
def h_X0_recover (a1 : Nat) (a2 : Int32) (a3 : Nat) : PV Int32 := hisK 0 a1 fun i1 => htryE (h_X1_recover i1 a2) (fun v3 => hbJ a3 v3.toInt64 <| hrt (0 : Int32)) (hhsel [("java/lang/IndexOutOfBoundsException", hrt (1 : Int32)), ("java/lang/IllegalStateException", hrt (2 : Int32))])
theorem s_X0_recover (a1 : Nat) (a2 : Int32) (a3 : Nat) : Sim (h_X0_recover a1 a2 a3) (f_X0_recover a1 a2 a3) := by
  unfold h_X0_recover f_X0_recover
  refine s_isK fun i1 => ?_
  refine s_tryE (s_X1_recover i1 a2) (fun v3 => ?_) (fun E => ?_)
  · refine s_bJ ?_
    exact s_rt _
  · refine s_hsel1 E ?_ ?_
    · exact s_rt _
    refine s_hsel1 E ?_ ?_
    · exact s_rt _
    exact s_hsel0 E
def h_X0_vouch (a1 : Nat) (a2 : Int32) (a3 : Int32) (a4 : Nat) : PV Int32 := hisK 0 a1 fun i1 => htryE (h_X1_vouch i1 a2 a3) (fun v3 => hbJ a4 v3.toInt64 <| hrt (0 : Int32)) (hhsel [("java/lang/IndexOutOfBoundsException", hrt (1 : Int32)), ("java/lang/IllegalStateException", hrt (2 : Int32))])
theorem s_X0_vouch (a1 : Nat) (a2 : Int32) (a3 : Int32) (a4 : Nat) : Sim (h_X0_vouch a1 a2 a3 a4) (f_X0_vouch a1 a2 a3 a4) := by
  unfold h_X0_vouch f_X0_vouch
  refine s_isK fun i1 => ?_
  refine s_tryE (s_X1_vouch i1 a2 a3) (fun v3 => ?_) (fun E => ?_)
  · refine s_bJ ?_
    exact s_rt _
  · refine s_hsel1 E ?_ ?_
    · exact s_rt _
    refine s_hsel1 E ?_ ?_
    · exact s_rt _
    exact s_hsel0 E
def h_X0_stop (a1 : Nat) (a2 : Int32) (a3 : Int32) (a4 : Nat) : PV Int32 := hisK 0 a1 fun i1 => htryE (h_X1_stop i1 a2 a3) (fun v3 => hbJ a4 v3.toInt64 <| hrt (0 : Int32)) (hhsel [("java/lang/IndexOutOfBoundsException", hrt (1 : Int32)), ("java/lang/IllegalStateException", hrt (2 : Int32))])
theorem s_X0_stop (a1 : Nat) (a2 : Int32) (a3 : Int32) (a4 : Nat) : Sim (h_X0_stop a1 a2 a3 a4) (f_X0_stop a1 a2 a3 a4) := by
  unfold h_X0_stop f_X0_stop
  refine s_isK fun i1 => ?_
  refine s_tryE (s_X1_stop i1 a2 a3) (fun v3 => ?_) (fun E => ?_)
  · refine s_bJ ?_
    exact s_rt _
  · refine s_hsel1 E ?_ ?_
    · exact s_rt _
    refine s_hsel1 E ?_ ?_
    · exact s_rt _
    exact s_hsel0 E
def h_X0_finish (a1 : Nat) (a2 : Int32) (a3 : Nat) : PV Int32 := hisK 0 a1 fun i1 => htryE (h_X1_finish i1 a2) (fun v3 => hbJ a3 v3.toInt64 <| hrt (0 : Int32)) (hhsel [("java/lang/IndexOutOfBoundsException", hrt (1 : Int32)), ("java/lang/IllegalStateException", hrt (2 : Int32))])
theorem s_X0_finish (a1 : Nat) (a2 : Int32) (a3 : Nat) : Sim (h_X0_finish a1 a2 a3) (f_X0_finish a1 a2 a3) := by
  unfold h_X0_finish f_X0_finish
  refine s_isK fun i1 => ?_
  refine s_tryE (s_X1_finish i1 a2) (fun v3 => ?_) (fun E => ?_)
  · refine s_bJ ?_
    exact s_rt _
  · refine s_hsel1 E ?_ ?_
    · exact s_rt _
    refine s_hsel1 E ?_ ?_
    · exact s_rt _
    exact s_hsel0 E
def h_X0_link (a1 : Nat) (a2 : Int32) (a3 : Int32) (a4 : Nat) : PV Int32 := hisK 0 a1 fun i1 => htryE (h_X1_link i1 a2 a3) (fun v3 => hbJ a4 v3.toInt64 <| hrt (0 : Int32)) (hhsel [("java/lang/IndexOutOfBoundsException", hrt (1 : Int32)), ("java/lang/IllegalStateException", hrt (2 : Int32))])
theorem s_X0_link (a1 : Nat) (a2 : Int32) (a3 : Int32) (a4 : Nat) : Sim (h_X0_link a1 a2 a3 a4) (f_X0_link a1 a2 a3 a4) := by
  unfold h_X0_link f_X0_link
  refine s_isK fun i1 => ?_
  refine s_tryE (s_X1_link i1 a2 a3) (fun v3 => ?_) (fun E => ?_)
  · refine s_bJ ?_
    exact s_rt _
  · refine s_hsel1 E ?_ ?_
    · exact s_rt _
    refine s_hsel1 E ?_ ?_
    · exact s_rt _
    exact s_hsel0 E
def h_X0_foreign (a1 : Nat) (a2 : Int32) (a3 : Nat) : PV Int32 := hisK 0 a1 fun i1 => htryE (h_X1_foreign i1 a2) (fun v3 => hbJ a3 v3.toInt64 <| hrt (0 : Int32)) (hhsel [("java/lang/IndexOutOfBoundsException", hrt (1 : Int32)), ("java/lang/IllegalStateException", hrt (2 : Int32))])
theorem s_X0_foreign (a1 : Nat) (a2 : Int32) (a3 : Nat) : Sim (h_X0_foreign a1 a2 a3) (f_X0_foreign a1 a2 a3) := by
  unfold h_X0_foreign f_X0_foreign
  refine s_isK fun i1 => ?_
  refine s_tryE (s_X1_foreign i1 a2) (fun v3 => ?_) (fun E => ?_)
  · refine s_bJ ?_
    exact s_rt _
  · refine s_hsel1 E ?_ ?_
    · exact s_rt _
    refine s_hsel1 E ?_ ?_
    · exact s_rt _
    exact s_hsel0 E
def h_X0_leave (a1 : Nat) (a2 : Int32) (a3 : Nat) : PV Int32 := hisK 0 a1 fun i1 => htryE (h_X1_leave i1 a2) (fun v3 => hbJ a3 v3.toInt64 <| hrt (0 : Int32)) (hhsel [("java/lang/IndexOutOfBoundsException", hrt (1 : Int32))])
theorem s_X0_leave (a1 : Nat) (a2 : Int32) (a3 : Nat) : Sim (h_X0_leave a1 a2 a3) (f_X0_leave a1 a2 a3) := by
  unfold h_X0_leave f_X0_leave
  refine s_isK fun i1 => ?_
  refine s_tryE (s_X1_leave i1 a2) (fun v3 => ?_) (fun E => ?_)
  · refine s_bJ ?_
    exact s_rt _
  · refine s_hsel1 E ?_ ?_
    · exact s_rt _
    exact s_hsel0 E
def h_X0_audit (a1 : Nat) (a2 : Int32) (a3 : Nat) : PV Int32 := hisK 0 a1 fun i1 => htryE (h_X1_audit i1 a2) (fun v3 => hbJ a3 v3.toInt64 <| hrt (0 : Int32)) (hhsel [("java/lang/IndexOutOfBoundsException", hrt (1 : Int32))])
theorem s_X0_audit (a1 : Nat) (a2 : Int32) (a3 : Nat) : Sim (h_X0_audit a1 a2 a3) (f_X0_audit a1 a2 a3) := by
  unfold h_X0_audit f_X0_audit
  refine s_isK fun i1 => ?_
  refine s_tryE (s_X1_audit i1 a2) (fun v3 => ?_) (fun E => ?_)
  · refine s_bJ ?_
    exact s_rt _
  · refine s_hsel1 E ?_ ?_
    · exact s_rt _
    exact s_hsel0 E
def h_X0_sumAnew (a1 : Nat) (a2 : Int32) (a3 : Nat) : PV Int32 := hisK 0 a1 fun i1 => htryE (h_X1_sumAnew i1 a2) (fun v3 => hbJ a3 v3.toInt64 <| hrt (0 : Int32)) (hhsel [("java/lang/IndexOutOfBoundsException", hrt (1 : Int32))])
theorem s_X0_sumAnew (a1 : Nat) (a2 : Int32) (a3 : Nat) : Sim (h_X0_sumAnew a1 a2 a3) (f_X0_sumAnew a1 a2 a3) := by
  unfold h_X0_sumAnew f_X0_sumAnew
  refine s_isK fun i1 => ?_
  refine s_tryE (s_X1_sumAnew i1 a2) (fun v3 => ?_) (fun E => ?_)
  · refine s_bJ ?_
    exact s_rt _
  · refine s_hsel1 E ?_ ?_
    · exact s_rt _
    exact s_hsel0 E
