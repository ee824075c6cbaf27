/-! ===== walks: the JDK ===== -/
def f_J0_init_13 (i0 : Nat) : PT Unit := rt ()
theorem im_J0_init_13 {g : GP} {l : Launch} (hl : l.stackTraces = false) (i0 : Nat) : Im g l 1 yJ0_init cJ0_init 1 none eV [.ref (idc 13 i0)] (f_J0_init_13 i0) := by
  refine tx_start hl 1 _ _ _ _ (by decide) (Nat.le_of_ble_eq_true rfl) fun Γ Z hΓ hZ => ?_
  subst hΓ
  unfold f_J0_init_13
  show TX g Γ _ Z _ 0 [(0, .ref (idc 13 i0))] [] _
  refine x_aload_n 0 0 dJ0_init_0 rfl ?_
  refine x_objI 1 (by decide) q149 q128 q129 dJ0_init_1 (Nat.le_of_ble_eq_true rfl) (by decide) ?_
  exact x_vret 4 hZ rfl dJ0_init_4
def f_J1_init_13 (i0 : Nat) : PT Unit := bn0 (f_J0_init_13 i0) fun _ => pI 13 i0 0 (0 : Int32) <| rt ()
theorem im_J1_init_13 {g : GP} {l : Launch} (hl : l.stackTraces = false) (i0 : Nat) : Im g l 2 yJ1_init cJ1_init 1 none eV [.ref (idc 13 i0)] (f_J1_init_13 i0) := by
  refine tx_start hl 2 _ _ _ _ (by decide) (Nat.le_of_ble_eq_true rfl) fun Γ Z hΓ hZ => ?_
  subst hΓ
  unfold f_J1_init_13
  show TX g Γ _ Z _ 0 [(0, .ref (idc 13 i0))] [] _
  refine x_aload_n 0 0 dJ1_init_0 rfl ?_
  refine x_cI 1 1 [] [] (by decide) cn_J1_1 (im_J0_init_13 hl i0) (by decide) rfl (Nat.le_of_ble_eq_true rfl) dJ1_init_1 fun v1 => x_stV ?_
  refine x_aload_n 4 0 dJ1_init_4 rfl ?_
  refine x_iconst 5 0 (0 : Int32) dJ1_init_5 rfl ?_
  refine x_putI 6 fa_J1_7_13 rfl (Or.inl rfl) dJ1_init_6 ?_
  exact x_vret 9 hZ rfl dJ1_init_9
def f_J2_init (i0 : Nat) (a1 : Int32) : PT Unit := bn0 (f_J1_init_13 i0) fun _ => cnd (a1 ≤ 0) (cnd (a1 = 0) (stk) (stk)) (nwA 35 a1 fun i4 => pR 13 i0 1 (idc 35 i4) <| rt ())
theorem im_J2_init {g : GP} {l : Launch} (hl : l.stackTraces = false) (i0 : Nat) (a1 : Int32) : Im g l 3 yJ2_init cJ2_init 2 none eV [.ref (idc 13 i0), .int a1] (f_J2_init i0 a1) := by
  refine tx_start hl 3 _ _ _ _ (by decide) (Nat.le_of_ble_eq_true rfl) fun Γ Z hΓ hZ => ?_
  subst hΓ
  unfold f_J2_init
  show TX g Γ _ Z _ 0 [(0, .ref (idc 13 i0)), (1, .int a1)] [] _
  refine x_aload_n 0 0 dJ2_init_0 rfl ?_
  refine x_cI 1 2 [] [] (by decide) cn_J2_1 (im_J1_init_13 hl i0) (by decide) rfl (Nat.le_of_ble_eq_true rfl) dJ2_init_1 fun v1 => x_stV ?_
  refine x_iload_n 4 1 dJ2_init_4 rfl ?_
  refine x_if_le 5 19 dJ2_init_5 rfl (fun c2 => ?_) (fun c2 => ?_)
  · refine x_iload_n 19 1 dJ2_init_19 rfl ?_
    refine x_if_ne 20 33 dJ2_init_20 rfl (fun c3 => ?_) (fun c3 => ?_)
    · refine x_aload_n 23 0 dJ2_init_23 rfl ?_
      exact x_stk
    · exact x_stk
  · refine x_aload_n 8 0 dJ2_init_8 rfl ?_
    refine x_iload_n 9 1 dJ2_init_9 rfl ?_
    refine x_anewa 10 (by decide) rfl q150 dJ2_init_10 fun i4 => ?_
    refine x_putR 13 fa_J2_9_13 rfl (Or.inl rfl) dJ2_init_13 ?_
    refine x_goto 16 60 dJ2_init_16 rfl ?_
    exact x_vret 60 hZ rfl dJ2_init_60
def f_J2_init_2 (i0 : Nat) : PT Unit := bn0 (f_J1_init_13 i0) fun _ => pR 13 i0 1 (idc 48 0) <| rt ()
theorem im_J2_init_2 {g : GP} {l : Launch} (hl : l.stackTraces = false) (i0 : Nat) : Im g l 3 yJ2_init_2 cJ2_init_2 1 none eV [.ref (idc 13 i0)] (f_J2_init_2 i0) := by
  refine tx_start hl 3 _ _ _ _ (by decide) (Nat.le_of_ble_eq_true rfl) fun Γ Z hΓ hZ => ?_
  subst hΓ
  unfold f_J2_init_2
  show TX g Γ _ Z _ 0 [(0, .ref (idc 13 i0))] [] _
  refine x_aload_n 0 0 dJ2_init_2_0 rfl ?_
  refine x_cI 1 2 [] [] (by decide) cn_J2_1 (im_J1_init_13 hl i0) (by decide) rfl (Nat.le_of_ble_eq_true rfl) dJ2_init_2_1 fun v1 => x_stV ?_
  refine x_aload_n 4 0 dJ2_init_2_4 rfl ?_
  refine x_gsDE 5 q499 dJ2_init_2_5 ?_
  refine x_putR 8 fa_J2_9_13 rfl (Or.inl rfl) dJ2_init_2_8 ?_
  exact x_vret 11 hZ rfl dJ2_init_2_11
def f_J18_wordIndex (a1 : Int32) : PT Int32 := rt (a1 >>> ((6 : Int32) &&& 31))
theorem im_J18_wordIndex {g : GP} {l : Launch} (hl : l.stackTraces = false) (a1 : Int32) : Im g l 0 yJ18_wordIndex cJ18_wordIndex 1 (some .int) eI [.int a1] (f_J18_wordIndex a1) := by
  refine tx_start hl 0 _ _ _ _ (by decide) (Nat.le_of_ble_eq_true rfl) fun Γ Z hΓ hZ => ?_
  subst hΓ
  unfold f_J18_wordIndex
  show TX g Γ _ Z _ 0 [(0, .int a1)] [] _
  refine x_iload_n 0 0 dJ18_wordIndex_0 rfl ?_
  refine x_bipush 1 6 (6 : Int32) dJ18_wordIndex_1 rfl ?_
  refine x_ishr 3 dJ18_wordIndex_3 ?_
  exact x_iret 4 hZ rfl dJ18_wordIndex_4
def f_J18_initWords (i0 : Nat) (a1 : Int32) : PT Unit := bn0 (f_J18_wordIndex (a1 - (1 : Int32))) fun v1 => nwA 34 (v1 + (1 : Int32)) fun i2 => pR 14 i0 0 (idc 34 i2) <| rt ()
theorem im_J18_initWords {g : GP} {l : Launch} (hl : l.stackTraces = false) (i0 : Nat) (a1 : Int32) : Im g l 1 yJ18_initWords cJ18_initWords 2 none eV [.ref (idc 14 i0), .int a1] (f_J18_initWords i0 a1) := by
  refine tx_start hl 1 _ _ _ _ (by decide) (Nat.le_of_ble_eq_true rfl) fun Γ Z hΓ hZ => ?_
  subst hΓ
  unfold f_J18_initWords
  show TX g Γ _ Z _ 0 [(0, .ref (idc 14 i0)), (1, .int a1)] [] _
  refine x_aload_n 0 0 dJ18_initWords_0 rfl ?_
  refine x_iload_n 1 1 dJ18_initWords_1 rfl ?_
  refine x_iconst 2 1 (1 : Int32) dJ18_initWords_2 rfl ?_
  refine x_isub 3 dJ18_initWords_3 ?_
  refine x_cS 4 0 [.int (a1 - (1 : Int32))] [.ref (idc 14 i0)] cs_J18_52 (im_J18_wordIndex hl (a1 - (1 : Int32))) (by decide) rfl (Nat.le_of_ble_eq_true rfl) dJ18_initWords_4 fun v1 => x_stI ?_
  refine x_iconst 7 1 (1 : Int32) dJ18_initWords_7 rfl ?_
  refine x_iadd 8 dJ18_initWords_8 ?_
  refine x_newa 9 (Or.inr (Or.inr rfl)) rfl q527 dJ18_initWords_9 fun i2 => ?_
  refine x_putR 11 fa_J18_11_14 rfl (Or.inl rfl) dJ18_initWords_11 ?_
  exact x_vret 14 hZ rfl dJ18_initWords_14
def f_J18_init (i0 : Nat) : PT Unit := pI 14 i0 1 (0 : Int32) <| pZ 14 i0 2 (0 : Int32) <| bn0 (f_J18_initWords i0 (64 : Int32)) fun _ => pZ 14 i0 2 (0 : Int32) <| rt ()
theorem im_J18_init {g : GP} {l : Launch} (hl : l.stackTraces = false) (i0 : Nat) : Im g l 2 yJ18_init cJ18_init 1 none eV [.ref (idc 14 i0)] (f_J18_init i0) := by
  refine tx_start hl 2 _ _ _ _ (by decide) (Nat.le_of_ble_eq_true rfl) fun Γ Z hΓ hZ => ?_
  subst hΓ
  unfold f_J18_init
  show TX g Γ _ Z _ 0 [(0, .ref (idc 14 i0))] [] _
  refine x_aload_n 0 0 dJ18_init_0 rfl ?_
  refine x_objI 1 (by decide) q508 q128 q129 dJ18_init_1 (Nat.le_of_ble_eq_true rfl) (by decide) ?_
  refine x_aload_n 4 0 dJ18_init_4 rfl ?_
  refine x_iconst 5 0 (0 : Int32) dJ18_init_5 rfl ?_
  refine x_putI 6 fa_J18_7_14 rfl (Or.inl rfl) dJ18_init_6 ?_
  refine x_aload_n 9 0 dJ18_init_9 rfl ?_
  refine x_iconst 10 0 (0 : Int32) dJ18_init_10 rfl ?_
  refine x_putZ 11 fa_J18_24_14 rfl (Or.inl rfl) dJ18_init_11 ?_
  refine x_aload_n 14 0 dJ18_init_14 rfl ?_
  refine x_bipush 15 64 (64 : Int32) dJ18_init_15 rfl ?_
  refine x_cV 17 1 [.int (64 : Int32)] [] ⟨by decide, rfl⟩ cv_J18_27 (im_J18_initWords hl i0 (64 : Int32)) (by decide) rfl (Nat.le_of_ble_eq_true rfl) dJ18_init_17 fun v1 => x_stV ?_
  refine x_aload_n 20 0 dJ18_init_20 rfl ?_
  refine x_iconst 21 0 (0 : Int32) dJ18_init_21 rfl ?_
  refine x_putZ 22 fa_J18_24_14 rfl (Or.inl rfl) dJ18_init_22 ?_
  exact x_vret 25 hZ rfl dJ18_init_25
def f_J0_init_15 (i0 : Nat) : PT Unit := rt ()
theorem im_J0_init_15 {g : GP} {l : Launch} (hl : l.stackTraces = false) (i0 : Nat) : Im g l 1 yJ0_init cJ0_init 1 none eV [.ref (idc 15 i0)] (f_J0_init_15 i0) := by
  refine tx_start hl 1 _ _ _ _ (by decide) (Nat.le_of_ble_eq_true rfl) fun Γ Z hΓ hZ => ?_
  subst hΓ
  unfold f_J0_init_15
  show TX g Γ _ Z _ 0 [(0, .ref (idc 15 i0))] [] _
  refine x_aload_n 0 0 dJ0_init_0 rfl ?_
  refine x_objI 1 (by decide) q149 q128 q129 dJ0_init_1 (Nat.le_of_ble_eq_true rfl) (by decide) ?_
  exact x_vret 4 hZ rfl dJ0_init_4
def f_J1_init_15 (i0 : Nat) : PT Unit := bn0 (f_J0_init_15 i0) fun _ => pI 15 i0 0 (0 : Int32) <| rt ()
theorem im_J1_init_15 {g : GP} {l : Launch} (hl : l.stackTraces = false) (i0 : Nat) : Im g l 2 yJ1_init cJ1_init 1 none eV [.ref (idc 15 i0)] (f_J1_init_15 i0) := by
  refine tx_start hl 2 _ _ _ _ (by decide) (Nat.le_of_ble_eq_true rfl) fun Γ Z hΓ hZ => ?_
  subst hΓ
  unfold f_J1_init_15
  show TX g Γ _ Z _ 0 [(0, .ref (idc 15 i0))] [] _
  refine x_aload_n 0 0 dJ1_init_0 rfl ?_
  refine x_cI 1 1 [] [] (by decide) cn_J1_1 (im_J0_init_15 hl i0) (by decide) rfl (Nat.le_of_ble_eq_true rfl) dJ1_init_1 fun v1 => x_stV ?_
  refine x_aload_n 4 0 dJ1_init_4 rfl ?_
  refine x_iconst 5 0 (0 : Int32) dJ1_init_5 rfl ?_
  refine x_putI 6 fa_J1_7_15 rfl (Or.inl rfl) dJ1_init_6 ?_
  exact x_vret 9 hZ rfl dJ1_init_9
def f_J19_init_15 (i0 : Nat) : PT Unit := bn0 (f_J1_init_15 i0) fun _ => rt ()
theorem im_J19_init_15 {g : GP} {l : Launch} (hl : l.stackTraces = false) (i0 : Nat) : Im g l 3 yJ19_init cJ19_init 1 none eV [.ref (idc 15 i0)] (f_J19_init_15 i0) := by
  refine tx_start hl 3 _ _ _ _ (by decide) (Nat.le_of_ble_eq_true rfl) fun Γ Z hΓ hZ => ?_
  subst hΓ
  unfold f_J19_init_15
  show TX g Γ _ Z _ 0 [(0, .ref (idc 15 i0))] [] _
  refine x_aload_n 0 0 dJ19_init_0 rfl ?_
  refine x_cI 1 2 [] [] (by decide) cn_J19_1 (im_J1_init_15 hl i0) (by decide) rfl (Nat.le_of_ble_eq_true rfl) dJ19_init_1 fun v1 => x_stV ?_
  exact x_vret 4 hZ rfl dJ19_init_4
def f_J20_init (i0 : Nat) : PT Unit := bn0 (f_J19_init_15 i0) fun _ => pI 15 i0 1 (0 : Int32) <| rt ()
theorem im_J20_init {g : GP} {l : Launch} (hl : l.stackTraces = false) (i0 : Nat) : Im g l 4 yJ20_init cJ20_init 1 none eV [.ref (idc 15 i0)] (f_J20_init i0) := by
  refine tx_start hl 4 _ _ _ _ (by decide) (Nat.le_of_ble_eq_true rfl) fun Γ Z hΓ hZ => ?_
  subst hΓ
  unfold f_J20_init
  show TX g Γ _ Z _ 0 [(0, .ref (idc 15 i0))] [] _
  refine x_aload_n 0 0 dJ20_init_0 rfl ?_
  refine x_cI 1 3 [] [] (by decide) cn_J20_1 (im_J19_init_15 hl i0) (by decide) rfl (Nat.le_of_ble_eq_true rfl) dJ20_init_1 fun v1 => x_stV ?_
  refine x_aload_n 4 0 dJ20_init_4 rfl ?_
  refine x_iconst 5 0 (0 : Int32) dJ20_init_5 rfl ?_
  refine x_putI 6 fa_J20_7_15 rfl (Or.inl rfl) dJ20_init_6 ?_
  exact x_vret 9 hZ rfl dJ20_init_9
def f_J13_copyOf_2 (a1 : Nat) (a2 : Int32) : PT Nat := aLen 34 a1 fun v1 => cnd (a2 = v1) (cln 34 a1 fun i3 => rt (idc 34 i3)) (nwA 34 a2 fun i4 => aLen 34 a1 fun v5 => cpJ a1 (0 : Int32) i4 (0 : Int32) (mnI v5 a2) <| rt (idc 34 i4))
theorem im_J13_copyOf_2 {g : GP} {l : Launch} (hl : l.stackTraces = false) (a1 : Nat) (a2 : Int32) : Im g l 1 yJ13_copyOf_2 cJ13_copyOf_2 3 (some (.array .long)) eR [.ref (idc 34 a1), .int a2] (f_J13_copyOf_2 a1 a2) := by
  refine tx_start hl 1 _ _ _ _ (by decide) (Nat.le_of_ble_eq_true rfl) fun Γ Z hΓ hZ => ?_
  subst hΓ
  unfold f_J13_copyOf_2
  show TX g Γ _ Z _ 0 [(0, .ref (idc 34 a1)), (1, .int a2)] [] _
  refine x_iload_n 0 1 dJ13_copyOf_2_0 rfl ?_
  refine x_aload_n 1 0 dJ13_copyOf_2_1 rfl ?_
  refine x_alen 2 (by decide) dJ13_copyOf_2_2 fun v1 => ?_
  refine x_icmp_ne 3 14 dJ13_copyOf_2_3 rfl (fun c2 => ?_) (fun c2 => ?_)
  · refine x_aload_n 6 0 dJ13_copyOf_2_6 rfl ?_
    refine x_clnA 7 (Or.inr ⟨rfl, rfl⟩) q636 q637 q266 q267 q638 q639 (by decide) (Nat.le_of_ble_eq_true rfl) dJ13_copyOf_2_7 fun i3 => ?_
    refine x_castA 10 (Or.inr ⟨rfl, rfl⟩) q640 dJ13_copyOf_2_10 ?_
    exact x_aret 13 hZ (Or.inr ⟨_, rfl⟩) dJ13_copyOf_2_13
  · refine x_iload_n 14 1 dJ13_copyOf_2_14 rfl ?_
    refine x_newa 15 (Or.inr (Or.inr rfl)) rfl q527 dJ13_copyOf_2_15 fun i4 => ?_
    refine x_astore_n 17 [(2, .ref (idc 34 i4)), (0, .ref (idc 34 a1)), (1, .int a2)] dJ13_copyOf_2_17 (by decide) rfl ?_
    refine x_aload_n 18 1 dJ13_copyOf_2_18 rfl ?_
    refine x_iconst 19 0 (0 : Int32) dJ13_copyOf_2_19 rfl ?_
    refine x_aload_n 20 0 dJ13_copyOf_2_20 rfl ?_
    refine x_iconst 21 0 (0 : Int32) dJ13_copyOf_2_21 rfl ?_
    refine x_aload_n 22 1 dJ13_copyOf_2_22 rfl ?_
    refine x_alen 23 (by decide) dJ13_copyOf_2_23 fun v5 => ?_
    refine x_iload_n 24 2 dJ13_copyOf_2_24 rfl ?_
    refine x_mmin 25 q271 q272 q85 q273 (by decide) (Nat.le_of_ble_eq_true rfl) dJ13_copyOf_2_25 ?_
    refine x_copyJ 28 q274 q276 q275 q87 (by decide) (Nat.le_of_ble_eq_true rfl) dJ13_copyOf_2_28 ?_
    refine x_aload_n 31 0 dJ13_copyOf_2_31 rfl ?_
    exact x_aret 32 hZ (Or.inr ⟨_, rfl⟩) dJ13_copyOf_2_32
def f_J18_ensureCapacity (i0 : Nat) (a1 : Int32) : PT Unit := gR 14 i0 0 fun v1 => isK 34 v1 fun i3 => aLen 34 i3 fun v2 => cnd (a1 ≤ v2) (rt ()) (gR 14 i0 0 fun v6 => isK 34 v6 fun i8 => aLen 34 i8 fun v7 => gR 14 i0 0 fun v10 => isK 34 v10 fun i11 => bn0 (f_J13_copyOf_2 i11 (mxI ((2 : Int32) * v7) a1)) fun v13 => pR 14 i0 0 v13 <| pZ 14 i0 2 (0 : Int32) <| rt ())
theorem im_J18_ensureCapacity {g : GP} {l : Launch} (hl : l.stackTraces = false) (i0 : Nat) (a1 : Int32) : Im g l 2 yJ18_ensureCapacity cJ18_ensureCapacity 3 none eV [.ref (idc 14 i0), .int a1] (f_J18_ensureCapacity i0 a1) := by
  refine tx_start hl 2 _ _ _ _ (by decide) (Nat.le_of_ble_eq_true rfl) fun Γ Z hΓ hZ => ?_
  subst hΓ
  unfold f_J18_ensureCapacity
  show TX g Γ _ Z _ 0 [(0, .ref (idc 14 i0)), (1, .int a1)] [] _
  refine x_aload_n 0 0 dJ18_ensureCapacity_0 rfl ?_
  refine x_getR 1 fa_J18_11_14 dJ18_ensureCapacity_1 fun v1 => ?_
  refine x_isK fun i3 h4 => ?_
  subst h4
  refine x_alen 4 (by decide) dJ18_ensureCapacity_4 fun v2 => ?_
  refine x_iload_n 5 1 dJ18_ensureCapacity_5 rfl ?_
  refine x_icmp_ge 6 38 dJ18_ensureCapacity_6 rfl (fun c5 => ?_) (fun c5 => ?_)
  · exact x_vret 38 hZ rfl dJ18_ensureCapacity_38
  · refine x_iconst 9 2 (2 : Int32) dJ18_ensureCapacity_9 rfl ?_
    refine x_aload_n 10 0 dJ18_ensureCapacity_10 rfl ?_
    refine x_getR 11 fa_J18_11_14 dJ18_ensureCapacity_11 fun v6 => ?_
    refine x_isK fun i8 h9 => ?_
    subst h9
    refine x_alen 14 (by decide) dJ18_ensureCapacity_14 fun v7 => ?_
    refine x_imul 15 dJ18_ensureCapacity_15 ?_
    refine x_iload_n 16 1 dJ18_ensureCapacity_16 rfl ?_
    refine x_mmax 17 q632 q254 q85 q255 (by decide) (Nat.le_of_ble_eq_true rfl) dJ18_ensureCapacity_17 ?_
    refine x_istore_n 20 [(2, .int (mxI ((2 : Int32) * v7) a1)), (0, .ref (idc 14 i0)), (1, .int a1)] dJ18_ensureCapacity_20 (by decide) rfl ?_
    refine x_aload_n 21 1 dJ18_ensureCapacity_21 rfl ?_
    refine x_aload_n 22 1 dJ18_ensureCapacity_22 rfl ?_
    refine x_getR 23 fa_J18_11_14 dJ18_ensureCapacity_23 fun v10 => ?_
    refine x_iload_n 26 0 dJ18_ensureCapacity_26 rfl ?_
    refine x_isK fun i11 h12 => ?_
    subst h12
    refine x_cS 27 1 [.ref (idc 34 i11), .int (mxI ((2 : Int32) * v7) a1)] [.ref (idc 14 i0)] cs_J18_59 (im_J13_copyOf_2 hl i11 (mxI ((2 : Int32) * v7) a1)) (by decide) rfl (Nat.le_of_ble_eq_true rfl) dJ18_ensureCapacity_27 fun v13 => x_stR ?_
    refine x_putR 30 fa_J18_11_14 rfl (Or.inl rfl) dJ18_ensureCapacity_30 ?_
    refine x_aload_n 33 1 dJ18_ensureCapacity_33 rfl ?_
    refine x_iconst 34 0 (0 : Int32) dJ18_ensureCapacity_34 rfl ?_
    refine x_putZ 35 fa_J18_24_14 rfl (Or.inl rfl) dJ18_ensureCapacity_35 ?_
    exact x_vret 38 hZ rfl dJ18_ensureCapacity_38
def f_J18_expandTo (i0 : Nat) (a1 : Int32) : PT Unit := gI 14 i0 1 fun v1 => cnd ((a1 + (1 : Int32)) ≤ v1) (rt ()) (bn0 (f_J18_ensureCapacity i0 (a1 + (1 : Int32))) fun _ => pI 14 i0 1 (a1 + (1 : Int32)) <| rt ())
theorem im_J18_expandTo {g : GP} {l : Launch} (hl : l.stackTraces = false) (i0 : Nat) (a1 : Int32) : Im g l 3 yJ18_expandTo cJ18_expandTo 3 none eV [.ref (idc 14 i0), .int a1] (f_J18_expandTo i0 a1) := by
  refine tx_start hl 3 _ _ _ _ (by decide) (Nat.le_of_ble_eq_true rfl) fun Γ Z hΓ hZ => ?_
  subst hΓ
  unfold f_J18_expandTo
  show TX g Γ _ Z _ 0 [(0, .ref (idc 14 i0)), (1, .int a1)] [] _
  refine x_iload_n 0 1 dJ18_expandTo_0 rfl ?_
  refine x_iconst 1 1 (1 : Int32) dJ18_expandTo_1 rfl ?_
  refine x_iadd 2 dJ18_expandTo_2 ?_
  refine x_istore_n 3 [(2, .int (a1 + (1 : Int32))), (0, .ref (idc 14 i0)), (1, .int a1)] dJ18_expandTo_3 (by decide) rfl ?_
  refine x_aload_n 4 1 dJ18_expandTo_4 rfl ?_
  refine x_getI 5 fa_J18_7_14 dJ18_expandTo_5 fun v1 => ?_
  refine x_iload_n 8 0 dJ18_expandTo_8 rfl ?_
  refine x_icmp_ge 9 22 dJ18_expandTo_9 rfl (fun c2 => ?_) (fun c2 => ?_)
  · exact x_vret 22 hZ rfl dJ18_expandTo_22
  · refine x_aload_n 12 1 dJ18_expandTo_12 rfl ?_
    refine x_iload_n 13 0 dJ18_expandTo_13 rfl ?_
    refine x_cV 14 2 [.int (a1 + (1 : Int32))] [] ⟨by decide, rfl⟩ cv_J18_139 (im_J18_ensureCapacity hl i0 (a1 + (1 : Int32))) (by decide) rfl (Nat.le_of_ble_eq_true rfl) dJ18_expandTo_14 fun v3 => x_stV ?_
    refine x_aload_n 17 1 dJ18_expandTo_17 rfl ?_
    refine x_iload_n 18 0 dJ18_expandTo_18 rfl ?_
    refine x_putI 19 fa_J18_7_14 rfl (Or.inl rfl) dJ18_expandTo_19 ?_
    exact x_vret 22 hZ rfl dJ18_expandTo_22
def f_J18_checkInvariants (i0 : Nat) : PT Unit := bnd (ρ := _) (α := Unit) (cnd ((1 : Int32) = 0) stk (rt ())) (fun _ => bnd (ρ := _) (α := Unit) (cnd ((1 : Int32) = 0) stk (rt ())) (fun _ => cnd ((1 : Int32) = 0) stk (rt ())))
theorem im_J18_checkInvariants {g : GP} {l : Launch} (hl : l.stackTraces = false) (i0 : Nat) : Im g l 0 yJ18_checkInvariants cJ18_checkInvariants 1 none eV [.ref (idc 14 i0)] (f_J18_checkInvariants i0) := by
  refine tx_start hl 0 _ _ _ _ (by decide) (Nat.le_of_ble_eq_true rfl) fun Γ Z hΓ hZ => ?_
  subst hΓ
  unfold f_J18_checkInvariants
  show TX g Γ _ Z _ 0 [(0, .ref (idc 14 i0))] [] _
  refine x_gsAD 0 q645 dJ18_checkInvariants_0 ?_
  refine x_bndj 37 (fun _ => [(0, .ref (idc 14 i0))]) (fun _ => []) (fun _ => ?_) (fun hj4 => ?_)
  · show TX g Γ _ Z _ 37 [(0, .ref (idc 14 i0))] [] _
    refine x_gsAD 37 q645 dJ18_checkInvariants_37 ?_
    refine x_bndj 70 (fun _ => [(0, .ref (idc 14 i0))]) (fun _ => []) (fun _ => ?_) (fun hj2 => ?_)
    · show TX g Γ _ Z _ 70 [(0, .ref (idc 14 i0))] [] _
      refine x_gsAD 70 q645 dJ18_checkInvariants_70 ?_
      refine x_if_ne 73 110 dJ18_checkInvariants_73 rfl (fun c1 => ?_) (fun c1 => ?_)
      · exact x_stk
      · exact x_vret 110 hZ rfl dJ18_checkInvariants_110
    · refine x_if_ne 40 70 dJ18_checkInvariants_40 rfl (fun c3 => ?_) (fun c3 => ?_)
      · exact x_stk
      · exact hj2 ()
  · refine x_if_ne 3 37 dJ18_checkInvariants_3 rfl (fun c5 => ?_) (fun c5 => ?_)
    · exact x_stk
    · exact hj4 ()
def f_J18_set (i0 : Nat) (a1 : Int32) : PT Unit := cnd (0 ≤ a1) (bn0 (f_J18_wordIndex a1) fun v2 => bn0 (f_J18_expandTo i0 v2) fun _ => gR 14 i0 0 fun v4 => isK 34 v4 fun i5 => aJ 34 i5 v2 fun v7 => bJ 34 i5 v2 (v7 ||| ((1 : Int64) <<< (a1.toInt64 &&& 63))) <| bn0 (f_J18_checkInvariants i0) fun _ => rt ()) (stk)
theorem im_J18_set {g : GP} {l : Launch} (hl : l.stackTraces = false) (i0 : Nat) (a1 : Int32) : Im g l 4 yJ18_set cJ18_set 3 none eV [.ref (idc 14 i0), .int a1] (f_J18_set i0 a1) := by
  refine tx_start hl 4 _ _ _ _ (by decide) (Nat.le_of_ble_eq_true rfl) fun Γ Z hΓ hZ => ?_
  subst hΓ
  unfold f_J18_set
  show TX g Γ _ Z _ 0 [(0, .ref (idc 14 i0)), (1, .int a1)] [] _
  refine x_iload_n 0 1 dJ18_set_0 rfl ?_
  refine x_if_ge 1 31 dJ18_set_1 rfl (fun c1 => ?_) (fun c1 => ?_)
  · refine x_iload_n 31 1 dJ18_set_31 rfl ?_
    refine x_cS 32 0 [.int a1] [] cs_J18_52 (im_J18_wordIndex hl a1) (by decide) rfl (Nat.le_of_ble_eq_true rfl) dJ18_set_32 fun v2 => x_stI ?_
    refine x_istore_n 35 [(2, .int v2), (0, .ref (idc 14 i0)), (1, .int a1)] dJ18_set_35 (by decide) rfl ?_
    refine x_aload_n 36 1 dJ18_set_36 rfl ?_
    refine x_iload_n 37 0 dJ18_set_37 rfl ?_
    refine x_cV 38 3 [.int v2] [] ⟨by decide, rfl⟩ cv_J18_155 (im_J18_expandTo hl i0 v2) (by decide) rfl (Nat.le_of_ble_eq_true rfl) dJ18_set_38 fun v3 => x_stV ?_
    refine x_aload_n 41 1 dJ18_set_41 rfl ?_
    refine x_getR 42 fa_J18_11_14 dJ18_set_42 fun v4 => ?_
    refine x_iload_n 45 0 dJ18_set_45 rfl ?_
    refine x_dup2 46 dJ18_set_46 rfl rfl ?_
    refine x_isK fun i5 h6 => ?_
    subst h6
    refine x_lald 47 dJ18_set_47 fun v7 => ?_
    refine x_lconst 48 1 (1 : Int64) dJ18_set_48 rfl ?_
    refine x_iload_n 49 2 dJ18_set_49 rfl ?_
    refine x_lshl 50 dJ18_set_50 ?_
    refine x_lor 51 dJ18_set_51 ?_
    refine x_last 52 dJ18_set_52 ?_
    refine x_aload_n 53 1 dJ18_set_53 rfl ?_
    refine x_cV 54 0 [] [] ⟨by decide, rfl⟩ cv_J18_56 (im_J18_checkInvariants hl i0) (by decide) rfl (Nat.le_of_ble_eq_true rfl) dJ18_set_54 fun v8 => x_stV ?_
    exact x_vret 57 hZ rfl dJ18_set_57
  · exact x_stk
def f_J2_size (i0 : Nat) : PT Int32 := gI 13 i0 2 fun v1 => rt v1
theorem im_J2_size {g : GP} {l : Launch} (hl : l.stackTraces = false) (i0 : Nat) : Im g l 0 yJ2_size cJ2_size 1 (some .int) eI [.ref (idc 13 i0)] (f_J2_size i0) := by
  refine tx_start hl 0 _ _ _ _ (by decide) (Nat.le_of_ble_eq_true rfl) fun Γ Z hΓ hZ => ?_
  subst hΓ
  unfold f_J2_size
  show TX g Γ _ Z _ 0 [(0, .ref (idc 13 i0))] [] _
  refine x_aload_n 0 0 dJ2_size_0 rfl ?_
  refine x_getI 1 fa_J2_48_13 dJ2_size_1 fun v1 => ?_
  exact x_iret 4 hZ rfl dJ2_size_4
def f_J18_get (i0 : Nat) (a1 : Int32) : PT Int32 := cnd (0 ≤ a1) (bn0 (f_J18_checkInvariants i0) fun _ => bn0 (f_J18_wordIndex a1) fun v3 => gI 14 i0 1 fun v4 => cnd (v4 ≤ v3) (asr ((0 : Int32) = 0 ∨ (0 : Int32) = 1) (rt (0 : Int32))) (gR 14 i0 0 fun v6 => isK 34 v6 fun i7 => aJ 34 i7 v3 fun v9 => cnd ((lg_cmp (v9 &&& ((1 : Int64) <<< (a1.toInt64 &&& 63))) (0 : Int64)) = 0) (asr ((0 : Int32) = 0 ∨ (0 : Int32) = 1) (rt (0 : Int32))) (asr ((1 : Int32) = 0 ∨ (1 : Int32) = 1) (rt (1 : Int32))))) (stk)
theorem im_J18_get {g : GP} {l : Launch} (hl : l.stackTraces = false) (i0 : Nat) (a1 : Int32) : Im g l 1 yJ18_get cJ18_get 3 (some .boolean) eI [.ref (idc 14 i0), .int a1] (f_J18_get i0 a1) := by
  refine tx_start hl 1 _ _ _ _ (by decide) (Nat.le_of_ble_eq_true rfl) fun Γ Z hΓ hZ => ?_
  subst hΓ
  unfold f_J18_get
  show TX g Γ _ Z _ 0 [(0, .ref (idc 14 i0)), (1, .int a1)] [] _
  refine x_iload_n 0 1 dJ18_get_0 rfl ?_
  refine x_if_ge 1 31 dJ18_get_1 rfl (fun c1 => ?_) (fun c1 => ?_)
  · refine x_aload_n 31 0 dJ18_get_31 rfl ?_
    refine x_cV 32 0 [] [] ⟨by decide, rfl⟩ cv_J18_56 (im_J18_checkInvariants hl i0) (by decide) rfl (Nat.le_of_ble_eq_true rfl) dJ18_get_32 fun v2 => x_stV ?_
    refine x_iload_n 35 1 dJ18_get_35 rfl ?_
    refine x_cS 36 0 [.int a1] [] cs_J18_52 (im_J18_wordIndex hl a1) (by decide) rfl (Nat.le_of_ble_eq_true rfl) dJ18_get_36 fun v3 => x_stI ?_
    refine x_istore_n 39 [(2, .int v3), (0, .ref (idc 14 i0)), (1, .int a1)] dJ18_get_39 (by decide) rfl ?_
    refine x_iload_n 40 0 dJ18_get_40 rfl ?_
    refine x_aload_n 41 1 dJ18_get_41 rfl ?_
    refine x_getI 42 fa_J18_7_14 dJ18_get_42 fun v4 => ?_
    refine x_icmp_ge 45 67 dJ18_get_45 rfl (fun c5 => ?_) (fun c5 => ?_)
    · refine x_iconst 67 0 (0 : Int32) dJ18_get_67 rfl ?_
      exact x_zret 68 hZ rfl dJ18_get_68
    · refine x_aload_n 48 1 dJ18_get_48 rfl ?_
      refine x_getR 49 fa_J18_11_14 dJ18_get_49 fun v6 => ?_
      refine x_iload_n 52 0 dJ18_get_52 rfl ?_
      refine x_isK fun i7 h8 => ?_
      subst h8
      refine x_lald 53 dJ18_get_53 fun v9 => ?_
      refine x_lconst 54 1 (1 : Int64) dJ18_get_54 rfl ?_
      refine x_iload_n 55 2 dJ18_get_55 rfl ?_
      refine x_lshl 56 dJ18_get_56 ?_
      refine x_land 57 dJ18_get_57 ?_
      refine x_lconst 58 0 (0 : Int64) dJ18_get_58 rfl ?_
      refine x_lcmp 59 dJ18_get_59 ?_
      refine x_if_eq 60 67 dJ18_get_60 rfl (fun c10 => ?_) (fun c10 => ?_)
      · refine x_iconst 67 0 (0 : Int32) dJ18_get_67 rfl ?_
        exact x_zret 68 hZ rfl dJ18_get_68
      · refine x_iconst 63 1 (1 : Int32) dJ18_get_63 rfl ?_
        refine x_goto 64 68 dJ18_get_64 rfl ?_
        exact x_zret 68 hZ rfl dJ18_get_68
  · exact x_stk
def f_J18_recalculateWordsInUse (i0 : Nat) : PT Unit := gI 14 i0 1 fun v1 => lp (σ := Int32) (fun r3 => fun u2 => jo (σ := Int32) (fun u4 => pI 14 i0 1 (u4 + (1 : Int32)) <| rt ()) fun j6 => cnd (u2 < 0) (j6 u2) (gR 14 i0 0 fun v8 => isK 34 v8 fun i9 => aJ 34 i9 u2 fun v11 => cnd ((lg_cmp v11 (0 : Int64)) = 0) (r3 (u2 + (-1 : Int32))) (j6 u2))) (v1 - (1 : Int32))
theorem im_J18_recalculateWordsInUse {g : GP} {l : Launch} (hl : l.stackTraces = false) (i0 : Nat) : Im g l 0 yJ18_recalculateWordsInUse cJ18_recalculateWordsInUse 2 none eV [.ref (idc 14 i0)] (f_J18_recalculateWordsInUse i0) := by
  refine tx_start hl 0 _ _ _ _ (by decide) (Nat.le_of_ble_eq_true rfl) fun Γ Z hΓ hZ => ?_
  subst hΓ
  unfold f_J18_recalculateWordsInUse
  show TX g Γ _ Z _ 0 [(0, .ref (idc 14 i0))] [] _
  refine x_aload_n 0 0 dJ18_recalculateWordsInUse_0 rfl ?_
  refine x_getI 1 fa_J18_7_14 dJ18_recalculateWordsInUse_1 fun v1 => ?_
  refine x_iconst 4 1 (1 : Int32) dJ18_recalculateWordsInUse_4 rfl ?_
  refine x_isub 5 dJ18_recalculateWordsInUse_5 ?_
  refine x_istore_n 6 [(1, .int (v1 - (1 : Int32))), (0, .ref (idc 14 i0))] dJ18_recalculateWordsInUse_6 (by decide) rfl ?_
  refine x_sub [1, 0] [(0, .ref (idc 14 i0)), (1, .int (v1 - (1 : Int32)))] rfl ?_
  refine x_lp (Lf := fun u2 => [(0, .ref (idc 14 i0)), (1, .int u2)]) (sf := fun _ => []) (fun r3 hr3 u2 => ?_) (v1 - (1 : Int32))
  show TX g Γ _ Z _ 7 [(0, .ref (idc 14 i0)), (1, .int u2)] [] _
  refine x_iload_n 7 1 dJ18_recalculateWordsInUse_7 rfl ?_
  refine x_jo 31 (Lf := fun u4 => [(0, .ref (idc 14 i0)), (1, .int u4)]) (sf := fun u4 => []) (fun u4 => ?_) (fun j6 hj5 => ?_)
  · show TX g Γ _ Z _ 31 [(0, .ref (idc 14 i0)), (1, .int u4)] [] _
    refine x_aload_n 31 0 dJ18_recalculateWordsInUse_31 rfl ?_
    refine x_iload_n 32 1 dJ18_recalculateWordsInUse_32 rfl ?_
    refine x_iconst 33 1 (1 : Int32) dJ18_recalculateWordsInUse_33 rfl ?_
    refine x_iadd 34 dJ18_recalculateWordsInUse_34 ?_
    refine x_putI 35 fa_J18_7_14 rfl (Or.inl rfl) dJ18_recalculateWordsInUse_35 ?_
    exact x_vret 38 hZ rfl dJ18_recalculateWordsInUse_38
  · refine x_if_lt 8 31 dJ18_recalculateWordsInUse_8 rfl (fun c7 => ?_) (fun c7 => ?_)
    · exact hj5 u2
    · refine x_aload_n 11 0 dJ18_recalculateWordsInUse_11 rfl ?_
      refine x_getR 12 fa_J18_11_14 dJ18_recalculateWordsInUse_12 fun v8 => ?_
      refine x_iload_n 15 1 dJ18_recalculateWordsInUse_15 rfl ?_
      refine x_isK fun i9 h10 => ?_
      subst h10
      refine x_lald 16 dJ18_recalculateWordsInUse_16 fun v11 => ?_
      refine x_lconst 17 0 (0 : Int64) dJ18_recalculateWordsInUse_17 rfl ?_
      refine x_lcmp 18 dJ18_recalculateWordsInUse_18 ?_
      refine x_if_eq 19 25 dJ18_recalculateWordsInUse_19 rfl (fun c12 => ?_) (fun c12 => ?_)
      · refine x_iinc 25 1 [(1, .int (u2 + (-1 : Int32))), (0, .ref (idc 14 i0))] dJ18_recalculateWordsInUse_25 rfl rfl (by decide) rfl ?_
        refine x_goto 28 7 dJ18_recalculateWordsInUse_28 rfl ?_
        refine x_sub [1, 0] _ rfl ?_
        exact hr3 (u2 + (-1 : Int32))
      · refine x_goto 22 31 dJ18_recalculateWordsInUse_22 rfl ?_
        exact hj5 u2
def f_J18_clear (i0 : Nat) (a1 : Int32) : PT Unit := cnd (0 ≤ a1) (bn0 (f_J18_wordIndex a1) fun v2 => gI 14 i0 1 fun v3 => cnd (v2 < v3) (gR 14 i0 0 fun v5 => isK 34 v5 fun i6 => aJ 34 i6 v2 fun v8 => bJ 34 i6 v2 (v8 &&& (((1 : Int64) <<< (a1.toInt64 &&& 63)) ^^^ (-1 : Int64))) <| bn0 (f_J18_recalculateWordsInUse i0) fun _ => bn0 (f_J18_checkInvariants i0) fun _ => rt ()) (rt ())) (stk)
theorem im_J18_clear {g : GP} {l : Launch} (hl : l.stackTraces = false) (i0 : Nat) (a1 : Int32) : Im g l 1 yJ18_clear cJ18_clear 3 none eV [.ref (idc 14 i0), .int a1] (f_J18_clear i0 a1) := by
  refine tx_start hl 1 _ _ _ _ (by decide) (Nat.le_of_ble_eq_true rfl) fun Γ Z hΓ hZ => ?_
  subst hΓ
  unfold f_J18_clear
  show TX g Γ _ Z _ 0 [(0, .ref (idc 14 i0)), (1, .int a1)] [] _
  refine x_iload_n 0 1 dJ18_clear_0 rfl ?_
  refine x_if_ge 1 31 dJ18_clear_1 rfl (fun c1 => ?_) (fun c1 => ?_)
  · refine x_iload_n 31 1 dJ18_clear_31 rfl ?_
    refine x_cS 32 0 [.int a1] [] cs_J18_52 (im_J18_wordIndex hl a1) (by decide) rfl (Nat.le_of_ble_eq_true rfl) dJ18_clear_32 fun v2 => x_stI ?_
    refine x_istore_n 35 [(2, .int v2), (0, .ref (idc 14 i0)), (1, .int a1)] dJ18_clear_35 (by decide) rfl ?_
    refine x_iload_n 36 0 dJ18_clear_36 rfl ?_
    refine x_aload_n 37 1 dJ18_clear_37 rfl ?_
    refine x_getI 38 fa_J18_7_14 dJ18_clear_38 fun v3 => ?_
    refine x_icmp_lt 41 45 dJ18_clear_41 rfl (fun c4 => ?_) (fun c4 => ?_)
    · refine x_aload_n 45 1 dJ18_clear_45 rfl ?_
      refine x_getR 46 fa_J18_11_14 dJ18_clear_46 fun v5 => ?_
      refine x_iload_n 49 0 dJ18_clear_49 rfl ?_
      refine x_dup2 50 dJ18_clear_50 rfl rfl ?_
      refine x_isK fun i6 h7 => ?_
      subst h7
      refine x_lald 51 dJ18_clear_51 fun v8 => ?_
      refine x_lconst 52 1 (1 : Int64) dJ18_clear_52 rfl ?_
      refine x_iload_n 53 2 dJ18_clear_53 rfl ?_
      refine x_lshl 54 dJ18_clear_54 ?_
      refine x_ldc2 55 165 (-1 : Int64) dJ18_clear_55 q986 ?_
      refine x_lxor 58 dJ18_clear_58 ?_
      refine x_land 59 dJ18_clear_59 ?_
      refine x_last 60 dJ18_clear_60 ?_
      refine x_aload_n 61 1 dJ18_clear_61 rfl ?_
      refine x_cV 62 0 [] [] ⟨by decide, rfl⟩ cv_J18_158 (im_J18_recalculateWordsInUse hl i0) (by decide) rfl (Nat.le_of_ble_eq_true rfl) dJ18_clear_62 fun v9 => x_stV ?_
      refine x_aload_n 65 1 dJ18_clear_65 rfl ?_
      refine x_cV 66 0 [] [] ⟨by decide, rfl⟩ cv_J18_56 (im_J18_checkInvariants hl i0) (by decide) rfl (Nat.le_of_ble_eq_true rfl) dJ18_clear_66 fun v10 => x_stV ?_
      exact x_vret 69 hZ rfl dJ18_clear_69
    · exact x_vret 44 hZ rfl dJ18_clear_44
  · exact x_stk
def f_J18_set_2 (i0 : Nat) (a1 : Int32) (a2 : Int32) : PT Unit := cnd (a2 = 0) (bn0 (f_J18_clear i0 a1) fun _ => rt ()) (bn0 (f_J18_set i0 a1) fun _ => rt ())
theorem im_J18_set_2 {g : GP} {l : Launch} (hl : l.stackTraces = false) (i0 : Nat) (a1 : Int32) (a2 : Int32) : Im g l 5 yJ18_set_2 cJ18_set_2 3 none eV [.ref (idc 14 i0), .int a1, .int a2] (f_J18_set_2 i0 a1 a2) := by
  refine tx_start hl 5 _ _ _ _ (by decide) (Nat.le_of_ble_eq_true rfl) fun Γ Z hΓ hZ => ?_
  subst hΓ
  unfold f_J18_set_2
  show TX g Γ _ Z _ 0 [(0, .ref (idc 14 i0)), (1, .int a1), (2, .int a2)] [] _
  refine x_iload_n 0 2 dJ18_set_2_0 rfl ?_
  refine x_if_eq 1 12 dJ18_set_2_1 rfl (fun c1 => ?_) (fun c1 => ?_)
  · refine x_aload_n 12 0 dJ18_set_2_12 rfl ?_
    refine x_iload_n 13 1 dJ18_set_2_13 rfl ?_
    refine x_cV 14 1 [.int a1] [] ⟨by decide, rfl⟩ cv_J18_170 (im_J18_clear hl i0 a1) (by decide) rfl (Nat.le_of_ble_eq_true rfl) dJ18_set_2_14 fun v2 => x_stV ?_
    exact x_vret 17 hZ rfl dJ18_set_2_17
  · refine x_aload_n 4 0 dJ18_set_2_4 rfl ?_
    refine x_iload_n 5 1 dJ18_set_2_5 rfl ?_
    refine x_cV 6 4 [.int a1] [] ⟨by decide, rfl⟩ cv_J18_167 (im_J18_set hl i0 a1) (by decide) rfl (Nat.le_of_ble_eq_true rfl) dJ18_set_2_6 fun v3 => x_stV ?_
    refine x_goto 9 17 dJ18_set_2_9 rfl ?_
    exact x_vret 17 hZ rfl dJ18_set_2_17
def f_J11_newLength (a1 : Int32) (a2 : Int32) (a3 : Int32) : PT Int32 := cnd ((a1 + (mxI a2 a3)) ≤ (0 : Int32)) (stk) (cnd ((2147483639 : Int32) < (a1 + (mxI a2 a3))) (stk) (rt (a1 + (mxI a2 a3))))
theorem im_J11_newLength {g : GP} {l : Launch} (hl : l.stackTraces = false) (a1 : Int32) (a2 : Int32) (a3 : Int32) : Im g l 1 yJ11_newLength cJ11_newLength 4 (some .int) eI [.int a1, .int a2, .int a3] (f_J11_newLength a1 a2 a3) := by
  refine tx_start hl 1 _ _ _ _ (by decide) (Nat.le_of_ble_eq_true rfl) fun Γ Z hΓ hZ => ?_
  subst hΓ
  unfold f_J11_newLength
  show TX g Γ _ Z _ 0 [(0, .int a1), (1, .int a2), (2, .int a3)] [] _
  refine x_iload_n 0 0 dJ11_newLength_0 rfl ?_
  refine x_iload_n 1 1 dJ11_newLength_1 rfl ?_
  refine x_iload_n 2 2 dJ11_newLength_2 rfl ?_
  refine x_mmax 3 q253 q254 q85 q255 (by decide) (Nat.le_of_ble_eq_true rfl) dJ11_newLength_3 ?_
  refine x_iadd 6 dJ11_newLength_6 ?_
  refine x_istore_n 7 [(3, .int (a1 + (mxI a2 a3))), (0, .int a1), (1, .int a2), (2, .int a3)] dJ11_newLength_7 (by decide) rfl ?_
  refine x_iconst 8 0 (0 : Int32) dJ11_newLength_8 rfl ?_
  refine x_iload_n 9 0 dJ11_newLength_9 rfl ?_
  refine x_icmp_ge 10 21 dJ11_newLength_10 rfl (fun c1 => ?_) (fun c1 => ?_)
  · refine x_iload_n 21 1 dJ11_newLength_21 rfl ?_
    refine x_iload_n 22 2 dJ11_newLength_22 rfl ?_
    exact x_stk
  · refine x_iload_n 13 0 dJ11_newLength_13 rfl ?_
    refine x_ldc 14 200 (2147483639 : Int32) dJ11_newLength_14 q256 ?_
    refine x_icmp_gt 16 21 dJ11_newLength_16 rfl (fun c2 => ?_) (fun c2 => ?_)
    · refine x_iload_n 21 1 dJ11_newLength_21 rfl ?_
      refine x_iload_n 22 2 dJ11_newLength_22 rfl ?_
      exact x_stk
    · refine x_iload_n 19 0 dJ11_newLength_19 rfl ?_
      exact x_iret 20 hZ rfl dJ11_newLength_20
def f_J13_copyOf_4 (a1 : Nat) (a2 : Int32) (a3 : Nat) : PT Nat := nwA 35 a2 fun i1 => aLen 35 a1 fun v2 => cpR a1 (0 : Int32) i1 (0 : Int32) (mnI v2 a2) <| rt (idc 35 i1)
theorem im_J13_copyOf_4 {g : GP} {l : Launch} (hl : l.stackTraces = false) (a1 : Nat) (a2 : Int32) (a3 : Nat) : Im g l 1 yJ13_copyOf_4 cJ13_copyOf_4 4 (some (.array (.object "java/lang/Object"))) eR [.ref (idc 35 a1), .int a2, .ref (idc 52 0)] (f_J13_copyOf_4 a1 a2 a3) := by
  refine tx_start hl 1 _ _ _ _ (by decide) (Nat.le_of_ble_eq_true rfl) fun Γ Z hΓ hZ => ?_
  subst hΓ
  unfold f_J13_copyOf_4
  show TX g Γ _ Z _ 0 [(0, .ref (idc 35 a1)), (1, .int a2), (2, .ref (idc 52 0))] [] _
  refine x_aload_n 0 2 dJ13_copyOf_4_0 rfl ?_
  refine x_ldcM 1 q932 dJ13_copyOf_4_1 ?_
  refine x_acmp_neS 3 dJ13_copyOf_4_3 13 rfl ?_
  refine x_iload_n 6 1 dJ13_copyOf_4_6 rfl ?_
  refine x_anewa 7 (by decide) rfl q933 dJ13_copyOf_4_7 fun i1 => ?_
  refine x_goto 10 24 dJ13_copyOf_4_10 rfl ?_
  refine x_astore_n 24 [(3, .ref (idc 35 i1)), (0, .ref (idc 35 a1)), (1, .int a2), (2, .ref (idc 52 0))] dJ13_copyOf_4_24 (by decide) rfl ?_
  refine x_aload_n 25 1 dJ13_copyOf_4_25 rfl ?_
  refine x_iconst 26 0 (0 : Int32) dJ13_copyOf_4_26 rfl ?_
  refine x_aload_n 27 0 dJ13_copyOf_4_27 rfl ?_
  refine x_iconst 28 0 (0 : Int32) dJ13_copyOf_4_28 rfl ?_
  refine x_aload_n 29 1 dJ13_copyOf_4_29 rfl ?_
  refine x_alen 30 (by decide) dJ13_copyOf_4_30 fun v2 => ?_
  refine x_iload_n 31 2 dJ13_copyOf_4_31 rfl ?_
  refine x_mmin 32 q271 q272 q85 q273 (by decide) (Nat.le_of_ble_eq_true rfl) dJ13_copyOf_4_32 ?_
  refine x_copyR 35 q274 q276 q275 q87 (by decide) (Nat.le_of_ble_eq_true rfl) dJ13_copyOf_4_35 ?_
  refine x_aload_n 38 0 dJ13_copyOf_4_38 rfl ?_
  exact x_aret 39 hZ (Or.inr ⟨_, rfl⟩) dJ13_copyOf_4_39
def f_J13_copyOf_3 (a1 : Nat) (a2 : Int32) : PT Nat := bn0 (f_J13_copyOf_4 a1 a2 0) fun v1 => rt v1
theorem im_J13_copyOf_3 {g : GP} {l : Launch} (hl : l.stackTraces = false) (a1 : Nat) (a2 : Int32) : Im g l 2 yJ13_copyOf_3 cJ13_copyOf_3 2 (some (.array (.object "java/lang/Object"))) eR [.ref (idc 35 a1), .int a2] (f_J13_copyOf_3 a1 a2) := by
  refine tx_start hl 2 _ _ _ _ (by decide) (Nat.le_of_ble_eq_true rfl) fun Γ Z hΓ hZ => ?_
  subst hΓ
  unfold f_J13_copyOf_3
  show TX g Γ _ Z _ 0 [(0, .ref (idc 35 a1)), (1, .int a2)] [] _
  refine x_aload_n 0 0 dJ13_copyOf_3_0 rfl ?_
  refine x_iload_n 1 1 dJ13_copyOf_3_1 rfl ?_
  refine x_aload_n 2 0 dJ13_copyOf_3_2 rfl ?_
  refine x_getC 3 q894 q3082 q895 q928 q3083 (by decide) (Nat.le_of_ble_eq_true rfl) dJ13_copyOf_3_3 ?_
  refine x_cS 6 1 [.ref (idc 35 a1), .int a2, .ref (idc 52 0)] [] cs_J13_300 (im_J13_copyOf_4 hl a1 a2 0) (by decide) rfl (Nat.le_of_ble_eq_true rfl) dJ13_copyOf_3_6 fun v1 => x_stR ?_
  exact x_aret 9 hZ (Or.inr ⟨_, rfl⟩) dJ13_copyOf_3_9
def f_J2_grow_2 (i0 : Nat) (a1 : Int32) : PT Nat := gR 13 i0 1 fun v1 => aLenD v1 fun v2 => jo (σ := Unit) (fun _ => bn0 (f_J11_newLength v2 (a1 - v2) (v2 >>> ((1 : Int32) &&& 31))) fun v3 => gR 13 i0 1 fun v4 => isK 35 v4 fun i5 => bn0 (f_J13_copyOf_3 i5 v3) fun v7 => pR 13 i0 1 v7 <| rt v7) fun j9 => cnd (0 < v2) (j9 ()) (gR 13 i0 1 fun v11 => asr (cmpN v11 ∧ cmpN (idc 48 0)) <| cnd (v11 = (idc 48 0)) (nwA 35 (mxI (10 : Int32) a1) fun i13 => pR 13 i0 1 (idc 35 i13) <| rt (idc 35 i13)) (j9 ()))
theorem im_J2_grow_2 {g : GP} {l : Launch} (hl : l.stackTraces = false) (i0 : Nat) (a1 : Int32) : Im g l 3 yJ2_grow_2 cJ2_grow_2 4 (some (.array (.object "java/lang/Object"))) eR [.ref (idc 13 i0), .int a1] (f_J2_grow_2 i0 a1) := by
  refine tx_start hl 3 _ _ _ _ (by decide) (Nat.le_of_ble_eq_true rfl) fun Γ Z hΓ hZ => ?_
  subst hΓ
  unfold f_J2_grow_2
  show TX g Γ _ Z _ 0 [(0, .ref (idc 13 i0)), (1, .int a1)] [] _
  refine x_aload_n 0 0 dJ2_grow_2_0 rfl ?_
  refine x_getR 1 fa_J2_9_13 dJ2_grow_2_1 fun v1 => ?_
  refine x_alenD 4 dJ2_grow_2_4 fun v2 => ?_
  refine x_istore_n 5 [(2, .int v2), (0, .ref (idc 13 i0)), (1, .int a1)] dJ2_grow_2_5 (by decide) rfl ?_
  refine x_iload_n 6 0 dJ2_grow_2_6 rfl ?_
  refine x_jo 20 (Lf := fun _ => [(0, .ref (idc 13 i0)), (1, .int a1), (2, .int v2)]) (sf := fun _ => []) (fun _ => ?_) (fun j9 hj8 => ?_)
  · show TX g Γ _ Z _ 20 [(0, .ref (idc 13 i0)), (1, .int a1), (2, .int v2)] [] _
    refine x_iload_n 20 2 dJ2_grow_2_20 rfl ?_
    refine x_iload_n 21 1 dJ2_grow_2_21 rfl ?_
    refine x_iload_n 22 2 dJ2_grow_2_22 rfl ?_
    refine x_isub 23 dJ2_grow_2_23 ?_
    refine x_iload_n 24 2 dJ2_grow_2_24 rfl ?_
    refine x_iconst 25 1 (1 : Int32) dJ2_grow_2_25 rfl ?_
    refine x_ishr 26 dJ2_grow_2_26 ?_
    refine x_cS 27 1 [.int v2, .int (a1 - v2), .int (v2 >>> ((1 : Int32) &&& 31))] [] cs_J2_73 (im_J11_newLength hl v2 (a1 - v2) (v2 >>> ((1 : Int32) &&& 31))) (by decide) rfl (Nat.le_of_ble_eq_true rfl) dJ2_grow_2_27 fun v3 => x_stI ?_
    refine x_istore_n 30 [(3, .int v3), (0, .ref (idc 13 i0)), (1, .int a1), (2, .int v2)] dJ2_grow_2_30 (by decide) rfl ?_
    refine x_aload_n 31 1 dJ2_grow_2_31 rfl ?_
    refine x_aload_n 32 1 dJ2_grow_2_32 rfl ?_
    refine x_getR 33 fa_J2_9_13 dJ2_grow_2_33 fun v4 => ?_
    refine x_iload_n 36 0 dJ2_grow_2_36 rfl ?_
    refine x_isK fun i5 h6 => ?_
    subst h6
    refine x_cS 37 2 [.ref (idc 35 i5), .int v3] [.ref (idc 13 i0)] cs_J2_66 (im_J13_copyOf_3 hl i5 v3) (by decide) rfl (Nat.le_of_ble_eq_true rfl) dJ2_grow_2_37 fun v7 => x_stR ?_
    refine x_dup_x1 40 dJ2_grow_2_40 rfl rfl ?_
    refine x_putR 41 fa_J2_9_13 rfl (Or.inl rfl) dJ2_grow_2_41 ?_
    exact x_aret 44 hZ (Or.inr ⟨_, rfl⟩) dJ2_grow_2_44
  · refine x_if_gt 7 20 dJ2_grow_2_7 rfl (fun c10 => ?_) (fun c10 => ?_)
    · refine x_sub [1, 2, 0] _ rfl ?_
      exact hj8 ()
    · refine x_aload_n 10 1 dJ2_grow_2_10 rfl ?_
      refine x_getR 11 fa_J2_9_13 dJ2_grow_2_11 fun v11 => ?_
      refine x_gsDE 14 q499 dJ2_grow_2_14 ?_
      refine x_acmp_eq 17 45 dJ2_grow_2_17 rfl (fun c12 => ?_) (fun c12 => ?_)
      · refine x_aload_n 45 1 dJ2_grow_2_45 rfl ?_
        refine x_bipush 46 10 (10 : Int32) dJ2_grow_2_46 rfl ?_
        refine x_iload_n 48 2 dJ2_grow_2_48 rfl ?_
        refine x_mmax 49 q934 q254 q85 q255 (by decide) (Nat.le_of_ble_eq_true rfl) dJ2_grow_2_49 ?_
        refine x_anewa 52 (by decide) rfl q150 dJ2_grow_2_52 fun i13 => ?_
        refine x_dup_x1 55 dJ2_grow_2_55 rfl rfl ?_
        refine x_putR 56 fa_J2_9_13 rfl (Or.inl rfl) dJ2_grow_2_56 ?_
        exact x_aret 59 hZ (Or.inr ⟨_, rfl⟩) dJ2_grow_2_59
      · refine x_sub [1, 2, 0] _ rfl ?_
        exact hj8 ()
def f_J2_grow (i0 : Nat) : PT Nat := gI 13 i0 2 fun v1 => bn0 (f_J2_grow_2 i0 (v1 + (1 : Int32))) fun v2 => rt v2
theorem im_J2_grow {g : GP} {l : Launch} (hl : l.stackTraces = false) (i0 : Nat) : Im g l 4 yJ2_grow cJ2_grow 1 (some (.array (.object "java/lang/Object"))) eR [.ref (idc 13 i0)] (f_J2_grow i0) := by
  refine tx_start hl 4 _ _ _ _ (by decide) (Nat.le_of_ble_eq_true rfl) fun Γ Z hΓ hZ => ?_
  subst hΓ
  unfold f_J2_grow
  show TX g Γ _ Z _ 0 [(0, .ref (idc 13 i0))] [] _
  refine x_aload_n 0 0 dJ2_grow_0 rfl ?_
  refine x_aload_n 1 0 dJ2_grow_1 rfl ?_
  refine x_getI 2 fa_J2_48_13 dJ2_grow_2 fun v1 => ?_
  refine x_iconst 5 1 (1 : Int32) dJ2_grow_5 rfl ?_
  refine x_iadd 6 dJ2_grow_6 ?_
  refine x_cV 7 3 [.int (v1 + (1 : Int32))] [] ⟨by decide, rfl⟩ cv_J2_69 (im_J2_grow_2 hl i0 (v1 + (1 : Int32))) (by decide) rfl (Nat.le_of_ble_eq_true rfl) dJ2_grow_7 fun v2 => x_stR ?_
  exact x_aret 10 hZ (Or.inr ⟨_, rfl⟩) dJ2_grow_10
def f_J2_add_2 (i0 : Nat) (a1 : Nat) (a2 : Nat) (a3 : Int32) : PT Unit := aLenD a2 fun v1 => bnd (ρ := _) (α := Nat) (cnd (a3 = v1) (bn0 (f_J2_grow i0) fun v8 => rt v8) (rt a2)) (fun u2 => isK 35 u2 fun i3 => asr (elOK a1) <| bR 35 i3 a3 a1 <| pI 13 i0 2 (a3 + (1 : Int32)) <| rt ())
theorem im_J2_add_2 {g : GP} {l : Launch} (hl : l.stackTraces = false) (i0 : Nat) (a1 : Nat) (a2 : Nat) (a3 : Int32) : Im g l 5 yJ2_add_2 cJ2_add_2 4 none eV [.ref (idc 13 i0), .ref a1, .ref a2, .int a3] (f_J2_add_2 i0 a1 a2 a3) := by
  refine tx_start hl 5 _ _ _ _ (by decide) (Nat.le_of_ble_eq_true rfl) fun Γ Z hΓ hZ => ?_
  subst hΓ
  unfold f_J2_add_2
  show TX g Γ _ Z _ 0 [(0, .ref (idc 13 i0)), (1, .ref a1), (2, .ref a2), (3, .int a3)] [] _
  refine x_iload_n 0 3 dJ2_add_2_0 rfl ?_
  refine x_aload_n 1 2 dJ2_add_2_1 rfl ?_
  refine x_alenD 2 dJ2_add_2_2 fun v1 => ?_
  refine x_bndj 11 (fun u2 => [(0, .ref (idc 13 i0)), (1, .ref a1), (2, .ref u2), (3, .int a3)]) (fun u2 => []) (fun u2 => ?_) (fun hj6 => ?_)
  · show TX g Γ _ Z _ 11 [(0, .ref (idc 13 i0)), (1, .ref a1), (2, .ref u2), (3, .int a3)] [] _
    refine x_aload_n 11 2 dJ2_add_2_11 rfl ?_
    refine x_iload_n 12 3 dJ2_add_2_12 rfl ?_
    refine x_aload_n 13 1 dJ2_add_2_13 rfl ?_
    refine x_isK fun i3 h4 => ?_
    subst h4
    refine x_asr fun h5 => ?_
    refine x_aast 14 (by decide) dJ2_add_2_14 (h5.elim Or.inl fun h => Or.inr (Or.inl ⟨rfl, h⟩)) ?_
    refine x_aload_n 15 0 dJ2_add_2_15 rfl ?_
    refine x_iload_n 16 3 dJ2_add_2_16 rfl ?_
    refine x_iconst 17 1 (1 : Int32) dJ2_add_2_17 rfl ?_
    refine x_iadd 18 dJ2_add_2_18 ?_
    refine x_putI 19 fa_J2_48_13 rfl (Or.inl rfl) dJ2_add_2_19 ?_
    exact x_vret 22 hZ rfl dJ2_add_2_22
  · refine x_icmp_ne 3 11 dJ2_add_2_3 rfl (fun c7 => ?_) (fun c7 => ?_)
    · refine x_aload_n 6 0 dJ2_add_2_6 rfl ?_
      refine x_cV 7 4 [] [] ⟨by decide, rfl⟩ cv_J2_129 (im_J2_grow hl i0) (by decide) rfl (Nat.le_of_ble_eq_true rfl) dJ2_add_2_7 fun v8 => x_stR ?_
      refine x_astore_n 10 [(2, .ref v8), (0, .ref (idc 13 i0)), (1, .ref a1), (3, .int a3)] dJ2_add_2_10 (by decide) rfl ?_
      refine x_sub [1, 2, 0, 3] _ rfl ?_
      exact hj6 v8
    · exact hj6 a2
def f_J2_add (i0 : Nat) (a1 : Nat) : PT Int32 := gI 13 i0 0 fun v1 => pI 13 i0 0 (v1 + (1 : Int32)) <| gR 13 i0 1 fun v2 => gI 13 i0 2 fun v3 => bn0 (f_J2_add_2 i0 a1 v2 v3) fun _ => asr ((1 : Int32) = 0 ∨ (1 : Int32) = 1) (rt (1 : Int32))
theorem im_J2_add {g : GP} {l : Launch} (hl : l.stackTraces = false) (i0 : Nat) (a1 : Nat) : Im g l 6 yJ2_add cJ2_add 2 (some .boolean) eI [.ref (idc 13 i0), .ref a1] (f_J2_add i0 a1) := by
  refine tx_start hl 6 _ _ _ _ (by decide) (Nat.le_of_ble_eq_true rfl) fun Γ Z hΓ hZ => ?_
  subst hΓ
  unfold f_J2_add
  show TX g Γ _ Z _ 0 [(0, .ref (idc 13 i0)), (1, .ref a1)] [] _
  refine x_aload_n 0 0 dJ2_add_0 rfl ?_
  refine x_dup 1 dJ2_add_1 rfl ?_
  refine x_getI 2 fa_J2_63_13 dJ2_add_2 fun v1 => ?_
  refine x_iconst 5 1 (1 : Int32) dJ2_add_5 rfl ?_
  refine x_iadd 6 dJ2_add_6 ?_
  refine x_putI 7 fa_J2_63_13 rfl (Or.inl rfl) dJ2_add_7 ?_
  refine x_aload_n 10 0 dJ2_add_10 rfl ?_
  refine x_aload_n 11 1 dJ2_add_11 rfl ?_
  refine x_aload_n 12 0 dJ2_add_12 rfl ?_
  refine x_getR 13 fa_J2_9_13 dJ2_add_13 fun v2 => ?_
  refine x_aload_n 16 0 dJ2_add_16 rfl ?_
  refine x_getI 17 fa_J2_48_13 dJ2_add_17 fun v3 => ?_
  refine x_cV 20 5 [.ref a1, .ref v2, .int v3] [] ⟨by decide, rfl⟩ cv_J2_131 (im_J2_add_2 hl i0 a1 v2 v3) (by decide) rfl (Nat.le_of_ble_eq_true rfl) dJ2_add_20 fun v4 => x_stV ?_
  refine x_iconst 23 1 (1 : Int32) dJ2_add_23 rfl ?_
  exact x_zret 24 hZ rfl dJ2_add_24
def f_J14_checkIndex (a1 : Int32) (a2 : Int32) (a3 : Nat) : PT Int32 := cnd (a1 < 0) (stk) (cnd (a1 < a2) (rt a1) (stk))
theorem im_J14_checkIndex {g : GP} {l : Launch} (hl : l.stackTraces = false) (a1 : Int32) (a2 : Int32) (a3 : Nat) : Im g l 0 yJ14_checkIndex cJ14_checkIndex 3 (some .int) eI [.int a1, .int a2, .ref a3] (f_J14_checkIndex a1 a2 a3) := by
  refine tx_start hl 0 _ _ _ _ (by decide) (Nat.le_of_ble_eq_true rfl) fun Γ Z hΓ hZ => ?_
  subst hΓ
  unfold f_J14_checkIndex
  show TX g Γ _ Z _ 0 [(0, .int a1), (1, .int a2), (2, .ref a3)] [] _
  refine x_iload_n 0 0 dJ14_checkIndex_0 rfl ?_
  refine x_if_lt 1 9 dJ14_checkIndex_1 rfl (fun c1 => ?_) (fun c1 => ?_)
  · refine x_aload_n 9 2 dJ14_checkIndex_9 rfl ?_
    refine x_iload_n 10 0 dJ14_checkIndex_10 rfl ?_
    refine x_iload_n 11 1 dJ14_checkIndex_11 rfl ?_
    exact x_stk
  · refine x_iload_n 4 0 dJ14_checkIndex_4 rfl ?_
    refine x_iload_n 5 1 dJ14_checkIndex_5 rfl ?_
    refine x_icmp_lt 6 16 dJ14_checkIndex_6 rfl (fun c2 => ?_) (fun c2 => ?_)
    · refine x_iload_n 16 0 dJ14_checkIndex_16 rfl ?_
      exact x_iret 17 hZ rfl dJ14_checkIndex_17
    · refine x_aload_n 9 2 dJ14_checkIndex_9 rfl ?_
      refine x_iload_n 10 0 dJ14_checkIndex_10 rfl ?_
      refine x_iload_n 11 1 dJ14_checkIndex_11 rfl ?_
      exact x_stk
def f_J24_checkIndex (a1 : Int32) (a2 : Int32) : PT Int32 := bn0 (f_J14_checkIndex a1 a2 nul) fun v1 => rt v1
theorem im_J24_checkIndex {g : GP} {l : Launch} (hl : l.stackTraces = false) (a1 : Int32) (a2 : Int32) : Im g l 1 yJ24_checkIndex cJ24_checkIndex 2 (some .int) eI [.int a1, .int a2] (f_J24_checkIndex a1 a2) := by
  refine tx_start hl 1 _ _ _ _ (by decide) (Nat.le_of_ble_eq_true rfl) fun Γ Z hΓ hZ => ?_
  subst hΓ
  unfold f_J24_checkIndex
  show TX g Γ _ Z _ 0 [(0, .int a1), (1, .int a2)] [] _
  refine x_iload_n 0 0 dJ24_checkIndex_0 rfl ?_
  refine x_iload_n 1 1 dJ24_checkIndex_1 rfl ?_
  refine x_null 2 dJ24_checkIndex_2 ?_
  refine x_cS 3 0 [.int a1, .int a2, .ref nul] [] cs_J24_105 (im_J14_checkIndex hl a1 a2 nul) (by decide) rfl (Nat.le_of_ble_eq_true rfl) dJ24_checkIndex_3 fun v1 => x_stI ?_
  exact x_iret 6 hZ rfl dJ24_checkIndex_6
def f_J2_elementData (i0 : Nat) (a1 : Int32) : PT Nat := gR 13 i0 1 fun v1 => isK 35 v1 fun i2 => aR 35 i2 a1 fun v4 => rt v4
theorem im_J2_elementData {g : GP} {l : Launch} (hl : l.stackTraces = false) (i0 : Nat) (a1 : Int32) : Im g l 0 yJ2_elementData cJ2_elementData 2 (some (.object "java/lang/Object")) eR [.ref (idc 13 i0), .int a1] (f_J2_elementData i0 a1) := by
  refine tx_start hl 0 _ _ _ _ (by decide) (Nat.le_of_ble_eq_true rfl) fun Γ Z hΓ hZ => ?_
  subst hΓ
  unfold f_J2_elementData
  show TX g Γ _ Z _ 0 [(0, .ref (idc 13 i0)), (1, .int a1)] [] _
  refine x_aload_n 0 0 dJ2_elementData_0 rfl ?_
  refine x_getR 1 fa_J2_9_13 dJ2_elementData_1 fun v1 => ?_
  refine x_iload_n 4 1 dJ2_elementData_4 rfl ?_
  refine x_isK fun i2 h3 => ?_
  subst h3
  refine x_aald 5 (by decide) dJ2_elementData_5 fun v4 => ?_
  exact x_aret 6 hZ (Or.inl ⟨_, rfl⟩) dJ2_elementData_6
def f_J2_get (i0 : Nat) (a1 : Int32) : PT Nat := gI 13 i0 2 fun v1 => bn0 (f_J24_checkIndex a1 v1) fun v2 => bn0 (f_J2_elementData i0 a1) fun v3 => rt v3
theorem im_J2_get {g : GP} {l : Launch} (hl : l.stackTraces = false) (i0 : Nat) (a1 : Int32) : Im g l 2 yJ2_get cJ2_get 2 (some (.object "java/lang/Object")) eR [.ref (idc 13 i0), .int a1] (f_J2_get i0 a1) := by
  refine tx_start hl 2 _ _ _ _ (by decide) (Nat.le_of_ble_eq_true rfl) fun Γ Z hΓ hZ => ?_
  subst hΓ
  unfold f_J2_get
  show TX g Γ _ Z _ 0 [(0, .ref (idc 13 i0)), (1, .int a1)] [] _
  refine x_iload_n 0 1 dJ2_get_0 rfl ?_
  refine x_aload_n 1 0 dJ2_get_1 rfl ?_
  refine x_getI 2 fa_J2_48_13 dJ2_get_2 fun v1 => ?_
  refine x_cS 5 1 [.int a1, .int v1] [] cs_J2_118 (im_J24_checkIndex hl a1 v1) (by decide) rfl (Nat.le_of_ble_eq_true rfl) dJ2_get_5 fun v2 => x_stI ?_
  refine x_pop 8 dJ2_get_8 rfl ?_
  refine x_aload_n 9 0 dJ2_get_9 rfl ?_
  refine x_iload_n 10 1 dJ2_get_10 rfl ?_
  refine x_cV 11 0 [.int a1] [] ⟨by decide, rfl⟩ cv_J2_123 (im_J2_elementData hl i0 a1) (by decide) rfl (Nat.le_of_ble_eq_true rfl) dJ2_get_11 fun v3 => x_stR ?_
  exact x_aret 14 hZ (Or.inl ⟨_, rfl⟩) dJ2_get_14
def f_J17_numberOfTrailingZeros (a1 : Int32) : PT Int32 := bnd (rt ((a1 ^^^ (-1 : Int32)) &&& (a1 - (1 : Int32)))) fun v1 => cnd (0 < v1) (bnd (ρ := _) (α := Int32 × Int32) (cnd (v1 ≤ (65536 : Int32)) (rt (v1, (1 : Int32))) (bnd (rt ((v1.toUInt32 >>> ((16 : Int32).toUInt32 &&& Int32.toUInt32 31)).toInt32)) fun v22 => rt (v22, (1 : Int32) + (16 : Int32)))) (un2 fun u3 u4 => bnd (ρ := _) (α := Int32 × Int32) (cnd (u3 ≤ (256 : Int32)) (rt (u3, u4)) (bnd (rt ((u3.toUInt32 >>> ((8 : Int32).toUInt32 &&& Int32.toUInt32 31)).toInt32)) fun v19 => rt (v19, u4 + (8 : Int32)))) (un2 fun u5 u6 => bnd (ρ := _) (α := Int32 × Int32) (cnd (u5 ≤ (16 : Int32)) (rt (u5, u6)) (bnd (rt ((u5.toUInt32 >>> ((4 : Int32).toUInt32 &&& Int32.toUInt32 31)).toInt32)) fun v16 => rt (v16, u6 + (4 : Int32)))) (un2 fun u7 u8 => bnd (ρ := _) (α := Int32 × Int32) (cnd (u7 ≤ (4 : Int32)) (rt (u7, u8)) (bnd (rt ((u7.toUInt32 >>> ((2 : Int32).toUInt32 &&& Int32.toUInt32 31)).toInt32)) fun v13 => rt (v13, u8 + (2 : Int32)))) (un2 fun u9 u10 => rt (u10 + ((u9.toUInt32 >>> ((1 : Int32).toUInt32 &&& Int32.toUInt32 31)).toInt32))))))) (rt (v1 &&& (32 : Int32)))
theorem im_J17_numberOfTrailingZeros {g : GP} {l : Launch} (hl : l.stackTraces = false) (a1 : Int32) : Im g l 0 yJ17_numberOfTrailingZeros cJ17_numberOfTrailingZeros 2 (some .int) eI [.int a1] (f_J17_numberOfTrailingZeros a1) := by
  refine tx_start hl 0 _ _ _ _ (by decide) (Nat.le_of_ble_eq_true rfl) fun Γ Z hΓ hZ => ?_
  subst hΓ
  unfold f_J17_numberOfTrailingZeros
  show TX g Γ _ Z _ 0 [(0, .int a1)] [] _
  refine x_iload_n 0 0 dJ17_numberOfTrailingZeros_0 rfl ?_
  refine x_iconst 1 (-1) (-1 : Int32) dJ17_numberOfTrailingZeros_1 rfl ?_
  refine x_ixor 2 dJ17_numberOfTrailingZeros_2 ?_
  refine x_iload_n 3 0 dJ17_numberOfTrailingZeros_3 rfl ?_
  refine x_iconst 4 1 (1 : Int32) dJ17_numberOfTrailingZeros_4 rfl ?_
  refine x_isub 5 dJ17_numberOfTrailingZeros_5 ?_
  refine x_iand 6 dJ17_numberOfTrailingZeros_6 ?_
  refine x_genI fun v1 _ => ?_
  refine x_istore_n 7 [(0, .int v1)] dJ17_numberOfTrailingZeros_7 (by decide) rfl ?_
  refine x_iload_n 8 0 dJ17_numberOfTrailingZeros_8 rfl ?_
  refine x_if_gt 9 17 dJ17_numberOfTrailingZeros_9 rfl (fun c2 => ?_) (fun c2 => ?_)
  · refine x_iconst 17 1 (1 : Int32) dJ17_numberOfTrailingZeros_17 rfl ?_
    refine x_istore_n 18 [(1, .int (1 : Int32)), (0, .int v1)] dJ17_numberOfTrailingZeros_18 (by decide) rfl ?_
    refine x_iload_n 19 1 dJ17_numberOfTrailingZeros_19 rfl ?_
    refine x_ldcw 20 264 (65536 : Int32) dJ17_numberOfTrailingZeros_20 q1073 ?_
    refine x_bndj 34 (fun u => [(0, .int u.1), (1, .int u.2)]) (fun u => []) (fun u => ?_) (fun hj20 => ?_)
    · obtain ⟨u3, u4⟩ := u
      show TX g Γ _ Z _ 34 [(0, .int u3), (1, .int u4)] [] _
      refine x_un2 ?_
      refine x_iload_n 34 0 dJ17_numberOfTrailingZeros_34 rfl ?_
      refine x_sipush 35 256 (256 : Int32) dJ17_numberOfTrailingZeros_35 rfl ?_
      refine x_bndj 49 (fun u => [(0, .int u.1), (1, .int u.2)]) (fun u => []) (fun u => ?_) (fun hj17 => ?_)
      · obtain ⟨u5, u6⟩ := u
        show TX g Γ _ Z _ 49 [(0, .int u5), (1, .int u6)] [] _
        refine x_un2 ?_
        refine x_iload_n 49 0 dJ17_numberOfTrailingZeros_49 rfl ?_
        refine x_bipush 50 16 (16 : Int32) dJ17_numberOfTrailingZeros_50 rfl ?_
        refine x_bndj 62 (fun u => [(0, .int u.1), (1, .int u.2)]) (fun u => []) (fun u => ?_) (fun hj14 => ?_)
        · obtain ⟨u7, u8⟩ := u
          show TX g Γ _ Z _ 62 [(0, .int u7), (1, .int u8)] [] _
          refine x_un2 ?_
          refine x_iload_n 62 0 dJ17_numberOfTrailingZeros_62 rfl ?_
          refine x_iconst 63 4 (4 : Int32) dJ17_numberOfTrailingZeros_63 rfl ?_
          refine x_bndj 74 (fun u => [(0, .int u.1), (1, .int u.2)]) (fun u => []) (fun u => ?_) (fun hj11 => ?_)
          · obtain ⟨u9, u10⟩ := u
            show TX g Γ _ Z _ 74 [(0, .int u9), (1, .int u10)] [] _
            refine x_un2 ?_
            refine x_iload_n 74 1 dJ17_numberOfTrailingZeros_74 rfl ?_
            refine x_iload_n 75 0 dJ17_numberOfTrailingZeros_75 rfl ?_
            refine x_iconst 76 1 (1 : Int32) dJ17_numberOfTrailingZeros_76 rfl ?_
            refine x_iushr 77 dJ17_numberOfTrailingZeros_77 ?_
            refine x_iadd 78 dJ17_numberOfTrailingZeros_78 ?_
            exact x_iret 79 hZ rfl dJ17_numberOfTrailingZeros_79
          · refine x_icmp_le 64 74 dJ17_numberOfTrailingZeros_64 rfl (fun c12 => ?_) (fun c12 => ?_)
            · exact hj11 (u7, u8)
            · refine x_iinc 67 1 [(1, .int (u8 + (2 : Int32))), (0, .int u7)] dJ17_numberOfTrailingZeros_67 rfl rfl (by decide) rfl ?_
              refine x_iload_n 70 1 dJ17_numberOfTrailingZeros_70 rfl ?_
              refine x_iconst 71 2 (2 : Int32) dJ17_numberOfTrailingZeros_71 rfl ?_
              refine x_iushr 72 dJ17_numberOfTrailingZeros_72 ?_
              refine x_genI fun v13 _ => ?_
              refine x_istore_n 73 [(0, .int v13), (1, .int (u8 + (2 : Int32)))] dJ17_numberOfTrailingZeros_73 (by decide) rfl ?_
              exact hj11 (v13, u8 + (2 : Int32))
        · refine x_icmp_le 52 62 dJ17_numberOfTrailingZeros_52 rfl (fun c15 => ?_) (fun c15 => ?_)
          · exact hj14 (u5, u6)
          · refine x_iinc 55 1 [(1, .int (u6 + (4 : Int32))), (0, .int u5)] dJ17_numberOfTrailingZeros_55 rfl rfl (by decide) rfl ?_
            refine x_iload_n 58 1 dJ17_numberOfTrailingZeros_58 rfl ?_
            refine x_iconst 59 4 (4 : Int32) dJ17_numberOfTrailingZeros_59 rfl ?_
            refine x_iushr 60 dJ17_numberOfTrailingZeros_60 ?_
            refine x_genI fun v16 _ => ?_
            refine x_istore_n 61 [(0, .int v16), (1, .int (u6 + (4 : Int32)))] dJ17_numberOfTrailingZeros_61 (by decide) rfl ?_
            exact hj14 (v16, u6 + (4 : Int32))
      · refine x_icmp_le 38 49 dJ17_numberOfTrailingZeros_38 rfl (fun c18 => ?_) (fun c18 => ?_)
        · exact hj17 (u3, u4)
        · refine x_iinc 41 1 [(1, .int (u4 + (8 : Int32))), (0, .int u3)] dJ17_numberOfTrailingZeros_41 rfl rfl (by decide) rfl ?_
          refine x_iload_n 44 1 dJ17_numberOfTrailingZeros_44 rfl ?_
          refine x_bipush 45 8 (8 : Int32) dJ17_numberOfTrailingZeros_45 rfl ?_
          refine x_iushr 47 dJ17_numberOfTrailingZeros_47 ?_
          refine x_genI fun v19 _ => ?_
          refine x_istore_n 48 [(0, .int v19), (1, .int (u4 + (8 : Int32)))] dJ17_numberOfTrailingZeros_48 (by decide) rfl ?_
          exact hj17 (v19, u4 + (8 : Int32))
    · refine x_icmp_le 23 34 dJ17_numberOfTrailingZeros_23 rfl (fun c21 => ?_) (fun c21 => ?_)
      · refine x_sub [1, 0] _ rfl ?_
        exact hj20 (v1, (1 : Int32))
      · refine x_iinc 26 0 [(1, .int ((1 : Int32) + (16 : Int32))), (0, .int v1)] dJ17_numberOfTrailingZeros_26 rfl rfl (by decide) rfl ?_
        refine x_iload_n 29 1 dJ17_numberOfTrailingZeros_29 rfl ?_
        refine x_bipush 30 16 (16 : Int32) dJ17_numberOfTrailingZeros_30 rfl ?_
        refine x_iushr 32 dJ17_numberOfTrailingZeros_32 ?_
        refine x_genI fun v22 _ => ?_
        refine x_istore_n 33 [(0, .int v22), (1, .int ((1 : Int32) + (16 : Int32)))] dJ17_numberOfTrailingZeros_33 (by decide) rfl ?_
        exact hj20 (v22, (1 : Int32) + (16 : Int32))
  · refine x_iload_n 12 0 dJ17_numberOfTrailingZeros_12 rfl ?_
    refine x_bipush 13 32 (32 : Int32) dJ17_numberOfTrailingZeros_13 rfl ?_
    refine x_iand 15 dJ17_numberOfTrailingZeros_15 ?_
    exact x_iret 16 hZ rfl dJ17_numberOfTrailingZeros_16
def f_J25_numberOfTrailingZeros (a1 : Int64) : PT Int32 := cnd (a1.toInt32 = 0) (bn0 (f_J17_numberOfTrailingZeros (((a1.toUInt64 >>> ((32 : Int32).toInt64.toUInt64 &&& Int64.toUInt64 63)).toInt64).toInt32)) fun v2 => rt ((32 : Int32) + v2)) (bn0 (f_J17_numberOfTrailingZeros a1.toInt32) fun v3 => rt v3)
theorem im_J25_numberOfTrailingZeros {g : GP} {l : Launch} (hl : l.stackTraces = false) (a1 : Int64) : Im g l 1 yJ25_numberOfTrailingZeros cJ25_numberOfTrailingZeros 3 (some .int) eI [.long a1] (f_J25_numberOfTrailingZeros a1) := by
  refine tx_start hl 1 _ _ _ _ (by decide) (Nat.le_of_ble_eq_true rfl) fun Γ Z hΓ hZ => ?_
  subst hΓ
  unfold f_J25_numberOfTrailingZeros
  show TX g Γ _ Z _ 0 [(0, .long a1)] [] _
  refine x_lload_n 0 0 dJ25_numberOfTrailingZeros_0 rfl ?_
  refine x_l2i 1 dJ25_numberOfTrailingZeros_1 ?_
  refine x_istore_n 2 [(2, .int a1.toInt32), (0, .long a1)] dJ25_numberOfTrailingZeros_2 (by decide) rfl ?_
  refine x_iload_n 3 0 dJ25_numberOfTrailingZeros_3 rfl ?_
  refine x_if_ne 4 21 dJ25_numberOfTrailingZeros_4 rfl (fun c1 => ?_) (fun c1 => ?_)
  · refine x_bipush 7 32 (32 : Int32) dJ25_numberOfTrailingZeros_7 rfl ?_
    refine x_lload_n 9 1 dJ25_numberOfTrailingZeros_9 rfl ?_
    refine x_bipush 10 32 (32 : Int32) dJ25_numberOfTrailingZeros_10 rfl ?_
    refine x_lushr 12 dJ25_numberOfTrailingZeros_12 ?_
    refine x_l2i 13 dJ25_numberOfTrailingZeros_13 ?_
    refine x_cS 14 0 [.int (((a1.toUInt64 >>> ((32 : Int32).toInt64.toUInt64 &&& Int64.toUInt64 63)).toInt64).toInt32)] [.int (32 : Int32)] cs_J25_311 (im_J17_numberOfTrailingZeros hl (((a1.toUInt64 >>> ((32 : Int32).toInt64.toUInt64 &&& Int64.toUInt64 63)).toInt64).toInt32)) (by decide) rfl (Nat.le_of_ble_eq_true rfl) dJ25_numberOfTrailingZeros_14 fun v2 => x_stI ?_
    refine x_iadd 17 dJ25_numberOfTrailingZeros_17 ?_
    refine x_goto 18 25 dJ25_numberOfTrailingZeros_18 rfl ?_
    exact x_iret 25 hZ rfl dJ25_numberOfTrailingZeros_25
  · refine x_iload_n 21 0 dJ25_numberOfTrailingZeros_21 rfl ?_
    refine x_cS 22 0 [.int a1.toInt32] [] cs_J25_311 (im_J17_numberOfTrailingZeros hl a1.toInt32) (by decide) rfl (Nat.le_of_ble_eq_true rfl) dJ25_numberOfTrailingZeros_22 fun v3 => x_stI ?_
    exact x_iret 25 hZ rfl dJ25_numberOfTrailingZeros_25
def f_J18_nextSetBit (i0 : Nat) (a1 : Int32) : PT Int32 := cnd (0 ≤ a1) (bn0 (f_J18_checkInvariants i0) fun _ => bn0 (f_J18_wordIndex a1) fun v3 => gI 14 i0 1 fun v4 => cnd (v3 < v4) (gR 14 i0 0 fun v6 => isK 34 v6 fun i7 => aJ 34 i7 v3 fun v9 => bnd (rt (v9 &&& ((-1 : Int64) <<< (a1.toInt64 &&& 63)))) fun v10 => lp (σ := Int32 × Int64) (fun r13 => un2 fun u11 u12 => cnd ((lg_cmp u12 (0 : Int64)) = 0) (gI 14 i0 1 fun v15 => cnd ((u11 + (1 : Int32)) = v15) (rt (-1 : Int32)) (gR 14 i0 0 fun v17 => isK 34 v17 fun i18 => aJ 34 i18 (u11 + (1 : Int32)) fun v20 => r13 (u11 + (1 : Int32), v20))) (bn0 (f_J25_numberOfTrailingZeros u12) fun v21 => rt ((u11 * (64 : Int32)) + v21))) (v3, v10)) (rt (-1 : Int32))) (stk)
theorem im_J18_nextSetBit {g : GP} {l : Launch} (hl : l.stackTraces = false) (i0 : Nat) (a1 : Int32) : Im g l 2 yJ18_nextSetBit cJ18_nextSetBit 5 (some .int) eI [.ref (idc 14 i0), .int a1] (f_J18_nextSetBit i0 a1) := by
  refine tx_start hl 2 _ _ _ _ (by decide) (Nat.le_of_ble_eq_true rfl) fun Γ Z hΓ hZ => ?_
  subst hΓ
  unfold f_J18_nextSetBit
  show TX g Γ _ Z _ 0 [(0, .ref (idc 14 i0)), (1, .int a1)] [] _
  refine x_iload_n 0 1 dJ18_nextSetBit_0 rfl ?_
  refine x_if_ge 1 31 dJ18_nextSetBit_1 rfl (fun c1 => ?_) (fun c1 => ?_)
  · refine x_aload_n 31 0 dJ18_nextSetBit_31 rfl ?_
    refine x_cV 32 0 [] [] ⟨by decide, rfl⟩ cv_J18_56 (im_J18_checkInvariants hl i0) (by decide) rfl (Nat.le_of_ble_eq_true rfl) dJ18_nextSetBit_32 fun v2 => x_stV ?_
    refine x_iload_n 35 1 dJ18_nextSetBit_35 rfl ?_
    refine x_cS 36 0 [.int a1] [] cs_J18_52 (im_J18_wordIndex hl a1) (by decide) rfl (Nat.le_of_ble_eq_true rfl) dJ18_nextSetBit_36 fun v3 => x_stI ?_
    refine x_istore_n 39 [(2, .int v3), (0, .ref (idc 14 i0)), (1, .int a1)] dJ18_nextSetBit_39 (by decide) rfl ?_
    refine x_iload_n 40 0 dJ18_nextSetBit_40 rfl ?_
    refine x_aload_n 41 1 dJ18_nextSetBit_41 rfl ?_
    refine x_getI 42 fa_J18_7_14 dJ18_nextSetBit_42 fun v4 => ?_
    refine x_icmp_lt 45 50 dJ18_nextSetBit_45 rfl (fun c5 => ?_) (fun c5 => ?_)
    · refine x_aload_n 50 1 dJ18_nextSetBit_50 rfl ?_
      refine x_getR 51 fa_J18_11_14 dJ18_nextSetBit_51 fun v6 => ?_
      refine x_iload_n 54 0 dJ18_nextSetBit_54 rfl ?_
      refine x_isK fun i7 h8 => ?_
      subst h8
      refine x_lald 55 dJ18_nextSetBit_55 fun v9 => ?_
      refine x_ldc2 56 165 (-1 : Int64) dJ18_nextSetBit_56 q986 ?_
      refine x_iload_n 59 2 dJ18_nextSetBit_59 rfl ?_
      refine x_lshl 60 dJ18_nextSetBit_60 ?_
      refine x_land 61 dJ18_nextSetBit_61 ?_
      refine x_genL fun v10 _ => ?_
      refine x_lstore_n 62 [(3, .long v10), (2, .int v3), (0, .ref (idc 14 i0)), (1, .int a1)] dJ18_nextSetBit_62 (by decide) rfl ?_
      refine x_sub [2, 1, 0] [(0, .ref (idc 14 i0)), (2, .int v3), (3, .long v10)] rfl ?_
      refine x_lp (Lf := fun u => [(0, .ref (idc 14 i0)), (2, .int u.1), (3, .long u.2)]) (sf := fun _ => []) (fun r13 hr13 u => ?_) (v3, v10)
      obtain ⟨u11, u12⟩ := u
      show TX g Γ _ Z _ 63 [(0, .ref (idc 14 i0)), (2, .int u11), (3, .long u12)] [] _
      refine x_un2 ?_
      refine x_lload_n 63 2 dJ18_nextSetBit_63 rfl ?_
      refine x_lconst 64 0 (0 : Int64) dJ18_nextSetBit_64 rfl ?_
      refine x_lcmp 65 dJ18_nextSetBit_65 ?_
      refine x_if_eq 66 79 dJ18_nextSetBit_66 rfl (fun c14 => ?_) (fun c14 => ?_)
      · refine x_iinc 79 1 [(2, .int (u11 + (1 : Int32))), (0, .ref (idc 14 i0)), (3, .long u12)] dJ18_nextSetBit_79 rfl rfl (by decide) rfl ?_
        refine x_iload_n 82 0 dJ18_nextSetBit_82 rfl ?_
        refine x_aload_n 83 1 dJ18_nextSetBit_83 rfl ?_
        refine x_getI 84 fa_J18_7_14 dJ18_nextSetBit_84 fun v15 => ?_
        refine x_icmp_ne 87 92 dJ18_nextSetBit_87 rfl (fun c16 => ?_) (fun c16 => ?_)
        · refine x_iconst 90 (-1) (-1 : Int32) dJ18_nextSetBit_90 rfl ?_
          exact x_iret 91 hZ rfl dJ18_nextSetBit_91
        · refine x_aload_n 92 1 dJ18_nextSetBit_92 rfl ?_
          refine x_getR 93 fa_J18_11_14 dJ18_nextSetBit_93 fun v17 => ?_
          refine x_iload_n 96 0 dJ18_nextSetBit_96 rfl ?_
          refine x_isK fun i18 h19 => ?_
          subst h19
          refine x_lald 97 dJ18_nextSetBit_97 fun v20 => ?_
          refine x_lstore_n 98 [(3, .long v20), (2, .int (u11 + (1 : Int32))), (0, .ref (idc 14 i0))] dJ18_nextSetBit_98 (by decide) rfl ?_
          refine x_goto 99 63 dJ18_nextSetBit_99 rfl ?_
          refine x_sub [2, 1, 0] _ rfl ?_
          exact hr13 (u11 + (1 : Int32), v20)
      · refine x_iload_n 69 1 dJ18_nextSetBit_69 rfl ?_
        refine x_bipush 70 64 (64 : Int32) dJ18_nextSetBit_70 rfl ?_
        refine x_imul 72 dJ18_nextSetBit_72 ?_
        refine x_lload_n 73 2 dJ18_nextSetBit_73 rfl ?_
        refine x_cS 74 1 [.long u12] [.int (u11 * (64 : Int32))] cs_J18_182 (im_J25_numberOfTrailingZeros hl u12) (by decide) rfl (Nat.le_of_ble_eq_true rfl) dJ18_nextSetBit_74 fun v21 => x_stI ?_
        refine x_iadd 77 dJ18_nextSetBit_77 ?_
        exact x_iret 78 hZ rfl dJ18_nextSetBit_78
    · refine x_iconst 48 (-1) (-1 : Int32) dJ18_nextSetBit_48 rfl ?_
      exact x_iret 49 hZ rfl dJ18_nextSetBit_49
  · exact x_stk
def f_J23_init (i0 : Nat) (a1 : Nat) (a2 : Nat) (a3 : Nat) : PT Unit := pR 16 i0 0 a2 <| pR 16 i0 1 a3 <| pR 16 i0 2 a1 <| rt ()
theorem im_J23_init {g : GP} {l : Launch} (hl : l.stackTraces = false) (i0 : Nat) (a1 : Nat) (a2 : Nat) (a3 : Nat) : Im g l 1 yJ23_init cJ23_init 4 none eV [.ref (idc 16 i0), .ref a1, .ref a2, .ref a3] (f_J23_init i0 a1 a2 a3) := by
  refine tx_start hl 1 _ _ _ _ (by decide) (Nat.le_of_ble_eq_true rfl) fun Γ Z hΓ hZ => ?_
  subst hΓ
  unfold f_J23_init
  show TX g Γ _ Z _ 0 [(0, .ref (idc 16 i0)), (1, .ref a1), (2, .ref a2), (3, .ref a3)] [] _
  refine x_aload_n 0 0 dJ23_init_0 rfl ?_
  refine x_objI 1 (by decide) q949 q128 q129 dJ23_init_1 (Nat.le_of_ble_eq_true rfl) (by decide) ?_
  refine x_aload_n 4 0 dJ23_init_4 rfl ?_
  refine x_aload_n 5 2 dJ23_init_5 rfl ?_
  refine x_putR 6 fa_J23_7_16 rfl (Or.inl rfl) dJ23_init_6 ?_
  refine x_aload_n 9 0 dJ23_init_9 rfl ?_
  refine x_aload_n 10 3 dJ23_init_10 rfl ?_
  refine x_putR 11 fa_J23_13_16 rfl (Or.inl rfl) dJ23_init_11 ?_
  refine x_aload_n 14 0 dJ23_init_14 rfl ?_
  refine x_aload_n 15 1 dJ23_init_15 rfl ?_
  refine x_putR 16 fa_J23_17_16 rfl (Or.inl rfl) dJ23_init_16 ?_
  exact x_vret 19 hZ rfl dJ23_init_19
def f_J20_linkLast (i0 : Nat) (a1 : Nat) : PT Unit := gR 15 i0 3 fun v1 => nw 16 3 fun i2 => bn0 (f_J23_init i2 v1 a1 nul) fun _ => pR 15 i0 3 (idc 16 i2) <| bnd (ρ := _) (α := Unit) (cnd (v1 = nul) (pR 15 i0 2 (idc 16 i2) <| rt ()) (isK 16 v1 fun i8 => pR 16 i8 1 (idc 16 i2) <| rt ())) (fun _ => gI 15 i0 1 fun v4 => pI 15 i0 1 (v4 + (1 : Int32)) <| gI 15 i0 0 fun v5 => pI 15 i0 0 (v5 + (1 : Int32)) <| rt ())
theorem im_J20_linkLast {g : GP} {l : Launch} (hl : l.stackTraces = false) (i0 : Nat) (a1 : Nat) : Im g l 2 yJ20_linkLast cJ20_linkLast 4 none eV [.ref (idc 15 i0), .ref a1] (f_J20_linkLast i0 a1) := by
  refine tx_start hl 2 _ _ _ _ (by decide) (Nat.le_of_ble_eq_true rfl) fun Γ Z hΓ hZ => ?_
  subst hΓ
  unfold f_J20_linkLast
  show TX g Γ _ Z _ 0 [(0, .ref (idc 15 i0)), (1, .ref a1)] [] _
  refine x_aload_n 0 0 dJ20_linkLast_0 rfl ?_
  refine x_getR 1 fa_J20_27_15 dJ20_linkLast_1 fun v1 => ?_
  refine x_astore_n 4 [(2, .ref v1), (0, .ref (idc 15 i0)), (1, .ref a1)] dJ20_linkLast_4 (by decide) rfl ?_
  refine x_new 5 na_J20_22 dJ20_linkLast_5 fun i2 => ?_
  refine x_dup 8 dJ20_linkLast_8 rfl ?_
  refine x_aload_n 9 0 dJ20_linkLast_9 rfl ?_
  refine x_aload_n 10 2 dJ20_linkLast_10 rfl ?_
  refine x_null 11 dJ20_linkLast_11 ?_
  refine x_cI 12 1 [.ref v1, .ref a1, .ref nul] [.ref (idc 16 i2)] (by decide) cn_J20_24 (im_J23_init hl i2 v1 a1 nul) (by decide) rfl (Nat.le_of_ble_eq_true rfl) dJ20_linkLast_12 fun v3 => x_stV ?_
  refine x_astore_n 15 [(3, .ref (idc 16 i2)), (2, .ref v1), (0, .ref (idc 15 i0)), (1, .ref a1)] dJ20_linkLast_15 (by decide) rfl ?_
  refine x_aload_n 16 2 dJ20_linkLast_16 rfl ?_
  refine x_aload_n 17 0 dJ20_linkLast_17 rfl ?_
  refine x_putR 18 fa_J20_27_15 rfl (Or.inl rfl) dJ20_linkLast_18 ?_
  refine x_aload_n 21 1 dJ20_linkLast_21 rfl ?_
  refine x_bndj 38 (fun _ => [(0, .ref (idc 15 i0))]) (fun _ => []) (fun _ => ?_) (fun hj6 => ?_)
  · show TX g Γ _ Z _ 38 [(0, .ref (idc 15 i0))] [] _
    refine x_aload_n 38 0 dJ20_linkLast_38 rfl ?_
    refine x_dup 39 dJ20_linkLast_39 rfl ?_
    refine x_getI 40 fa_J20_7_15 dJ20_linkLast_40 fun v4 => ?_
    refine x_iconst 43 1 (1 : Int32) dJ20_linkLast_43 rfl ?_
    refine x_iadd 44 dJ20_linkLast_44 ?_
    refine x_putI 45 fa_J20_7_15 rfl (Or.inl rfl) dJ20_linkLast_45 ?_
    refine x_aload_n 48 0 dJ20_linkLast_48 rfl ?_
    refine x_dup 49 dJ20_linkLast_49 rfl ?_
    refine x_getI 50 fa_J20_33_15 dJ20_linkLast_50 fun v5 => ?_
    refine x_iconst 53 1 (1 : Int32) dJ20_linkLast_53 rfl ?_
    refine x_iadd 54 dJ20_linkLast_54 ?_
    refine x_putI 55 fa_J20_33_15 rfl (Or.inl rfl) dJ20_linkLast_55 ?_
    exact x_vret 58 hZ rfl dJ20_linkLast_58
  · refine x_ifnonnull 22 33 dJ20_linkLast_22 rfl (fun c7 => ?_) (fun c7 => ?_)
    · refine x_aload_n 25 2 dJ20_linkLast_25 rfl ?_
      refine x_aload_n 26 0 dJ20_linkLast_26 rfl ?_
      refine x_putR 27 fa_J20_18_15 rfl (Or.inl rfl) dJ20_linkLast_27 ?_
      refine x_goto 30 38 dJ20_linkLast_30 rfl ?_
      refine x_sub [2] _ rfl ?_
      exact hj6 ()
    · refine x_aload_n 33 1 dJ20_linkLast_33 rfl ?_
      refine x_aload_n 34 0 dJ20_linkLast_34 rfl ?_
      refine x_isK fun i8 h9 => ?_
      subst h9
      refine x_putR 35 fa_J20_36_16 rfl (Or.inl rfl) dJ20_linkLast_35 ?_
      refine x_sub [2] _ rfl ?_
      exact hj6 ()
def f_J20_add (i0 : Nat) (a1 : Nat) : PT Int32 := bn0 (f_J20_linkLast i0 a1) fun _ => asr ((1 : Int32) = 0 ∨ (1 : Int32) = 1) (rt (1 : Int32))
theorem im_J20_add {g : GP} {l : Launch} (hl : l.stackTraces = false) (i0 : Nat) (a1 : Nat) : Im g l 3 yJ20_add cJ20_add 2 (some .boolean) eI [.ref (idc 15 i0), .ref a1] (f_J20_add i0 a1) := by
  refine tx_start hl 3 _ _ _ _ (by decide) (Nat.le_of_ble_eq_true rfl) fun Γ Z hΓ hZ => ?_
  subst hΓ
  unfold f_J20_add
  show TX g Γ _ Z _ 0 [(0, .ref (idc 15 i0)), (1, .ref a1)] [] _
  refine x_aload_n 0 0 dJ20_add_0 rfl ?_
  refine x_aload_n 1 1 dJ20_add_1 rfl ?_
  refine x_cV 2 2 [.ref a1] [] ⟨by decide, rfl⟩ cv_J20_57 (im_J20_linkLast hl i0 a1) (by decide) rfl (Nat.le_of_ble_eq_true rfl) dJ20_add_2 fun v1 => x_stV ?_
  refine x_iconst 5 1 (1 : Int32) dJ20_add_5 rfl ?_
  exact x_zret 6 hZ rfl dJ20_add_6
def f_J2_isEmpty (i0 : Nat) : PT Int32 := gI 13 i0 2 fun v1 => cnd (v1 = 0) (asr ((1 : Int32) = 0 ∨ (1 : Int32) = 1) (rt (1 : Int32))) (asr ((0 : Int32) = 0 ∨ (0 : Int32) = 1) (rt (0 : Int32)))
theorem im_J2_isEmpty {g : GP} {l : Launch} (hl : l.stackTraces = false) (i0 : Nat) : Im g l 0 yJ2_isEmpty cJ2_isEmpty 1 (some .boolean) eI [.ref (idc 13 i0)] (f_J2_isEmpty i0) := by
  refine tx_start hl 0 _ _ _ _ (by decide) (Nat.le_of_ble_eq_true rfl) fun Γ Z hΓ hZ => ?_
  subst hΓ
  unfold f_J2_isEmpty
  show TX g Γ _ Z _ 0 [(0, .ref (idc 13 i0))] [] _
  refine x_aload_n 0 0 dJ2_isEmpty_0 rfl ?_
  refine x_getI 1 fa_J2_48_13 dJ2_isEmpty_1 fun v1 => ?_
  refine x_if_ne 4 11 dJ2_isEmpty_4 rfl (fun c2 => ?_) (fun c2 => ?_)
  · refine x_iconst 7 1 (1 : Int32) dJ2_isEmpty_7 rfl ?_
    refine x_goto 8 12 dJ2_isEmpty_8 rfl ?_
    exact x_zret 12 hZ rfl dJ2_isEmpty_12
  · refine x_iconst 11 0 (0 : Int32) dJ2_isEmpty_11 rfl ?_
    exact x_zret 12 hZ rfl dJ2_isEmpty_12
def f_J0_init_17 (i0 : Nat) : PT Unit := rt ()
theorem im_J0_init_17 {g : GP} {l : Launch} (hl : l.stackTraces = false) (i0 : Nat) : Im g l 1 yJ0_init cJ0_init 1 none eV [.ref (idc 17 i0)] (f_J0_init_17 i0) := by
  refine tx_start hl 1 _ _ _ _ (by decide) (Nat.le_of_ble_eq_true rfl) fun Γ Z hΓ hZ => ?_
  subst hΓ
  unfold f_J0_init_17
  show TX g Γ _ Z _ 0 [(0, .ref (idc 17 i0))] [] _
  refine x_aload_n 0 0 dJ0_init_0 rfl ?_
  refine x_objI 1 (by decide) q149 q128 q129 dJ0_init_1 (Nat.le_of_ble_eq_true rfl) (by decide) ?_
  exact x_vret 4 hZ rfl dJ0_init_4
def f_J27_init (i0 : Nat) : PT Unit := bn0 (f_J0_init_17 i0) fun _ => nwA 35 (17 : Int32) fun i2 => pR 17 i0 0 (idc 35 i2) <| rt ()
theorem im_J27_init {g : GP} {l : Launch} (hl : l.stackTraces = false) (i0 : Nat) : Im g l 2 yJ27_init cJ27_init 1 none eV [.ref (idc 17 i0)] (f_J27_init i0) := by
  refine tx_start hl 2 _ _ _ _ (by decide) (Nat.le_of_ble_eq_true rfl) fun Γ Z hΓ hZ => ?_
  subst hΓ
  unfold f_J27_init
  show TX g Γ _ Z _ 0 [(0, .ref (idc 17 i0))] [] _
  refine x_aload_n 0 0 dJ27_init_0 rfl ?_
  refine x_cI 1 1 [] [] (by decide) cn_J27_42 (im_J0_init_17 hl i0) (by decide) rfl (Nat.le_of_ble_eq_true rfl) dJ27_init_1 fun v1 => x_stV ?_
  refine x_aload_n 4 0 dJ27_init_4 rfl ?_
  refine x_bipush 5 17 (17 : Int32) dJ27_init_5 rfl ?_
  refine x_anewa 7 (by decide) rfl q1230 dJ27_init_7 fun i2 => ?_
  refine x_putR 10 fa_J27_3_17 rfl (Or.inl rfl) dJ27_init_10 ?_
  exact x_vret 13 hZ rfl dJ27_init_13
def f_J16_init_20 (i0 : Nat) : PT Unit := rt ()
theorem im_J16_init_20 {g : GP} {l : Launch} (hl : l.stackTraces = false) (i0 : Nat) : Im g l 1 yJ16_init cJ16_init 1 none eV [.ref (idc 20 i0)] (f_J16_init_20 i0) := by
  refine tx_start hl 1 _ _ _ _ (by decide) (Nat.le_of_ble_eq_true rfl) fun Γ Z hΓ hZ => ?_
  subst hΓ
  unfold f_J16_init_20
  show TX g Γ _ Z _ 0 [(0, .ref (idc 20 i0))] [] _
  refine x_aload_n 0 0 dJ16_init_0 rfl ?_
  refine x_objI 1 (by decide) q1256 q128 q129 dJ16_init_1 (Nat.le_of_ble_eq_true rfl) (by decide) ?_
  exact x_vret 4 hZ rfl dJ16_init_4
def f_J17_init (i0 : Nat) (a1 : Int32) : PT Unit := bn0 (f_J16_init_20 i0) fun _ => pI 20 i0 0 a1 <| rt ()
theorem im_J17_init {g : GP} {l : Launch} (hl : l.stackTraces = false) (i0 : Nat) (a1 : Int32) : Im g l 2 yJ17_init cJ17_init 2 none eV [.ref (idc 20 i0), .int a1] (f_J17_init i0 a1) := by
  refine tx_start hl 2 _ _ _ _ (by decide) (Nat.le_of_ble_eq_true rfl) fun Γ Z hΓ hZ => ?_
  subst hΓ
  unfold f_J17_init
  show TX g Γ _ Z _ 0 [(0, .ref (idc 20 i0)), (1, .int a1)] [] _
  refine x_aload_n 0 0 dJ17_init_0 rfl ?_
  refine x_cI 1 1 [] [] (by decide) cn_J17_202 (im_J16_init_20 hl i0) (by decide) rfl (Nat.le_of_ble_eq_true rfl) dJ17_init_1 fun v1 => x_stV ?_
  refine x_aload_n 4 0 dJ17_init_4 rfl ?_
  refine x_iload_n 5 1 dJ17_init_5 rfl ?_
  refine x_putI 6 fa_J17_205_20 rfl (Or.inr ⟨rfl, rfl, rfl⟩) dJ17_init_6 ?_
  exact x_vret 9 hZ rfl dJ17_init_9
def f_J17_valueOf (a1 : Int32) : PT Nat := jo (σ := Unit) (fun _ => nw 20 1 fun i1 => bn0 (f_J17_init i1 a1) fun _ => rt (idc 20 i1)) fun j4 => cnd (a1 < (-128 : Int32)) (j4 ()) (cnd ((127 : Int32) < a1) (j4 ()) (asr (vp_in (a1 + (128 : Int32)) 256) <| rt (idc 49 ((a1 + (128 : Int32)).toNatClampNeg))))
theorem im_J17_valueOf {g : GP} {l : Launch} (hl : l.stackTraces = false) (a1 : Int32) : Im g l 3 yJ17_valueOf cJ17_valueOf 1 (some (.object "java/lang/Integer")) eR [.int a1] (f_J17_valueOf a1) := by
  refine tx_start hl 3 _ _ _ _ (by decide) (Nat.le_of_ble_eq_true rfl) fun Γ Z hΓ hZ => ?_
  subst hΓ
  unfold f_J17_valueOf
  show TX g Γ _ Z _ 0 [(0, .int a1)] [] _
  refine x_iload_n 0 0 dJ17_valueOf_0 rfl ?_
  refine x_bipush 1 (-128) (-128 : Int32) dJ17_valueOf_1 rfl ?_
  refine x_jo 23 (Lf := fun _ => [(0, .int a1)]) (sf := fun _ => []) (fun _ => ?_) (fun j4 hj3 => ?_)
  · show TX g Γ _ Z _ 23 [(0, .int a1)] [] _
    refine x_new 23 na_J17_1 dJ17_valueOf_23 fun i1 => ?_
    refine x_dup 26 dJ17_valueOf_26 rfl ?_
    refine x_iload_n 27 0 dJ17_valueOf_27 rfl ?_
    refine x_cI 28 2 [.int a1] [.ref (idc 20 i1)] (by decide) cn_J17_199 (im_J17_init hl i1 a1) (by decide) rfl (Nat.le_of_ble_eq_true rfl) dJ17_valueOf_28 fun v2 => x_stV ?_
    exact x_aret 31 hZ (Or.inl ⟨_, rfl⟩) dJ17_valueOf_31
  · refine x_icmp_lt 3 23 dJ17_valueOf_3 rfl (fun c5 => ?_) (fun c5 => ?_)
    · exact hj3 ()
    · refine x_iload_n 6 0 dJ17_valueOf_6 rfl ?_
      refine x_gsHi 7 q1244 dJ17_valueOf_7 ?_
      refine x_icmp_gt 10 23 dJ17_valueOf_10 rfl (fun c6 => ?_) (fun c6 => ?_)
      · exact hj3 ()
      · refine x_gsCa 13 q1246 dJ17_valueOf_13 ?_
        refine x_iload_n 16 0 dJ17_valueOf_16 rfl ?_
        refine x_sipush 17 128 (128 : Int32) dJ17_valueOf_17 rfl ?_
        refine x_iadd 20 dJ17_valueOf_20 ?_
        refine x_caA 21 dJ17_valueOf_21 ?_
        exact x_aret 22 hZ (Or.inl ⟨_, rfl⟩) dJ17_valueOf_22
def f_J27_inc (a1 : Int32) (a2 : Int32) : PT Int32 := cnd ((a1 + (1 : Int32)) < a2) (rt (a1 + (1 : Int32))) (rt (0 : Int32))
theorem im_J27_inc {g : GP} {l : Launch} (hl : l.stackTraces = false) (a1 : Int32) (a2 : Int32) : Im g l 0 yJ27_inc cJ27_inc 2 (some .int) eI [.int a1, .int a2] (f_J27_inc a1 a2) := by
  refine tx_start hl 0 _ _ _ _ (by decide) (Nat.le_of_ble_eq_true rfl) fun Γ Z hΓ hZ => ?_
  subst hΓ
  unfold f_J27_inc
  show TX g Γ _ Z _ 0 [(0, .int a1), (1, .int a2)] [] _
  refine x_iinc 0 0 [(0, .int (a1 + (1 : Int32))), (1, .int a2)] dJ27_inc_0 rfl rfl (by decide) rfl ?_
  refine x_iload_n 3 0 dJ27_inc_3 rfl ?_
  refine x_iload_n 4 1 dJ27_inc_4 rfl ?_
  refine x_icmp_lt 5 10 dJ27_inc_5 rfl (fun c1 => ?_) (fun c1 => ?_)
  · refine x_iload_n 10 0 dJ27_inc_10 rfl ?_
    exact x_iret 11 hZ rfl dJ27_inc_11
  · refine x_iconst 8 0 (0 : Int32) dJ27_inc_8 rfl ?_
    refine x_istore_n 9 [(0, .int (0 : Int32)), (1, .int a2)] dJ27_inc_9 (by decide) rfl ?_
    refine x_iload_n 10 0 dJ27_inc_10 rfl ?_
    exact x_iret 11 hZ rfl dJ27_inc_11
def f_J27_newCapacity (i0 : Nat) (a1 : Int32) (a2 : Int32) : PT Int32 := gR 17 i0 0 fun v1 => isK 35 v1 fun i3 => aLen 35 i3 fun v2 => cnd (((v2 + a1) - (2147483639 : Int32)) ≤ 0) (cnd (a1 ≤ a2) (cnd (0 ≤ ((v2 + a2) - (2147483639 : Int32))) (rt (2147483639 : Int32)) (rt (v2 + a2))) (rt (v2 + a1))) (cnd (0 ≤ (v2 + a1)) (rt (2147483647 : Int32)) (stk))
theorem im_J27_newCapacity {g : GP} {l : Launch} (hl : l.stackTraces = false) (i0 : Nat) (a1 : Int32) (a2 : Int32) : Im g l 0 yJ27_newCapacity cJ27_newCapacity 5 (some .int) eI [.ref (idc 17 i0), .int a1, .int a2] (f_J27_newCapacity i0 a1 a2) := by
  refine tx_start hl 0 _ _ _ _ (by decide) (Nat.le_of_ble_eq_true rfl) fun Γ Z hΓ hZ => ?_
  subst hΓ
  unfold f_J27_newCapacity
  show TX g Γ _ Z _ 0 [(0, .ref (idc 17 i0)), (1, .int a1), (2, .int a2)] [] _
  refine x_aload_n 0 0 dJ27_newCapacity_0 rfl ?_
  refine x_getR 1 fa_J27_3_17 dJ27_newCapacity_1 fun v1 => ?_
  refine x_isK fun i3 h4 => ?_
  subst h4
  refine x_alen 4 (by decide) dJ27_newCapacity_4 fun v2 => ?_
  refine x_istore_n 5 [(3, .int v2), (0, .ref (idc 17 i0)), (1, .int a1), (2, .int a2)] dJ27_newCapacity_5 (by decide) rfl ?_
  refine x_iload_n 6 0 dJ27_newCapacity_6 rfl ?_
  refine x_iload_n 7 2 dJ27_newCapacity_7 rfl ?_
  refine x_iadd 8 dJ27_newCapacity_8 ?_
  refine x_dup 9 dJ27_newCapacity_9 rfl ?_
  refine x_istore 10 [(4, .int (v2 + a1)), (3, .int v2), (0, .ref (idc 17 i0)), (1, .int a1), (2, .int a2)] dJ27_newCapacity_10 (by decide) rfl ?_
  refine x_ldc 12 9 (2147483639 : Int32) dJ27_newCapacity_12 q1282 ?_
  refine x_isub 14 dJ27_newCapacity_14 ?_
  refine x_if_le 15 36 dJ27_newCapacity_15 rfl (fun c5 => ?_) (fun c5 => ?_)
  · refine x_iload_n 36 3 dJ27_newCapacity_36 rfl ?_
    refine x_iload_n 37 4 dJ27_newCapacity_37 rfl ?_
    refine x_icmp_le 38 44 dJ27_newCapacity_38 rfl (fun c6 => ?_) (fun c6 => ?_)
    · refine x_iload_n 44 1 dJ27_newCapacity_44 rfl ?_
      refine x_iload_n 45 4 dJ27_newCapacity_45 rfl ?_
      refine x_iadd 46 dJ27_newCapacity_46 ?_
      refine x_ldc 47 9 (2147483639 : Int32) dJ27_newCapacity_47 q1282 ?_
      refine x_isub 49 dJ27_newCapacity_49 ?_
      refine x_if_ge 50 59 dJ27_newCapacity_50 rfl (fun c7 => ?_) (fun c7 => ?_)
      · refine x_ldc 59 9 (2147483639 : Int32) dJ27_newCapacity_59 q1282 ?_
        exact x_iret 61 hZ rfl dJ27_newCapacity_61
      · refine x_iload_n 53 1 dJ27_newCapacity_53 rfl ?_
        refine x_iload_n 54 4 dJ27_newCapacity_54 rfl ?_
        refine x_iadd 55 dJ27_newCapacity_55 ?_
        refine x_goto 56 61 dJ27_newCapacity_56 rfl ?_
        exact x_iret 61 hZ rfl dJ27_newCapacity_61
    · refine x_iload 41 0 dJ27_newCapacity_41 rfl ?_
      exact x_iret 43 hZ rfl dJ27_newCapacity_43
  · refine x_iload 18 0 dJ27_newCapacity_18 rfl ?_
    refine x_if_ge 20 33 dJ27_newCapacity_20 rfl (fun c8 => ?_) (fun c8 => ?_)
    · refine x_ldc 33 41 (2147483647 : Int32) dJ27_newCapacity_33 q1293 ?_
      exact x_iret 35 hZ rfl dJ27_newCapacity_35
    · exact x_stk
def f_J27_grow (i0 : Nat) (a1 : Int32) : PT Unit := gR 17 i0 0 fun v1 => isK 35 v1 fun i3 => aLen 35 i3 fun v2 => bnd (ρ := _) (α := Int32) (cnd ((64 : Int32) ≤ v2) (rt (v2 >>> ((1 : Int32) &&& 31))) (rt (v2 + (2 : Int32)))) (fun u5 => bnd (ρ := _) (α := Int32) (jo (σ := Unit) (fun _ => bn0 (f_J27_newCapacity i0 a1 u5) fun v35 => rt v35) fun j37 => cnd (u5 < a1) (j37 ()) (cnd (((v2 + u5) - (2147483639 : Int32)) ≤ 0) (rt (v2 + u5)) (j37 ()))) (fun u6 => gR 17 i0 0 fun v7 => isK 35 v7 fun i8 => bn0 (f_J13_copyOf_3 i8 u6) fun v10 => pR 17 i0 0 v10 <| gI 17 i0 2 fun v11 => gI 17 i0 1 fun v12 => jo (σ := Unit) (fun _ => gI 17 i0 1 fun v13 => gI 17 i0 1 fun v14 => gI 17 i0 1 fun v15 => isK 35 v10 fun i16 => cpR i16 v13 i16 (v14 + (u6 - v2)) (v2 - v15) <| gI 17 i0 1 fun v18 => gI 17 i0 1 fun v19 => pI 17 i0 1 (v19 + (u6 - v2)) <| lp (σ := Int32) (fun r21 => fun u20 => cnd ((v19 + (u6 - v2)) ≤ u20) (rt ()) (bR 35 i16 u20 nul <| r21 (u20 + (1 : Int32)))) v18) fun j24 => cnd (v11 < v12) (j24 ()) (gI 17 i0 2 fun v26 => gI 17 i0 1 fun v27 => cnd (v26 = v27) (gI 17 i0 1 fun v29 => isK 35 v10 fun i30 => aR 35 i30 v29 fun v32 => cnd (v32 = nul) (rt ()) (j24 ())) (rt ()))))
theorem im_J27_grow {g : GP} {l : Launch} (hl : l.stackTraces = false) (i0 : Nat) (a1 : Int32) : Im g l 3 yJ27_grow cJ27_grow 9 none eV [.ref (idc 17 i0), .int a1] (f_J27_grow i0 a1) := by
  refine tx_start hl 3 _ _ _ _ (by decide) (Nat.le_of_ble_eq_true rfl) fun Γ Z hΓ hZ => ?_
  subst hΓ
  unfold f_J27_grow
  show TX g Γ _ Z _ 0 [(0, .ref (idc 17 i0)), (1, .int a1)] [] _
  refine x_aload_n 0 0 dJ27_grow_0 rfl ?_
  refine x_getR 1 fa_J27_3_17 dJ27_grow_1 fun v1 => ?_
  refine x_isK fun i3 h4 => ?_
  subst h4
  refine x_alen 4 (by decide) dJ27_grow_4 fun v2 => ?_
  refine x_istore_n 5 [(2, .int v2), (0, .ref (idc 17 i0)), (1, .int a1)] dJ27_grow_5 (by decide) rfl ?_
  refine x_iload_n 6 0 dJ27_grow_6 rfl ?_
  refine x_bipush 7 64 (64 : Int32) dJ27_grow_7 rfl ?_
  refine x_bndj 21 (fun u5 => [(0, .ref (idc 17 i0)), (1, .int a1), (2, .int v2)]) (fun u5 => [.int u5]) (fun u5 => ?_) (fun hj40 => ?_)
  · show TX g Γ _ Z _ 21 [(0, .ref (idc 17 i0)), (1, .int a1), (2, .int v2)] [.int u5] _
    refine x_istore 21 [(4, .int u5), (0, .ref (idc 17 i0)), (1, .int a1), (2, .int v2)] dJ27_grow_21 (by decide) rfl ?_
    refine x_iload 23 0 dJ27_grow_23 rfl ?_
    refine x_iload_n 25 2 dJ27_grow_25 rfl ?_
    refine x_bndj 49 (fun u6 => [(0, .ref (idc 17 i0)), (2, .int v2), (3, .int u6)]) (fun u6 => []) (fun u6 => ?_) (fun hj34 => ?_)
    · show TX g Γ _ Z _ 49 [(0, .ref (idc 17 i0)), (2, .int v2), (3, .int u6)] [] _
      refine x_aload_n 49 0 dJ27_grow_49 rfl ?_
      refine x_aload_n 50 0 dJ27_grow_50 rfl ?_
      refine x_getR 51 fa_J27_3_17 dJ27_grow_51 fun v7 => ?_
      refine x_iload_n 54 2 dJ27_grow_54 rfl ?_
      refine x_isK fun i8 h9 => ?_
      subst h9
      refine x_cS 55 2 [.ref (idc 35 i8), .int u6] [.ref (idc 17 i0)] cs_J27_14 (im_J13_copyOf_3 hl i8 u6) (by decide) rfl (Nat.le_of_ble_eq_true rfl) dJ27_grow_55 fun v10 => x_stR ?_
      refine x_dup_x1 58 dJ27_grow_58 rfl rfl ?_
      refine x_putR 59 fa_J27_3_17 rfl (Or.inl rfl) dJ27_grow_59 ?_
      refine x_astore 62 [(5, .ref v10), (0, .ref (idc 17 i0)), (2, .int v2), (3, .int u6)] dJ27_grow_62 (by decide) rfl ?_
      refine x_aload_n 64 1 dJ27_grow_64 rfl ?_
      refine x_getI 65 fa_J27_20_17 dJ27_grow_65 fun v11 => ?_
      refine x_aload_n 68 1 dJ27_grow_68 rfl ?_
      refine x_getI 69 fa_J27_24_17 dJ27_grow_69 fun v12 => ?_
      refine x_jo 96 (Lf := fun _ => [(0, .ref (idc 17 i0)), (2, .int v2), (3, .int u6), (5, .ref v10)]) (sf := fun _ => []) (fun _ => ?_) (fun j24 hj23 => ?_)
      · show TX g Γ _ Z _ 96 [(0, .ref (idc 17 i0)), (2, .int v2), (3, .int u6), (5, .ref v10)] [] _
        refine x_iload_n 96 2 dJ27_grow_96 rfl ?_
        refine x_iload_n 97 1 dJ27_grow_97 rfl ?_
        refine x_isub 98 dJ27_grow_98 ?_
        refine x_istore 99 [(6, .int (u6 - v2)), (0, .ref (idc 17 i0)), (2, .int v2), (3, .int u6), (5, .ref v10)] dJ27_grow_99 (by decide) rfl ?_
        refine x_aload 101 4 dJ27_grow_101 rfl ?_
        refine x_aload_n 103 1 dJ27_grow_103 rfl ?_
        refine x_getI 104 fa_J27_24_17 dJ27_grow_104 fun v13 => ?_
        refine x_aload 107 4 dJ27_grow_107 rfl ?_
        refine x_aload_n 109 1 dJ27_grow_109 rfl ?_
        refine x_getI 110 fa_J27_24_17 dJ27_grow_110 fun v14 => ?_
        refine x_iload 113 0 dJ27_grow_113 rfl ?_
        refine x_iadd 115 dJ27_grow_115 ?_
        refine x_iload_n 116 2 dJ27_grow_116 rfl ?_
        refine x_aload_n 117 1 dJ27_grow_117 rfl ?_
        refine x_getI 118 fa_J27_24_17 dJ27_grow_118 fun v15 => ?_
        refine x_isub 121 dJ27_grow_121 ?_
        refine x_isK fun i16 h17 => ?_
        subst h17
        refine x_copyR 122 q1295 q276 q275 q87 (by decide) (Nat.le_of_ble_eq_true rfl) dJ27_grow_122 ?_
        refine x_aload_n 125 1 dJ27_grow_125 rfl ?_
        refine x_getI 126 fa_J27_24_17 dJ27_grow_126 fun v18 => ?_
        refine x_istore 129 [(7, .int v18), (6, .int (u6 - v2)), (0, .ref (idc 17 i0)), (2, .int v2), (3, .int u6), (5, .ref (idc 35 i16))] dJ27_grow_129 (by decide) rfl ?_
        refine x_aload_n 131 2 dJ27_grow_131 rfl ?_
        refine x_dup 132 dJ27_grow_132 rfl ?_
        refine x_getI 133 fa_J27_24_17 dJ27_grow_133 fun v19 => ?_
        refine x_iload 136 1 dJ27_grow_136 rfl ?_
        refine x_iadd 138 dJ27_grow_138 ?_
        refine x_dup_x1 139 dJ27_grow_139 rfl rfl ?_
        refine x_putI 140 fa_J27_24_17 rfl (Or.inl rfl) dJ27_grow_140 ?_
        refine x_istore 143 [(8, .int (v19 + (u6 - v2))), (7, .int v18), (6, .int (u6 - v2)), (0, .ref (idc 17 i0)), (2, .int v2), (3, .int u6), (5, .ref (idc 35 i16))] dJ27_grow_143 (by decide) rfl ?_
        refine x_sub [6, 1, 0] [(5, .ref (idc 35 i16)), (7, .int v18), (8, .int (v19 + (u6 - v2)))] rfl ?_
        refine x_lp (Lf := fun u20 => [(5, .ref (idc 35 i16)), (7, .int u20), (8, .int (v19 + (u6 - v2)))]) (sf := fun _ => []) (fun r21 hr21 u20 => ?_) v18
        show TX g Γ _ Z _ 145 [(5, .ref (idc 35 i16)), (7, .int u20), (8, .int (v19 + (u6 - v2)))] [] _
        refine x_iload 145 1 dJ27_grow_145 rfl ?_
        refine x_iload 147 2 dJ27_grow_147 rfl ?_
        refine x_icmp_ge 149 164 dJ27_grow_149 rfl (fun c22 => ?_) (fun c22 => ?_)
        · exact x_vret 164 hZ rfl dJ27_grow_164
        · refine x_aload 152 0 dJ27_grow_152 rfl ?_
          refine x_iload 154 1 dJ27_grow_154 rfl ?_
          refine x_null 156 dJ27_grow_156 ?_
          refine x_aast 157 (by decide) dJ27_grow_157 (Or.inl rfl) ?_
          refine x_iinc 158 1 [(7, .int (u20 + (1 : Int32))), (5, .ref (idc 35 i16)), (8, .int (v19 + (u6 - v2)))] dJ27_grow_158 rfl rfl (by decide) rfl ?_
          refine x_goto 161 145 dJ27_grow_161 rfl ?_
          refine x_sub [1, 0, 2] _ rfl ?_
          exact hr21 (u20 + (1 : Int32))
      · refine x_icmp_lt 72 96 dJ27_grow_72 rfl (fun c25 => ?_) (fun c25 => ?_)
        · refine x_sub [1, 2, 3, 0] _ rfl ?_
          exact hj23 ()
        · refine x_aload_n 75 1 dJ27_grow_75 rfl ?_
          refine x_getI 76 fa_J27_20_17 dJ27_grow_76 fun v26 => ?_
          refine x_aload_n 79 1 dJ27_grow_79 rfl ?_
          refine x_getI 80 fa_J27_24_17 dJ27_grow_80 fun v27 => ?_
          refine x_icmp_ne 83 164 dJ27_grow_83 rfl (fun c28 => ?_) (fun c28 => ?_)
          · refine x_aload 86 0 dJ27_grow_86 rfl ?_
            refine x_aload_n 88 1 dJ27_grow_88 rfl ?_
            refine x_getI 89 fa_J27_24_17 dJ27_grow_89 fun v29 => ?_
            refine x_isK fun i30 h31 => ?_
            subst h31
            refine x_aald 92 (by decide) dJ27_grow_92 fun v32 => ?_
            refine x_ifnull 93 164 dJ27_grow_93 rfl (fun c33 => ?_) (fun c33 => ?_)
            · exact x_vret 164 hZ rfl dJ27_grow_164
            · refine x_sub [1, 2, 3, 0] _ rfl ?_
              exact hj23 ()
          · exact x_vret 164 hZ rfl dJ27_grow_164
    · refine x_jo 41 (Lf := fun _ => [(0, .ref (idc 17 i0)), (1, .int a1), (2, .int v2), (4, .int u5)]) (sf := fun _ => []) (fun _ => ?_) (fun j37 hj36 => ?_)
      · show TX g Γ _ Z _ 41 [(0, .ref (idc 17 i0)), (1, .int a1), (2, .int v2), (4, .int u5)] [] _
        refine x_aload_n 41 0 dJ27_grow_41 rfl ?_
        refine x_iload_n 42 1 dJ27_grow_42 rfl ?_
        refine x_iload 43 3 dJ27_grow_43 rfl ?_
        refine x_cV 45 0 [.int a1, .int u5] [] ⟨by decide, rfl⟩ cv_J27_10 (im_J27_newCapacity hl i0 a1 u5) (by decide) rfl (Nat.le_of_ble_eq_true rfl) dJ27_grow_45 fun v35 => x_stI ?_
        refine x_istore_n 48 [(3, .int v35), (0, .ref (idc 17 i0)), (1, .int a1), (2, .int v2), (4, .int u5)] dJ27_grow_48 (by decide) rfl ?_
        refine x_sub [1, 3, 0] _ rfl ?_
        exact hj34 v35
      · refine x_icmp_lt 26 41 dJ27_grow_26 rfl (fun c38 => ?_) (fun c38 => ?_)
        · refine x_sub [1, 2, 3, 0] _ rfl ?_
          exact hj36 ()
        · refine x_iload_n 29 3 dJ27_grow_29 rfl ?_
          refine x_iload 30 0 dJ27_grow_30 rfl ?_
          refine x_iadd 32 dJ27_grow_32 ?_
          refine x_dup 33 dJ27_grow_33 rfl ?_
          refine x_istore_n 34 [(3, .int (v2 + u5)), (4, .int u5), (0, .ref (idc 17 i0)), (1, .int a1), (2, .int v2)] dJ27_grow_34 (by decide) rfl ?_
          refine x_ldc 35 9 (2147483639 : Int32) dJ27_grow_35 q1282 ?_
          refine x_isub 37 dJ27_grow_37 ?_
          refine x_if_le 38 49 dJ27_grow_38 rfl (fun c39 => ?_) (fun c39 => ?_)
          · refine x_sub [2, 4, 0] _ rfl ?_
            exact hj34 (v2 + u5)
          · refine x_sub [2, 3, 4, 1] _ rfl ?_
            exact hj36 ()
  · refine x_icmp_ge 9 18 dJ27_grow_9 rfl (fun c41 => ?_) (fun c41 => ?_)
    · refine x_iload_n 18 0 dJ27_grow_18 rfl ?_
      refine x_iconst 19 1 (1 : Int32) dJ27_grow_19 rfl ?_
      refine x_ishr 20 dJ27_grow_20 ?_
      refine x_sub [1, 2, 0] _ rfl ?_
      exact hj40 (v2 >>> ((1 : Int32) &&& 31))
    · refine x_iload_n 12 0 dJ27_grow_12 rfl ?_
      refine x_iconst 13 2 (2 : Int32) dJ27_grow_13 rfl ?_
      refine x_iadd 14 dJ27_grow_14 ?_
      refine x_goto 15 21 dJ27_grow_15 rfl ?_
      refine x_sub [1, 2, 0] _ rfl ?_
      exact hj40 (v2 + (2 : Int32))
def f_J27_addLast (i0 : Nat) (a1 : Nat) : PT Unit := cnd (a1 = nul) (stk) (gR 17 i0 0 fun v2 => gI 17 i0 2 fun v3 => isK 35 v2 fun i4 => asr (elOK a1) <| bR 35 i4 v3 a1 <| gI 17 i0 1 fun v7 => gI 17 i0 2 fun v8 => aLen 35 i4 fun v9 => bn0 (f_J27_inc v8 v9) fun v10 => pI 17 i0 2 v10 <| cnd (v7 = v10) (bn0 (f_J27_grow i0 (1 : Int32)) fun _ => rt ()) (rt ()))
theorem im_J27_addLast {g : GP} {l : Launch} (hl : l.stackTraces = false) (i0 : Nat) (a1 : Nat) : Im g l 4 yJ27_addLast cJ27_addLast 3 none eV [.ref (idc 17 i0), .ref a1] (f_J27_addLast i0 a1) := by
  refine tx_start hl 4 _ _ _ _ (by decide) (Nat.le_of_ble_eq_true rfl) fun Γ Z hΓ hZ => ?_
  subst hΓ
  unfold f_J27_addLast
  show TX g Γ _ Z _ 0 [(0, .ref (idc 17 i0)), (1, .ref a1)] [] _
  refine x_aload_n 0 1 dJ27_addLast_0 rfl ?_
  refine x_ifnonnull 1 12 dJ27_addLast_1 rfl (fun c1 => ?_) (fun c1 => ?_)
  · exact x_stk
  · refine x_aload_n 12 0 dJ27_addLast_12 rfl ?_
    refine x_getR 13 fa_J27_3_17 dJ27_addLast_13 fun v2 => ?_
    refine x_astore_n 16 [(2, .ref v2), (0, .ref (idc 17 i0)), (1, .ref a1)] dJ27_addLast_16 (by decide) rfl ?_
    refine x_aload_n 17 0 dJ27_addLast_17 rfl ?_
    refine x_aload_n 18 1 dJ27_addLast_18 rfl ?_
    refine x_getI 19 fa_J27_20_17 dJ27_addLast_19 fun v3 => ?_
    refine x_aload_n 22 2 dJ27_addLast_22 rfl ?_
    refine x_isK fun i4 h5 => ?_
    subst h5
    refine x_asr fun h6 => ?_
    refine x_aast 23 (by decide) dJ27_addLast_23 (h6.elim Or.inl fun h => Or.inr (Or.inl ⟨rfl, h⟩)) ?_
    refine x_aload_n 24 1 dJ27_addLast_24 rfl ?_
    refine x_getI 25 fa_J27_24_17 dJ27_addLast_25 fun v7 => ?_
    refine x_aload_n 28 1 dJ27_addLast_28 rfl ?_
    refine x_aload_n 29 1 dJ27_addLast_29 rfl ?_
    refine x_getI 30 fa_J27_20_17 dJ27_addLast_30 fun v8 => ?_
    refine x_aload_n 33 0 dJ27_addLast_33 rfl ?_
    refine x_alen 34 (by decide) dJ27_addLast_34 fun v9 => ?_
    refine x_cS 35 0 [.int v8, .int v9] [.ref (idc 17 i0), .int v7] cs_J27_74 (im_J27_inc hl v8 v9) (by decide) rfl (Nat.le_of_ble_eq_true rfl) dJ27_addLast_35 fun v10 => x_stI ?_
    refine x_dup_x1 38 dJ27_addLast_38 rfl rfl ?_
    refine x_putI 39 fa_J27_20_17 rfl (Or.inl rfl) dJ27_addLast_39 ?_
    refine x_icmp_ne 42 50 dJ27_addLast_42 rfl (fun c11 => ?_) (fun c11 => ?_)
    · refine x_aload_n 45 1 dJ27_addLast_45 rfl ?_
      refine x_iconst 46 1 (1 : Int32) dJ27_addLast_46 rfl ?_
      refine x_cV 47 3 [.int (1 : Int32)] [] ⟨by decide, rfl⟩ cv_J27_71 (im_J27_grow hl i0 (1 : Int32)) (by decide) rfl (Nat.le_of_ble_eq_true rfl) dJ27_addLast_47 fun v12 => x_stV ?_
      exact x_vret 50 hZ rfl dJ27_addLast_50
    · exact x_vret 50 hZ rfl dJ27_addLast_50
def f_J27_add (i0 : Nat) (a1 : Nat) : PT Int32 := bn0 (f_J27_addLast i0 a1) fun _ => asr ((1 : Int32) = 0 ∨ (1 : Int32) = 1) (rt (1 : Int32))
theorem im_J27_add {g : GP} {l : Launch} (hl : l.stackTraces = false) (i0 : Nat) (a1 : Nat) : Im g l 5 yJ27_add cJ27_add 2 (some .boolean) eI [.ref (idc 17 i0), .ref a1] (f_J27_add i0 a1) := by
  refine tx_start hl 5 _ _ _ _ (by decide) (Nat.le_of_ble_eq_true rfl) fun Γ Z hΓ hZ => ?_
  subst hΓ
  unfold f_J27_add
  show TX g Γ _ Z _ 0 [(0, .ref (idc 17 i0)), (1, .ref a1)] [] _
  refine x_aload_n 0 0 dJ27_add_0 rfl ?_
  refine x_aload_n 1 1 dJ27_add_1 rfl ?_
  refine x_cV 2 4 [.ref a1] [] ⟨by decide, rfl⟩ cv_J27_90 (im_J27_addLast hl i0 a1) (by decide) rfl (Nat.le_of_ble_eq_true rfl) dJ27_add_2 fun v1 => x_stV ?_
  refine x_iconst 5 1 (1 : Int32) dJ27_add_5 rfl ?_
  exact x_zret 6 hZ rfl dJ27_add_6
def f_J27_isEmpty (i0 : Nat) : PT Int32 := gI 17 i0 1 fun v1 => gI 17 i0 2 fun v2 => cnd (v1 = v2) (asr ((1 : Int32) = 0 ∨ (1 : Int32) = 1) (rt (1 : Int32))) (asr ((0 : Int32) = 0 ∨ (0 : Int32) = 1) (rt (0 : Int32)))
theorem im_J27_isEmpty {g : GP} {l : Launch} (hl : l.stackTraces = false) (i0 : Nat) : Im g l 0 yJ27_isEmpty cJ27_isEmpty 1 (some .boolean) eI [.ref (idc 17 i0)] (f_J27_isEmpty i0) := by
  refine tx_start hl 0 _ _ _ _ (by decide) (Nat.le_of_ble_eq_true rfl) fun Γ Z hΓ hZ => ?_
  subst hΓ
  unfold f_J27_isEmpty
  show TX g Γ _ Z _ 0 [(0, .ref (idc 17 i0))] [] _
  refine x_aload_n 0 0 dJ27_isEmpty_0 rfl ?_
  refine x_getI 1 fa_J27_24_17 dJ27_isEmpty_1 fun v1 => ?_
  refine x_aload_n 4 0 dJ27_isEmpty_4 rfl ?_
  refine x_getI 5 fa_J27_20_17 dJ27_isEmpty_5 fun v2 => ?_
  refine x_icmp_ne 8 15 dJ27_isEmpty_8 rfl (fun c3 => ?_) (fun c3 => ?_)
  · refine x_iconst 11 1 (1 : Int32) dJ27_isEmpty_11 rfl ?_
    refine x_goto 12 16 dJ27_isEmpty_12 rfl ?_
    exact x_zret 16 hZ rfl dJ27_isEmpty_16
  · refine x_iconst 15 0 (0 : Int32) dJ27_isEmpty_15 rfl ?_
    exact x_zret 16 hZ rfl dJ27_isEmpty_16
def f_J27_elementAt (a1 : Nat) (a2 : Int32) : PT Nat := aR 35 a1 a2 fun v1 => rt v1
theorem im_J27_elementAt {g : GP} {l : Launch} (hl : l.stackTraces = false) (a1 : Nat) (a2 : Int32) : Im g l 0 yJ27_elementAt cJ27_elementAt 2 (some (.object "java/lang/Object")) eR [.ref (idc 35 a1), .int a2] (f_J27_elementAt a1 a2) := by
  refine tx_start hl 0 _ _ _ _ (by decide) (Nat.le_of_ble_eq_true rfl) fun Γ Z hΓ hZ => ?_
  subst hΓ
  unfold f_J27_elementAt
  show TX g Γ _ Z _ 0 [(0, .ref (idc 35 a1)), (1, .int a2)] [] _
  refine x_aload_n 0 0 dJ27_elementAt_0 rfl ?_
  refine x_iload_n 1 1 dJ27_elementAt_1 rfl ?_
  refine x_aald 2 (by decide) dJ27_elementAt_2 fun v1 => ?_
  exact x_aret 3 hZ (Or.inl ⟨_, rfl⟩) dJ27_elementAt_3
def f_J27_pollFirst (i0 : Nat) : PT Nat := gR 17 i0 0 fun v1 => gI 17 i0 1 fun v2 => isK 35 v1 fun i3 => bn0 (f_J27_elementAt i3 v2) fun v5 => cnd (v5 = nul) (rt v5) (bR 35 i3 v2 nul <| aLen 35 i3 fun v7 => bn0 (f_J27_inc v2 v7) fun v8 => pI 17 i0 1 v8 <| rt v5)
theorem im_J27_pollFirst {g : GP} {l : Launch} (hl : l.stackTraces = false) (i0 : Nat) : Im g l 1 yJ27_pollFirst cJ27_pollFirst 4 (some (.object "java/lang/Object")) eR [.ref (idc 17 i0)] (f_J27_pollFirst i0) := by
  refine tx_start hl 1 _ _ _ _ (by decide) (Nat.le_of_ble_eq_true rfl) fun Γ Z hΓ hZ => ?_
  subst hΓ
  unfold f_J27_pollFirst
  show TX g Γ _ Z _ 0 [(0, .ref (idc 17 i0))] [] _
  refine x_aload_n 0 0 dJ27_pollFirst_0 rfl ?_
  refine x_getR 1 fa_J27_3_17 dJ27_pollFirst_1 fun v1 => ?_
  refine x_dup 4 dJ27_pollFirst_4 rfl ?_
  refine x_astore_n 5 [(1, .ref v1), (0, .ref (idc 17 i0))] dJ27_pollFirst_5 (by decide) rfl ?_
  refine x_aload_n 6 1 dJ27_pollFirst_6 rfl ?_
  refine x_getI 7 fa_J27_24_17 dJ27_pollFirst_7 fun v2 => ?_
  refine x_dup 10 dJ27_pollFirst_10 rfl ?_
  refine x_istore_n 11 [(2, .int v2), (1, .ref v1), (0, .ref (idc 17 i0))] dJ27_pollFirst_11 (by decide) rfl ?_
  refine x_isK fun i3 h4 => ?_
  subst h4
  refine x_cS 12 0 [.ref (idc 35 i3), .int v2] [] cs_J27_103 (im_J27_elementAt hl i3 v2) (by decide) rfl (Nat.le_of_ble_eq_true rfl) dJ27_pollFirst_12 fun v5 => x_stR ?_
  refine x_astore_n 15 [(3, .ref v5), (2, .int v2), (1, .ref (idc 35 i3)), (0, .ref (idc 17 i0))] dJ27_pollFirst_15 (by decide) rfl ?_
  refine x_aload_n 16 0 dJ27_pollFirst_16 rfl ?_
  refine x_ifnull 17 34 dJ27_pollFirst_17 rfl (fun c6 => ?_) (fun c6 => ?_)
  · refine x_aload_n 34 0 dJ27_pollFirst_34 rfl ?_
    exact x_aret 35 hZ (Or.inl ⟨_, rfl⟩) dJ27_pollFirst_35
  · refine x_aload_n 20 2 dJ27_pollFirst_20 rfl ?_
    refine x_iload_n 21 1 dJ27_pollFirst_21 rfl ?_
    refine x_null 22 dJ27_pollFirst_22 ?_
    refine x_aast 23 (by decide) dJ27_pollFirst_23 (Or.inl rfl) ?_
    refine x_aload_n 24 3 dJ27_pollFirst_24 rfl ?_
    refine x_iload_n 25 1 dJ27_pollFirst_25 rfl ?_
    refine x_aload_n 26 2 dJ27_pollFirst_26 rfl ?_
    refine x_alen 27 (by decide) dJ27_pollFirst_27 fun v7 => ?_
    refine x_cS 28 0 [.int v2, .int v7] [.ref (idc 17 i0)] cs_J27_74 (im_J27_inc hl v2 v7) (by decide) rfl (Nat.le_of_ble_eq_true rfl) dJ27_pollFirst_28 fun v8 => x_stI ?_
    refine x_putI 31 fa_J27_24_17 rfl (Or.inl rfl) dJ27_pollFirst_31 ?_
    refine x_aload_n 34 0 dJ27_pollFirst_34 rfl ?_
    exact x_aret 35 hZ (Or.inl ⟨_, rfl⟩) dJ27_pollFirst_35
def f_J27_poll (i0 : Nat) : PT Nat := bn0 (f_J27_pollFirst i0) fun v1 => rt v1
theorem im_J27_poll {g : GP} {l : Launch} (hl : l.stackTraces = false) (i0 : Nat) : Im g l 2 yJ27_poll cJ27_poll 1 (some (.object "java/lang/Object")) eR [.ref (idc 17 i0)] (f_J27_poll i0) := by
  refine tx_start hl 2 _ _ _ _ (by decide) (Nat.le_of_ble_eq_true rfl) fun Γ Z hΓ hZ => ?_
  subst hΓ
  unfold f_J27_poll
  show TX g Γ _ Z _ 0 [(0, .ref (idc 17 i0))] [] _
  refine x_aload_n 0 0 dJ27_poll_0 rfl ?_
  refine x_cV 1 1 [] [] ⟨by decide, rfl⟩ cv_J27_93 (im_J27_pollFirst hl i0) (by decide) rfl (Nat.le_of_ble_eq_true rfl) dJ27_poll_1 fun v1 => x_stR ?_
  exact x_aret 4 hZ (Or.inl ⟨_, rfl⟩) dJ27_poll_4
def f_J17_intValue (a0 : Nat) : PT Int32 := bxV a0 fun v1 => rt v1
theorem im_J17_intValue {g : GP} {l : Launch} (hl : l.stackTraces = false) (a0 : Nat) : Im g l 0 yJ17_intValue cJ17_intValue 1 (some .int) eI [.ref a0] (f_J17_intValue a0) := by
  refine tx_start hl 0 _ _ _ _ (by decide) (Nat.le_of_ble_eq_true rfl) fun Γ Z hΓ hZ => ?_
  subst hΓ
  unfold f_J17_intValue
  show TX g Γ _ Z _ 0 [(0, .ref a0)] [] _
  refine x_aload_n 0 0 dJ17_intValue_0 rfl ?_
  refine x_getB 1 fa_J17_205_20 q1257 dJ17_intValue_1 fun v1 => ?_
  exact x_iret 4 hZ rfl dJ17_intValue_4
def f_J20_size (i0 : Nat) : PT Int32 := gI 15 i0 1 fun v1 => rt v1
theorem im_J20_size {g : GP} {l : Launch} (hl : l.stackTraces = false) (i0 : Nat) : Im g l 0 yJ20_size cJ20_size 1 (some .int) eI [.ref (idc 15 i0)] (f_J20_size i0) := by
  refine tx_start hl 0 _ _ _ _ (by decide) (Nat.le_of_ble_eq_true rfl) fun Γ Z hΓ hZ => ?_
  subst hΓ
  unfold f_J20_size
  show TX g Γ _ Z _ 0 [(0, .ref (idc 15 i0))] [] _
  refine x_aload_n 0 0 dJ20_size_0 rfl ?_
  refine x_getI 1 fa_J20_7_15 dJ20_size_1 fun v1 => ?_
  exact x_iret 4 hZ rfl dJ20_size_4
def f_J20_node (i0 : Nat) (a1 : Int32) : PT Nat := gI 15 i0 1 fun v1 => cnd ((v1 >>> ((1 : Int32) &&& 31)) ≤ a1) (gR 15 i0 3 fun v3 => gI 15 i0 1 fun v4 => lp (σ := Nat × Int32) (fun r7 => un2 fun u5 u6 => cnd (u6 ≤ a1) (rt u5) (isK 16 u5 fun i9 => gR 16 i9 2 fun v11 => r7 (v11, u6 + (-1 : Int32)))) (v3, v4 - (1 : Int32))) (gR 15 i0 2 fun v12 => lp (σ := Nat × Int32) (fun r15 => un2 fun u13 u14 => cnd (a1 ≤ u14) (rt u13) (isK 16 u13 fun i17 => gR 16 i17 1 fun v19 => r15 (v19, u14 + (1 : Int32)))) (v12, (0 : Int32)))
theorem im_J20_node {g : GP} {l : Launch} (hl : l.stackTraces = false) (i0 : Nat) (a1 : Int32) : Im g l 0 yJ20_node cJ20_node 4 (some (.object "java/util/LinkedList$Node")) eR [.ref (idc 15 i0), .int a1] (f_J20_node i0 a1) := by
  refine tx_start hl 0 _ _ _ _ (by decide) (Nat.le_of_ble_eq_true rfl) fun Γ Z hΓ hZ => ?_
  subst hΓ
  unfold f_J20_node
  show TX g Γ _ Z _ 0 [(0, .ref (idc 15 i0)), (1, .int a1)] [] _
  refine x_iload_n 0 1 dJ20_node_0 rfl ?_
  refine x_aload_n 1 0 dJ20_node_1 rfl ?_
  refine x_getI 2 fa_J20_7_15 dJ20_node_2 fun v1 => ?_
  refine x_iconst 5 1 (1 : Int32) dJ20_node_5 rfl ?_
  refine x_ishr 6 dJ20_node_6 ?_
  refine x_icmp_ge 7 35 dJ20_node_7 rfl (fun c2 => ?_) (fun c2 => ?_)
  · refine x_aload_n 35 0 dJ20_node_35 rfl ?_
    refine x_getR 36 fa_J20_27_15 dJ20_node_36 fun v3 => ?_
    refine x_astore_n 39 [(2, .ref v3), (0, .ref (idc 15 i0)), (1, .int a1)] dJ20_node_39 (by decide) rfl ?_
    refine x_aload_n 40 1 dJ20_node_40 rfl ?_
    refine x_getI 41 fa_J20_7_15 dJ20_node_41 fun v4 => ?_
    refine x_iconst 44 1 (1 : Int32) dJ20_node_44 rfl ?_
    refine x_isub 45 dJ20_node_45 ?_
    refine x_istore_n 46 [(3, .int (v4 - (1 : Int32))), (2, .ref v3), (0, .ref (idc 15 i0)), (1, .int a1)] dJ20_node_46 (by decide) rfl ?_
    refine x_sub [3, 1, 0] [(1, .int a1), (2, .ref v3), (3, .int (v4 - (1 : Int32)))] rfl ?_
    refine x_lp (Lf := fun u => [(1, .int a1), (2, .ref u.1), (3, .int u.2)]) (sf := fun _ => []) (fun r7 hr7 u => ?_) (v3, v4 - (1 : Int32))
    obtain ⟨u5, u6⟩ := u
    show TX g Γ _ Z _ 47 [(1, .int a1), (2, .ref u5), (3, .int u6)] [] _
    refine x_un2 ?_
    refine x_iload_n 47 2 dJ20_node_47 rfl ?_
    refine x_iload_n 48 0 dJ20_node_48 rfl ?_
    refine x_icmp_le 49 63 dJ20_node_49 rfl (fun c8 => ?_) (fun c8 => ?_)
    · refine x_aload_n 63 1 dJ20_node_63 rfl ?_
      exact x_aret 64 hZ (Or.inl ⟨_, rfl⟩) dJ20_node_64
    · refine x_aload_n 52 1 dJ20_node_52 rfl ?_
      refine x_isK fun i9 h10 => ?_
      subst h10
      refine x_getR 53 fa_J20_30_16 dJ20_node_53 fun v11 => ?_
      refine x_astore_n 56 [(2, .ref v11), (1, .int a1), (3, .int u6)] dJ20_node_56 (by decide) rfl ?_
      refine x_iinc 57 2 [(3, .int (u6 + (-1 : Int32))), (2, .ref v11), (1, .int a1)] dJ20_node_57 rfl rfl (by decide) rfl ?_
      refine x_goto 60 47 dJ20_node_60 rfl ?_
      refine x_sub [2, 1, 0] _ rfl ?_
      exact hr7 (v11, u6 + (-1 : Int32))
  · refine x_aload_n 10 0 dJ20_node_10 rfl ?_
    refine x_getR 11 fa_J20_18_15 dJ20_node_11 fun v12 => ?_
    refine x_astore_n 14 [(2, .ref v12), (0, .ref (idc 15 i0)), (1, .int a1)] dJ20_node_14 (by decide) rfl ?_
    refine x_iconst 15 0 (0 : Int32) dJ20_node_15 rfl ?_
    refine x_istore_n 16 [(3, .int (0 : Int32)), (2, .ref v12), (0, .ref (idc 15 i0)), (1, .int a1)] dJ20_node_16 (by decide) rfl ?_
    refine x_sub [3, 1, 0] [(1, .int a1), (2, .ref v12), (3, .int (0 : Int32))] rfl ?_
    refine x_lp (Lf := fun u => [(1, .int a1), (2, .ref u.1), (3, .int u.2)]) (sf := fun _ => []) (fun r15 hr15 u => ?_) (v12, (0 : Int32))
    obtain ⟨u13, u14⟩ := u
    show TX g Γ _ Z _ 17 [(1, .int a1), (2, .ref u13), (3, .int u14)] [] _
    refine x_un2 ?_
    refine x_iload_n 17 2 dJ20_node_17 rfl ?_
    refine x_iload_n 18 0 dJ20_node_18 rfl ?_
    refine x_icmp_ge 19 33 dJ20_node_19 rfl (fun c16 => ?_) (fun c16 => ?_)
    · refine x_aload_n 33 1 dJ20_node_33 rfl ?_
      exact x_aret 34 hZ (Or.inl ⟨_, rfl⟩) dJ20_node_34
    · refine x_aload_n 22 1 dJ20_node_22 rfl ?_
      refine x_isK fun i17 h18 => ?_
      subst h18
      refine x_getR 23 fa_J20_36_16 dJ20_node_23 fun v19 => ?_
      refine x_astore_n 26 [(2, .ref v19), (1, .int a1), (3, .int u14)] dJ20_node_26 (by decide) rfl ?_
      refine x_iinc 27 2 [(3, .int (u14 + (1 : Int32))), (2, .ref v19), (1, .int a1)] dJ20_node_27 rfl rfl (by decide) rfl ?_
      refine x_goto 30 17 dJ20_node_30 rfl ?_
      refine x_sub [2, 1, 0] _ rfl ?_
      exact hr15 (v19, u14 + (1 : Int32))
def f_J29_init (i0 : Nat) (a1 : Nat) (a2 : Int32) : PT Unit := pR 19 i0 4 a1 <| gR 19 i0 4 fun v1 => isK 15 v1 fun i2 => gI 15 i2 0 fun v4 => pI 19 i0 3 v4 <| isK 15 a1 fun i5 => gI 15 i5 1 fun v7 => bnd (ρ := _) (α := Nat) (cnd (a2 = v7) (rt nul) (bn0 (f_J20_node i5 a2) fun v11 => rt v11)) (fun u8 => pR 19 i0 1 u8 <| pI 19 i0 2 a2 <| rt ())
theorem im_J29_init {g : GP} {l : Launch} (hl : l.stackTraces = false) (i0 : Nat) (a1 : Nat) (a2 : Int32) : Im g l 1 yJ29_init cJ29_init 3 none eV [.ref (idc 19 i0), .ref a1, .int a2] (f_J29_init i0 a1 a2) := by
  refine tx_start hl 1 _ _ _ _ (by decide) (Nat.le_of_ble_eq_true rfl) fun Γ Z hΓ hZ => ?_
  subst hΓ
  unfold f_J29_init
  show TX g Γ _ Z _ 0 [(0, .ref (idc 19 i0)), (1, .ref a1), (2, .int a2)] [] _
  refine x_aload_n 0 0 dJ29_init_0 rfl ?_
  refine x_aload_n 1 1 dJ29_init_1 rfl ?_
  refine x_putR 2 fa_J29_1_19 rfl (Or.inr ⟨rfl, rfl, rfl⟩) dJ29_init_2 ?_
  refine x_aload_n 5 0 dJ29_init_5 rfl ?_
  refine x_objI 6 (by decide) q1427 q128 q129 dJ29_init_6 (Nat.le_of_ble_eq_true rfl) (by decide) ?_
  refine x_aload_n 9 0 dJ29_init_9 rfl ?_
  refine x_aload_n 10 0 dJ29_init_10 rfl ?_
  refine x_getR 11 fa_J29_1_19 dJ29_init_11 fun v1 => ?_
  refine x_isK fun i2 h3 => ?_
  subst h3
  refine x_getI 14 fa_J29_13_15 dJ29_init_14 fun v4 => ?_
  refine x_putI 17 fa_J29_19_19 rfl (Or.inl rfl) dJ29_init_17 ?_
  refine x_aload_n 20 0 dJ29_init_20 rfl ?_
  refine x_iload_n 21 2 dJ29_init_21 rfl ?_
  refine x_aload_n 22 1 dJ29_init_22 rfl ?_
  refine x_isK fun i5 h6 => ?_
  subst h6
  refine x_getI 23 fa_J29_22_15 dJ29_init_23 fun v7 => ?_
  refine x_bndj 38 (fun u8 => [(0, .ref (idc 19 i0)), (2, .int a2)]) (fun u8 => [.ref u8, .ref (idc 19 i0)]) (fun u8 => ?_) (fun hj9 => ?_)
  · show TX g Γ _ Z _ 38 [(0, .ref (idc 19 i0)), (2, .int a2)] [.ref u8, .ref (idc 19 i0)] _
    refine x_putR 38 fa_J29_29_19 rfl (Or.inl rfl) dJ29_init_38 ?_
    refine x_aload_n 41 0 dJ29_init_41 rfl ?_
    refine x_iload_n 42 1 dJ29_init_42 rfl ?_
    refine x_putI 43 fa_J29_33_19 rfl (Or.inl rfl) dJ29_init_43 ?_
    exact x_vret 46 hZ rfl dJ29_init_46
  · refine x_icmp_ne 26 33 dJ29_init_26 rfl (fun c10 => ?_) (fun c10 => ?_)
    · refine x_null 29 dJ29_init_29 ?_
      refine x_goto 30 38 dJ29_init_30 rfl ?_
      refine x_sub [0, 2] _ rfl ?_
      exact hj9 nul
    · refine x_aload_n 33 1 dJ29_init_33 rfl ?_
      refine x_iload_n 34 2 dJ29_init_34 rfl ?_
      refine x_cV 35 0 [.int a2] [.ref (idc 19 i0)] ⟨by decide, rfl⟩ cv_J29_25 (im_J20_node hl i5 a2) (by decide) rfl (Nat.le_of_ble_eq_true rfl) dJ29_init_35 fun v11 => x_stR ?_
      refine x_sub [0, 2] _ rfl ?_
      exact hj9 v11
def f_J28_init (i0 : Nat) (a1 : Nat) : PT Unit := pR 18 i0 1 a1 <| nw 19 5 fun i1 => gR 18 i0 1 fun v2 => gR 18 i0 1 fun v3 => isK 15 v3 fun i4 => bn0 (f_J20_size i4) fun v6 => bn0 (f_J29_init i1 v2 v6) fun _ => pR 18 i0 0 (idc 19 i1) <| rt ()
theorem im_J28_init {g : GP} {l : Launch} (hl : l.stackTraces = false) (i0 : Nat) (a1 : Nat) : Im g l 2 yJ28_init cJ28_init 2 none eV [.ref (idc 18 i0), .ref a1] (f_J28_init i0 a1) := by
  refine tx_start hl 2 _ _ _ _ (by decide) (Nat.le_of_ble_eq_true rfl) fun Γ Z hΓ hZ => ?_
  subst hΓ
  unfold f_J28_init
  show TX g Γ _ Z _ 0 [(0, .ref (idc 18 i0)), (1, .ref a1)] [] _
  refine x_aload_n 0 0 dJ28_init_0 rfl ?_
  refine x_aload_n 1 1 dJ28_init_1 rfl ?_
  refine x_putR 2 fa_J28_1_18 rfl (Or.inr ⟨rfl, rfl, rfl⟩) dJ28_init_2 ?_
  refine x_aload_n 5 0 dJ28_init_5 rfl ?_
  refine x_objI 6 (by decide) q1420 q128 q129 dJ28_init_6 (Nat.le_of_ble_eq_true rfl) (by decide) ?_
  refine x_aload_n 9 0 dJ28_init_9 rfl ?_
  refine x_new 10 na_J28_13 dJ28_init_10 fun i1 => ?_
  refine x_dup 13 dJ28_init_13 rfl ?_
  refine x_aload_n 14 0 dJ28_init_14 rfl ?_
  refine x_getR 15 fa_J28_1_18 dJ28_init_15 fun v2 => ?_
  refine x_aload_n 18 0 dJ28_init_18 rfl ?_
  refine x_getR 19 fa_J28_1_18 dJ28_init_19 fun v3 => ?_
  refine x_isK fun i4 h5 => ?_
  subst h5
  refine x_cV 22 0 [] [.ref v2, .ref (idc 19 i1), .ref (idc 19 i1), .ref (idc 18 i0)] ⟨by decide, rfl⟩ cv_J28_15 (im_J20_size hl i4) (by decide) rfl (Nat.le_of_ble_eq_true rfl) dJ28_init_22 fun v6 => x_stI ?_
  refine x_cI 25 1 [.ref v2, .int v6] [.ref (idc 19 i1), .ref (idc 18 i0)] (by decide) cn_J28_21 (im_J29_init hl i1 v2 v6) (by decide) rfl (Nat.le_of_ble_eq_true rfl) dJ28_init_25 fun v7 => x_stV ?_
  refine x_putR 28 fa_J28_24_18 rfl (Or.inr ⟨rfl, rfl, rfl⟩) dJ28_init_28 ?_
  exact x_vret 31 hZ rfl dJ28_init_31
def f_J20_descendingIterator (i0 : Nat) : PT Nat := nw 18 2 fun i1 => bn0 (f_J28_init i1 (idc 15 i0)) fun _ => rt (idc 18 i1)
theorem im_J20_descendingIterator {g : GP} {l : Launch} (hl : l.stackTraces = false) (i0 : Nat) : Im g l 3 yJ20_descendingIterator cJ20_descendingIterator 1 (some (.object "java/util/Iterator")) eR [.ref (idc 15 i0)] (f_J20_descendingIterator i0) := by
  refine tx_start hl 3 _ _ _ _ (by decide) (Nat.le_of_ble_eq_true rfl) fun Γ Z hΓ hZ => ?_
  subst hΓ
  unfold f_J20_descendingIterator
  show TX g Γ _ Z _ 0 [(0, .ref (idc 15 i0))] [] _
  refine x_new 0 na_J20_155 dJ20_descendingIterator_0 fun i1 => ?_
  refine x_dup 3 dJ20_descendingIterator_3 rfl ?_
  refine x_aload_n 4 0 dJ20_descendingIterator_4 rfl ?_
  refine x_cIn 5 2 [.ref (idc 15 i0)] [.ref (idc 18 i1)] (by decide) cn_J20_157 (im_J28_init hl i1 (idc 15 i0)) (by decide) rfl (Nat.le_of_ble_eq_true rfl) dJ20_descendingIterator_5 fun v2 => x_stV ?_
  exact x_aret 8 hZ (Or.inl ⟨_, rfl⟩) dJ20_descendingIterator_8
def f_J29_hasPrevious (i0 : Nat) : PT Int32 := gI 19 i0 2 fun v1 => cnd (v1 ≤ 0) (asr ((0 : Int32) = 0 ∨ (0 : Int32) = 1) (rt (0 : Int32))) (asr ((1 : Int32) = 0 ∨ (1 : Int32) = 1) (rt (1 : Int32)))
theorem im_J29_hasPrevious {g : GP} {l : Launch} (hl : l.stackTraces = false) (i0 : Nat) : Im g l 0 yJ29_hasPrevious cJ29_hasPrevious 1 (some .boolean) eI [.ref (idc 19 i0)] (f_J29_hasPrevious i0) := by
  refine tx_start hl 0 _ _ _ _ (by decide) (Nat.le_of_ble_eq_true rfl) fun Γ Z hΓ hZ => ?_
  subst hΓ
  unfold f_J29_hasPrevious
  show TX g Γ _ Z _ 0 [(0, .ref (idc 19 i0))] [] _
  refine x_aload_n 0 0 dJ29_hasPrevious_0 rfl ?_
  refine x_getI 1 fa_J29_33_19 dJ29_hasPrevious_1 fun v1 => ?_
  refine x_if_le 4 11 dJ29_hasPrevious_4 rfl (fun c2 => ?_) (fun c2 => ?_)
  · refine x_iconst 11 0 (0 : Int32) dJ29_hasPrevious_11 rfl ?_
    exact x_zret 12 hZ rfl dJ29_hasPrevious_12
  · refine x_iconst 7 1 (1 : Int32) dJ29_hasPrevious_7 rfl ?_
    refine x_goto 8 12 dJ29_hasPrevious_8 rfl ?_
    exact x_zret 12 hZ rfl dJ29_hasPrevious_12
def f_J28_hasNext (i0 : Nat) : PT Int32 := gR 18 i0 0 fun v1 => isK 19 v1 fun i2 => bn0 (f_J29_hasPrevious i2) fun v4 => asr (v4 = 0 ∨ v4 = 1) (rt v4)
theorem im_J28_hasNext {g : GP} {l : Launch} (hl : l.stackTraces = false) (i0 : Nat) : Im g l 1 yJ28_hasNext cJ28_hasNext 1 (some .boolean) eI [.ref (idc 18 i0)] (f_J28_hasNext i0) := by
  refine tx_start hl 1 _ _ _ _ (by decide) (Nat.le_of_ble_eq_true rfl) fun Γ Z hΓ hZ => ?_
  subst hΓ
  unfold f_J28_hasNext
  show TX g Γ _ Z _ 0 [(0, .ref (idc 18 i0))] [] _
  refine x_aload_n 0 0 dJ28_hasNext_0 rfl ?_
  refine x_getR 1 fa_J28_24_18 dJ28_hasNext_1 fun v1 => ?_
  refine x_isK fun i2 h3 => ?_
  subst h3
  refine x_cV 4 0 [] [] ⟨by decide, rfl⟩ cv_J28_28 (im_J29_hasPrevious hl i2) (by decide) rfl (Nat.le_of_ble_eq_true rfl) dJ28_hasNext_4 fun v4 => x_stI ?_
  exact x_zret 7 hZ rfl dJ28_hasNext_7
def f_J29_checkForComodification (i0 : Nat) : PT Unit := gR 19 i0 4 fun v1 => isK 15 v1 fun i2 => gI 15 i2 0 fun v4 => gI 19 i0 3 fun v5 => cnd (v4 = v5) (rt ()) (stk)
theorem im_J29_checkForComodification {g : GP} {l : Launch} (hl : l.stackTraces = false) (i0 : Nat) : Im g l 0 yJ29_checkForComodification cJ29_checkForComodification 1 none eV [.ref (idc 19 i0)] (f_J29_checkForComodification i0) := by
  refine tx_start hl 0 _ _ _ _ (by decide) (Nat.le_of_ble_eq_true rfl) fun Γ Z hΓ hZ => ?_
  subst hΓ
  unfold f_J29_checkForComodification
  show TX g Γ _ Z _ 0 [(0, .ref (idc 19 i0))] [] _
  refine x_aload_n 0 0 dJ29_checkForComodification_0 rfl ?_
  refine x_getR 1 fa_J29_1_19 dJ29_checkForComodification_1 fun v1 => ?_
  refine x_isK fun i2 h3 => ?_
  subst h3
  refine x_getI 4 fa_J29_13_15 dJ29_checkForComodification_4 fun v4 => ?_
  refine x_aload_n 7 0 dJ29_checkForComodification_7 rfl ?_
  refine x_getI 8 fa_J29_19_19 dJ29_checkForComodification_8 fun v5 => ?_
  refine x_icmp_eq 11 22 dJ29_checkForComodification_11 rfl (fun c6 => ?_) (fun c6 => ?_)
  · exact x_vret 22 hZ rfl dJ29_checkForComodification_22
  · exact x_stk
def f_J29_previous (i0 : Nat) : PT Nat := bn0 (f_J29_checkForComodification i0) fun _ => bn0 (f_J29_hasPrevious i0) fun v2 => cnd (v2 = 0) (stk) (gR 19 i0 1 fun v4 => bnd (ρ := _) (α := Nat) (cnd (v4 = nul) (gR 19 i0 4 fun v13 => isK 15 v13 fun i14 => gR 15 i14 3 fun v16 => rt v16) (gR 19 i0 1 fun v17 => isK 16 v17 fun i18 => gR 16 i18 2 fun v20 => rt v20)) (fun u5 => pR 19 i0 1 u5 <| pR 19 i0 0 u5 <| gI 19 i0 2 fun v6 => pI 19 i0 2 (v6 - (1 : Int32)) <| gR 19 i0 0 fun v7 => isK 16 v7 fun i8 => gR 16 i8 0 fun v10 => rt v10))
theorem im_J29_previous {g : GP} {l : Launch} (hl : l.stackTraces = false) (i0 : Nat) : Im g l 1 yJ29_previous cJ29_previous 1 (some (.object "java/lang/Object")) eR [.ref (idc 19 i0)] (f_J29_previous i0) := by
  refine tx_start hl 1 _ _ _ _ (by decide) (Nat.le_of_ble_eq_true rfl) fun Γ Z hΓ hZ => ?_
  subst hΓ
  unfold f_J29_previous
  show TX g Γ _ Z _ 0 [(0, .ref (idc 19 i0))] [] _
  refine x_aload_n 0 0 dJ29_previous_0 rfl ?_
  refine x_cV 1 0 [] [] ⟨by decide, rfl⟩ cv_J29_36 (im_J29_checkForComodification hl i0) (by decide) rfl (Nat.le_of_ble_eq_true rfl) dJ29_previous_1 fun v1 => x_stV ?_
  refine x_aload_n 4 0 dJ29_previous_4 rfl ?_
  refine x_cV 5 0 [] [] ⟨by decide, rfl⟩ cv_J29_56 (im_J29_hasPrevious hl i0) (by decide) rfl (Nat.le_of_ble_eq_true rfl) dJ29_previous_5 fun v2 => x_stI ?_
  refine x_if_ne 8 19 dJ29_previous_8 rfl (fun c3 => ?_) (fun c3 => ?_)
  · exact x_stk
  · refine x_aload_n 19 0 dJ29_previous_19 rfl ?_
    refine x_aload_n 20 0 dJ29_previous_20 rfl ?_
    refine x_aload_n 21 0 dJ29_previous_21 rfl ?_
    refine x_getR 22 fa_J29_29_19 dJ29_previous_22 fun v4 => ?_
    refine x_bndj 45 (fun u5 => [(0, .ref (idc 19 i0))]) (fun u5 => [.ref u5, .ref (idc 19 i0), .ref (idc 19 i0)]) (fun u5 => ?_) (fun hj11 => ?_)
    · show TX g Γ _ Z _ 45 [(0, .ref (idc 19 i0))] [.ref u5, .ref (idc 19 i0), .ref (idc 19 i0)] _
      refine x_dup_x1 45 dJ29_previous_45 rfl rfl ?_
      refine x_putR 46 fa_J29_29_19 rfl (Or.inl rfl) dJ29_previous_46 ?_
      refine x_putR 49 fa_J29_46_19 rfl (Or.inl rfl) dJ29_previous_49 ?_
      refine x_aload_n 52 0 dJ29_previous_52 rfl ?_
      refine x_dup 53 dJ29_previous_53 rfl ?_
      refine x_getI 54 fa_J29_33_19 dJ29_previous_54 fun v6 => ?_
      refine x_iconst 57 1 (1 : Int32) dJ29_previous_57 rfl ?_
      refine x_isub 58 dJ29_previous_58 ?_
      refine x_putI 59 fa_J29_33_19 rfl (Or.inl rfl) dJ29_previous_59 ?_
      refine x_aload_n 62 0 dJ29_previous_62 rfl ?_
      refine x_getR 63 fa_J29_46_19 dJ29_previous_63 fun v7 => ?_
      refine x_isK fun i8 h9 => ?_
      subst h9
      refine x_getR 66 fa_J29_52_16 dJ29_previous_66 fun v10 => ?_
      exact x_aret 69 hZ (Or.inl ⟨_, rfl⟩) dJ29_previous_69
    · refine x_ifnonnull 25 38 dJ29_previous_25 rfl (fun c12 => ?_) (fun c12 => ?_)
      · refine x_aload_n 28 0 dJ29_previous_28 rfl ?_
        refine x_getR 29 fa_J29_1_19 dJ29_previous_29 fun v13 => ?_
        refine x_isK fun i14 h15 => ?_
        subst h15
        refine x_getR 32 fa_J29_59_15 dJ29_previous_32 fun v16 => ?_
        refine x_goto 35 45 dJ29_previous_35 rfl ?_
        exact hj11 v16
      · refine x_aload_n 38 0 dJ29_previous_38 rfl ?_
        refine x_getR 39 fa_J29_29_19 dJ29_previous_39 fun v17 => ?_
        refine x_isK fun i18 h19 => ?_
        subst h19
        refine x_getR 42 fa_J29_62_16 dJ29_previous_42 fun v20 => ?_
        exact hj11 v20
def f_J28_next (i0 : Nat) : PT Nat := gR 18 i0 0 fun v1 => isK 19 v1 fun i2 => bn0 (f_J29_previous i2) fun v4 => rt v4
theorem im_J28_next {g : GP} {l : Launch} (hl : l.stackTraces = false) (i0 : Nat) : Im g l 2 yJ28_next cJ28_next 1 (some (.object "java/lang/Object")) eR [.ref (idc 18 i0)] (f_J28_next i0) := by
  refine tx_start hl 2 _ _ _ _ (by decide) (Nat.le_of_ble_eq_true rfl) fun Γ Z hΓ hZ => ?_
  subst hΓ
  unfold f_J28_next
  show TX g Γ _ Z _ 0 [(0, .ref (idc 18 i0))] [] _
  refine x_aload_n 0 0 dJ28_next_0 rfl ?_
  refine x_getR 1 fa_J28_24_18 dJ28_next_1 fun v1 => ?_
  refine x_isK fun i2 h3 => ?_
  subst h3
  refine x_cV 4 1 [] [] ⟨by decide, rfl⟩ cv_J28_32 (im_J29_previous hl i2) (by decide) rfl (Nat.le_of_ble_eq_true rfl) dJ28_next_4 fun v4 => x_stR ?_
  exact x_aret 7 hZ (Or.inl ⟨_, rfl⟩) dJ28_next_7
def f_J20_isPositionIndex (i0 : Nat) (a1 : Int32) : PT Int32 := cnd (a1 < 0) (asr ((0 : Int32) = 0 ∨ (0 : Int32) = 1) (rt (0 : Int32))) (gI 15 i0 1 fun v2 => cnd (v2 < a1) (asr ((0 : Int32) = 0 ∨ (0 : Int32) = 1) (rt (0 : Int32))) (asr ((1 : Int32) = 0 ∨ (1 : Int32) = 1) (rt (1 : Int32))))
theorem im_J20_isPositionIndex {g : GP} {l : Launch} (hl : l.stackTraces = false) (i0 : Nat) (a1 : Int32) : Im g l 0 yJ20_isPositionIndex cJ20_isPositionIndex 2 (some .boolean) eI [.ref (idc 15 i0), .int a1] (f_J20_isPositionIndex i0 a1) := by
  refine tx_start hl 0 _ _ _ _ (by decide) (Nat.le_of_ble_eq_true rfl) fun Γ Z hΓ hZ => ?_
  subst hΓ
  unfold f_J20_isPositionIndex
  show TX g Γ _ Z _ 0 [(0, .ref (idc 15 i0)), (1, .int a1)] [] _
  refine x_iload_n 0 1 dJ20_isPositionIndex_0 rfl ?_
  refine x_if_lt 1 16 dJ20_isPositionIndex_1 rfl (fun c1 => ?_) (fun c1 => ?_)
  · refine x_iconst 16 0 (0 : Int32) dJ20_isPositionIndex_16 rfl ?_
    exact x_zret 17 hZ rfl dJ20_isPositionIndex_17
  · refine x_iload_n 4 1 dJ20_isPositionIndex_4 rfl ?_
    refine x_aload_n 5 0 dJ20_isPositionIndex_5 rfl ?_
    refine x_getI 6 fa_J20_7_15 dJ20_isPositionIndex_6 fun v2 => ?_
    refine x_icmp_gt 9 16 dJ20_isPositionIndex_9 rfl (fun c3 => ?_) (fun c3 => ?_)
    · refine x_iconst 16 0 (0 : Int32) dJ20_isPositionIndex_16 rfl ?_
      exact x_zret 17 hZ rfl dJ20_isPositionIndex_17
    · refine x_iconst 12 1 (1 : Int32) dJ20_isPositionIndex_12 rfl ?_
      refine x_goto 13 17 dJ20_isPositionIndex_13 rfl ?_
      exact x_zret 17 hZ rfl dJ20_isPositionIndex_17
def f_J20_checkPositionIndex (i0 : Nat) (a1 : Int32) : PT Unit := bn0 (f_J20_isPositionIndex i0 a1) fun v1 => cnd (v1 = 0) (stk) (rt ())
theorem im_J20_checkPositionIndex {g : GP} {l : Launch} (hl : l.stackTraces = false) (i0 : Nat) (a1 : Int32) : Im g l 1 yJ20_checkPositionIndex cJ20_checkPositionIndex 2 none eV [.ref (idc 15 i0), .int a1] (f_J20_checkPositionIndex i0 a1) := by
  refine tx_start hl 1 _ _ _ _ (by decide) (Nat.le_of_ble_eq_true rfl) fun Γ Z hΓ hZ => ?_
  subst hΓ
  unfold f_J20_checkPositionIndex
  show TX g Γ _ Z _ 0 [(0, .ref (idc 15 i0)), (1, .int a1)] [] _
  refine x_aload_n 0 0 dJ20_checkPositionIndex_0 rfl ?_
  refine x_iload_n 1 1 dJ20_checkPositionIndex_1 rfl ?_
  refine x_cV 2 0 [.int a1] [] ⟨by decide, rfl⟩ cv_J20_128 (im_J20_isPositionIndex hl i0 a1) (by decide) rfl (Nat.le_of_ble_eq_true rfl) dJ20_checkPositionIndex_2 fun v1 => x_stI ?_
  refine x_if_ne 5 21 dJ20_checkPositionIndex_5 rfl (fun c2 => ?_) (fun c2 => ?_)
  · exact x_stk
  · exact x_vret 21 hZ rfl dJ20_checkPositionIndex_21
def f_J20_listIterator (i0 : Nat) (a1 : Int32) : PT Nat := bn0 (f_J20_checkPositionIndex i0 a1) fun _ => nw 19 5 fun i2 => bn0 (f_J29_init i2 (idc 15 i0) a1) fun _ => rt (idc 19 i2)
theorem im_J20_listIterator {g : GP} {l : Launch} (hl : l.stackTraces = false) (i0 : Nat) (a1 : Int32) : Im g l 2 yJ20_listIterator cJ20_listIterator 2 (some (.object "java/util/ListIterator")) eR [.ref (idc 15 i0), .int a1] (f_J20_listIterator i0 a1) := by
  refine tx_start hl 2 _ _ _ _ (by decide) (Nat.le_of_ble_eq_true rfl) fun Γ Z hΓ hZ => ?_
  subst hΓ
  unfold f_J20_listIterator
  show TX g Γ _ Z _ 0 [(0, .ref (idc 15 i0)), (1, .int a1)] [] _
  refine x_aload_n 0 0 dJ20_listIterator_0 rfl ?_
  refine x_iload_n 1 1 dJ20_listIterator_1 rfl ?_
  refine x_cV 2 1 [.int a1] [] ⟨by decide, rfl⟩ cv_J20_76 (im_J20_checkPositionIndex hl i0 a1) (by decide) rfl (Nat.le_of_ble_eq_true rfl) dJ20_listIterator_2 fun v1 => x_stV ?_
  refine x_new 5 na_J20_150 dJ20_listIterator_5 fun i2 => ?_
  refine x_dup 8 dJ20_listIterator_8 rfl ?_
  refine x_aload_n 9 0 dJ20_listIterator_9 rfl ?_
  refine x_iload_n 10 1 dJ20_listIterator_10 rfl ?_
  refine x_cI 11 1 [.ref (idc 15 i0), .int a1] [.ref (idc 19 i2)] (by decide) cn_J20_152 (im_J29_init hl i2 (idc 15 i0) a1) (by decide) rfl (Nat.le_of_ble_eq_true rfl) dJ20_listIterator_11 fun v3 => x_stV ?_
  exact x_aret 14 hZ (Or.inl ⟨_, rfl⟩) dJ20_listIterator_14
def f_J1_listIterator_15 (i0 : Nat) : PT Nat := bn0 (f_J20_listIterator i0 (0 : Int32)) fun v1 => rt v1
theorem im_J1_listIterator_15 {g : GP} {l : Launch} (hl : l.stackTraces = false) (i0 : Nat) : Im g l 3 yJ1_listIterator cJ1_listIterator 1 (some (.object "java/util/ListIterator")) eR [.ref (idc 15 i0)] (f_J1_listIterator_15 i0) := by
  refine tx_start hl 3 _ _ _ _ (by decide) (Nat.le_of_ble_eq_true rfl) fun Γ Z hΓ hZ => ?_
  subst hΓ
  unfold f_J1_listIterator_15
  show TX g Γ _ Z _ 0 [(0, .ref (idc 15 i0))] [] _
  refine x_aload_n 0 0 dJ1_listIterator_0 rfl ?_
  refine x_iconst 1 0 (0 : Int32) dJ1_listIterator_1 rfl ?_
  refine x_cA 2 2 [.int (0 : Int32)] [] (by decide) cu_J1_47_15 (im_J20_listIterator hl i0 (0 : Int32)) (by decide) rfl (Nat.le_of_ble_eq_true rfl) dJ1_listIterator_2 fun v1 => x_stR ?_
  exact x_aret 5 hZ (Or.inl ⟨_, rfl⟩) dJ1_listIterator_5
def f_J19_iterator_15 (i0 : Nat) : PT Nat := bn0 (f_J1_listIterator_15 i0) fun v1 => rt v1
theorem im_J19_iterator_15 {g : GP} {l : Launch} (hl : l.stackTraces = false) (i0 : Nat) : Im g l 4 yJ19_iterator cJ19_iterator 1 (some (.object "java/util/Iterator")) eR [.ref (idc 15 i0)] (f_J19_iterator_15 i0) := by
  refine tx_start hl 4 _ _ _ _ (by decide) (Nat.le_of_ble_eq_true rfl) fun Γ Z hΓ hZ => ?_
  subst hΓ
  unfold f_J19_iterator_15
  show TX g Γ _ Z _ 0 [(0, .ref (idc 15 i0))] [] _
  refine x_aload_n 0 0 dJ19_iterator_0 rfl ?_
  refine x_cU 1 3 [] [] (by decide) cu_J19_65_15 (im_J1_listIterator_15 hl i0) (by decide) rfl (Nat.le_of_ble_eq_true rfl) dJ19_iterator_1 fun v1 => x_stR ?_
  exact x_aret 4 hZ (Or.inl ⟨_, rfl⟩) dJ19_iterator_4
def f_J29_hasNext (i0 : Nat) : PT Int32 := gI 19 i0 2 fun v1 => gR 19 i0 4 fun v2 => isK 15 v2 fun i3 => gI 15 i3 1 fun v5 => cnd (v5 ≤ v1) (asr ((0 : Int32) = 0 ∨ (0 : Int32) = 1) (rt (0 : Int32))) (asr ((1 : Int32) = 0 ∨ (1 : Int32) = 1) (rt (1 : Int32)))
theorem im_J29_hasNext {g : GP} {l : Launch} (hl : l.stackTraces = false) (i0 : Nat) : Im g l 0 yJ29_hasNext cJ29_hasNext 1 (some .boolean) eI [.ref (idc 19 i0)] (f_J29_hasNext i0) := by
  refine tx_start hl 0 _ _ _ _ (by decide) (Nat.le_of_ble_eq_true rfl) fun Γ Z hΓ hZ => ?_
  subst hΓ
  unfold f_J29_hasNext
  show TX g Γ _ Z _ 0 [(0, .ref (idc 19 i0))] [] _
  refine x_aload_n 0 0 dJ29_hasNext_0 rfl ?_
  refine x_getI 1 fa_J29_33_19 dJ29_hasNext_1 fun v1 => ?_
  refine x_aload_n 4 0 dJ29_hasNext_4 rfl ?_
  refine x_getR 5 fa_J29_1_19 dJ29_hasNext_5 fun v2 => ?_
  refine x_isK fun i3 h4 => ?_
  subst h4
  refine x_getI 8 fa_J29_22_15 dJ29_hasNext_8 fun v5 => ?_
  refine x_icmp_ge 11 18 dJ29_hasNext_11 rfl (fun c6 => ?_) (fun c6 => ?_)
  · refine x_iconst 18 0 (0 : Int32) dJ29_hasNext_18 rfl ?_
    exact x_zret 19 hZ rfl dJ29_hasNext_19
  · refine x_iconst 14 1 (1 : Int32) dJ29_hasNext_14 rfl ?_
    refine x_goto 15 19 dJ29_hasNext_15 rfl ?_
    exact x_zret 19 hZ rfl dJ29_hasNext_19
def f_J29_next (i0 : Nat) : PT Nat := bn0 (f_J29_checkForComodification i0) fun _ => bn0 (f_J29_hasNext i0) fun v2 => cnd (v2 = 0) (stk) (gR 19 i0 1 fun v4 => pR 19 i0 0 v4 <| gR 19 i0 1 fun v5 => isK 16 v5 fun i6 => gR 16 i6 1 fun v8 => pR 19 i0 1 v8 <| gI 19 i0 2 fun v9 => pI 19 i0 2 (v9 + (1 : Int32)) <| gR 19 i0 0 fun v10 => isK 16 v10 fun i11 => gR 16 i11 0 fun v13 => rt v13)
theorem im_J29_next {g : GP} {l : Launch} (hl : l.stackTraces = false) (i0 : Nat) : Im g l 1 yJ29_next cJ29_next 1 (some (.object "java/lang/Object")) eR [.ref (idc 19 i0)] (f_J29_next i0) := by
  refine tx_start hl 1 _ _ _ _ (by decide) (Nat.le_of_ble_eq_true rfl) fun Γ Z hΓ hZ => ?_
  subst hΓ
  unfold f_J29_next
  show TX g Γ _ Z _ 0 [(0, .ref (idc 19 i0))] [] _
  refine x_aload_n 0 0 dJ29_next_0 rfl ?_
  refine x_cV 1 0 [] [] ⟨by decide, rfl⟩ cv_J29_36 (im_J29_checkForComodification hl i0) (by decide) rfl (Nat.le_of_ble_eq_true rfl) dJ29_next_1 fun v1 => x_stV ?_
  refine x_aload_n 4 0 dJ29_next_4 rfl ?_
  refine x_cV 5 0 [] [] ⟨by decide, rfl⟩ cv_J29_39 (im_J29_hasNext hl i0) (by decide) rfl (Nat.le_of_ble_eq_true rfl) dJ29_next_5 fun v2 => x_stI ?_
  refine x_if_ne 8 19 dJ29_next_8 rfl (fun c3 => ?_) (fun c3 => ?_)
  · exact x_stk
  · refine x_aload_n 19 0 dJ29_next_19 rfl ?_
    refine x_aload_n 20 0 dJ29_next_20 rfl ?_
    refine x_getR 21 fa_J29_29_19 dJ29_next_21 fun v4 => ?_
    refine x_putR 24 fa_J29_46_19 rfl (Or.inl rfl) dJ29_next_24 ?_
    refine x_aload_n 27 0 dJ29_next_27 rfl ?_
    refine x_aload_n 28 0 dJ29_next_28 rfl ?_
    refine x_getR 29 fa_J29_29_19 dJ29_next_29 fun v5 => ?_
    refine x_isK fun i6 h7 => ?_
    subst h7
    refine x_getR 32 fa_J29_49_16 dJ29_next_32 fun v8 => ?_
    refine x_putR 35 fa_J29_29_19 rfl (Or.inl rfl) dJ29_next_35 ?_
    refine x_aload_n 38 0 dJ29_next_38 rfl ?_
    refine x_dup 39 dJ29_next_39 rfl ?_
    refine x_getI 40 fa_J29_33_19 dJ29_next_40 fun v9 => ?_
    refine x_iconst 43 1 (1 : Int32) dJ29_next_43 rfl ?_
    refine x_iadd 44 dJ29_next_44 ?_
    refine x_putI 45 fa_J29_33_19 rfl (Or.inl rfl) dJ29_next_45 ?_
    refine x_aload_n 48 0 dJ29_next_48 rfl ?_
    refine x_getR 49 fa_J29_46_19 dJ29_next_49 fun v10 => ?_
    refine x_isK fun i11 h12 => ?_
    subst h12
    refine x_getR 52 fa_J29_52_16 dJ29_next_52 fun v13 => ?_
    exact x_aret 55 hZ (Or.inl ⟨_, rfl⟩) dJ29_next_55
def f_J20_unlink (i0 : Nat) (a1 : Nat) : PT Nat := isK 16 a1 fun i1 => gR 16 i1 0 fun v3 => gR 16 i1 1 fun v4 => gR 16 i1 2 fun v5 => bnd (ρ := _) (α := Unit) (cnd (v5 = nul) (pR 15 i0 2 v4 <| rt ()) (isK 16 v5 fun i14 => pR 16 i14 1 v4 <| pR 16 i1 2 nul <| rt ())) (fun _ => bnd (ρ := _) (α := Unit) (cnd (v4 = nul) (pR 15 i0 3 v5 <| rt ()) (isK 16 v4 fun i10 => pR 16 i10 2 v5 <| pR 16 i1 1 nul <| rt ())) (fun _ => pR 16 i1 0 nul <| gI 15 i0 1 fun v6 => pI 15 i0 1 (v6 - (1 : Int32)) <| gI 15 i0 0 fun v7 => pI 15 i0 0 (v7 + (1 : Int32)) <| rt v3))
theorem im_J20_unlink {g : GP} {l : Launch} (hl : l.stackTraces = false) (i0 : Nat) (a1 : Nat) : Im g l 0 yJ20_unlink cJ20_unlink 5 (some (.object "java/lang/Object")) eR [.ref (idc 15 i0), .ref a1] (f_J20_unlink i0 a1) := by
  refine tx_start hl 0 _ _ _ _ (by decide) (Nat.le_of_ble_eq_true rfl) fun Γ Z hΓ hZ => ?_
  subst hΓ
  unfold f_J20_unlink
  show TX g Γ _ Z _ 0 [(0, .ref (idc 15 i0)), (1, .ref a1)] [] _
  refine x_aload_n 0 1 dJ20_unlink_0 rfl ?_
  refine x_isK fun i1 h2 => ?_
  subst h2
  refine x_getR 1 fa_J20_39_16 dJ20_unlink_1 fun v3 => ?_
  refine x_astore_n 4 [(2, .ref v3), (0, .ref (idc 15 i0)), (1, .ref (idc 16 i1))] dJ20_unlink_4 (by decide) rfl ?_
  refine x_aload_n 5 2 dJ20_unlink_5 rfl ?_
  refine x_getR 6 fa_J20_36_16 dJ20_unlink_6 fun v4 => ?_
  refine x_astore_n 9 [(3, .ref v4), (2, .ref v3), (0, .ref (idc 15 i0)), (1, .ref (idc 16 i1))] dJ20_unlink_9 (by decide) rfl ?_
  refine x_aload_n 10 3 dJ20_unlink_10 rfl ?_
  refine x_getR 11 fa_J20_30_16 dJ20_unlink_11 fun v5 => ?_
  refine x_astore 14 [(4, .ref v5), (3, .ref v4), (2, .ref v3), (0, .ref (idc 15 i0)), (1, .ref (idc 16 i1))] dJ20_unlink_14 (by decide) rfl ?_
  refine x_aload 16 0 dJ20_unlink_16 rfl ?_
  refine x_bndj 40 (fun _ => [(0, .ref (idc 15 i0)), (1, .ref (idc 16 i1)), (2, .ref v3), (3, .ref v4), (4, .ref v5)]) (fun _ => []) (fun _ => ?_) (fun hj12 => ?_)
  · show TX g Γ _ Z _ 40 [(0, .ref (idc 15 i0)), (1, .ref (idc 16 i1)), (2, .ref v3), (3, .ref v4), (4, .ref v5)] [] _
    refine x_aload_n 40 3 dJ20_unlink_40 rfl ?_
    refine x_bndj 64 (fun _ => [(0, .ref (idc 15 i0)), (1, .ref (idc 16 i1)), (2, .ref v3)]) (fun _ => []) (fun _ => ?_) (fun hj8 => ?_)
    · show TX g Γ _ Z _ 64 [(0, .ref (idc 15 i0)), (1, .ref (idc 16 i1)), (2, .ref v3)] [] _
      refine x_aload_n 64 1 dJ20_unlink_64 rfl ?_
      refine x_null 65 dJ20_unlink_65 ?_
      refine x_putR 66 fa_J20_39_16 rfl (Or.inl rfl) dJ20_unlink_66 ?_
      refine x_aload_n 69 0 dJ20_unlink_69 rfl ?_
      refine x_dup 70 dJ20_unlink_70 rfl ?_
      refine x_getI 71 fa_J20_7_15 dJ20_unlink_71 fun v6 => ?_
      refine x_iconst 74 1 (1 : Int32) dJ20_unlink_74 rfl ?_
      refine x_isub 75 dJ20_unlink_75 ?_
      refine x_putI 76 fa_J20_7_15 rfl (Or.inl rfl) dJ20_unlink_76 ?_
      refine x_aload_n 79 0 dJ20_unlink_79 rfl ?_
      refine x_dup 80 dJ20_unlink_80 rfl ?_
      refine x_getI 81 fa_J20_33_15 dJ20_unlink_81 fun v7 => ?_
      refine x_iconst 84 1 (1 : Int32) dJ20_unlink_84 rfl ?_
      refine x_iadd 85 dJ20_unlink_85 ?_
      refine x_putI 86 fa_J20_33_15 rfl (Or.inl rfl) dJ20_unlink_86 ?_
      refine x_aload_n 89 2 dJ20_unlink_89 rfl ?_
      exact x_aret 90 hZ (Or.inl ⟨_, rfl⟩) dJ20_unlink_90
    · refine x_ifnonnull 41 53 dJ20_unlink_41 rfl (fun c9 => ?_) (fun c9 => ?_)
      · refine x_aload_n 44 0 dJ20_unlink_44 rfl ?_
        refine x_aload 45 4 dJ20_unlink_45 rfl ?_
        refine x_putR 47 fa_J20_27_15 rfl (Or.inl rfl) dJ20_unlink_47 ?_
        refine x_goto 50 64 dJ20_unlink_50 rfl ?_
        refine x_sub [0, 1, 2] _ rfl ?_
        exact hj8 ()
      · refine x_aload_n 53 3 dJ20_unlink_53 rfl ?_
        refine x_aload 54 4 dJ20_unlink_54 rfl ?_
        refine x_isK fun i10 h11 => ?_
        subst h11
        refine x_putR 56 fa_J20_30_16 rfl (Or.inl rfl) dJ20_unlink_56 ?_
        refine x_aload_n 59 1 dJ20_unlink_59 rfl ?_
        refine x_null 60 dJ20_unlink_60 ?_
        refine x_putR 61 fa_J20_36_16 rfl (Or.inl rfl) dJ20_unlink_61 ?_
        refine x_sub [0, 1, 2] _ rfl ?_
        exact hj8 ()
  · refine x_ifnonnull 18 29 dJ20_unlink_18 rfl (fun c13 => ?_) (fun c13 => ?_)
    · refine x_aload_n 21 3 dJ20_unlink_21 rfl ?_
      refine x_aload_n 22 1 dJ20_unlink_22 rfl ?_
      refine x_putR 23 fa_J20_18_15 rfl (Or.inl rfl) dJ20_unlink_23 ?_
      refine x_goto 26 40 dJ20_unlink_26 rfl ?_
      refine x_sub [3, 4, 2, 1, 0] _ rfl ?_
      exact hj12 ()
    · refine x_aload 29 0 dJ20_unlink_29 rfl ?_
      refine x_aload_n 31 1 dJ20_unlink_31 rfl ?_
      refine x_isK fun i14 h15 => ?_
      subst h15
      refine x_putR 32 fa_J20_36_16 rfl (Or.inl rfl) dJ20_unlink_32 ?_
      refine x_aload_n 35 4 dJ20_unlink_35 rfl ?_
      refine x_null 36 dJ20_unlink_36 ?_
      refine x_putR 37 fa_J20_30_16 rfl (Or.inl rfl) dJ20_unlink_37 ?_
      refine x_sub [3, 4, 2, 1, 0] _ rfl ?_
      exact hj12 ()
def f_J29_remove (i0 : Nat) : PT Unit := bn0 (f_J29_checkForComodification i0) fun _ => gR 19 i0 0 fun v2 => cnd (v2 = nul) (stk) (gR 19 i0 0 fun v4 => isK 16 v4 fun i5 => gR 16 i5 1 fun v7 => gR 19 i0 4 fun v8 => gR 19 i0 0 fun v9 => isK 15 v8 fun i10 => bn0 (f_J20_unlink i10 v9) fun v12 => gR 19 i0 1 fun v13 => gR 19 i0 0 fun v14 => bnd (ρ := _) (α := Unit) (asr (cmpN v13 ∧ cmpN v14) <| cnd (v13 = v14) (pR 19 i0 1 v7 <| rt ()) (gI 19 i0 2 fun v18 => pI 19 i0 2 (v18 - (1 : Int32)) <| rt ())) (fun _ => pR 19 i0 0 nul <| gI 19 i0 3 fun v15 => pI 19 i0 3 (v15 + (1 : Int32)) <| rt ()))
theorem im_J29_remove {g : GP} {l : Launch} (hl : l.stackTraces = false) (i0 : Nat) : Im g l 1 yJ29_remove cJ29_remove 2 none eV [.ref (idc 19 i0)] (f_J29_remove i0) := by
  refine tx_start hl 1 _ _ _ _ (by decide) (Nat.le_of_ble_eq_true rfl) fun Γ Z hΓ hZ => ?_
  subst hΓ
  unfold f_J29_remove
  show TX g Γ _ Z _ 0 [(0, .ref (idc 19 i0))] [] _
  refine x_aload_n 0 0 dJ29_remove_0 rfl ?_
  refine x_cV 1 0 [] [] ⟨by decide, rfl⟩ cv_J29_36 (im_J29_checkForComodification hl i0) (by decide) rfl (Nat.le_of_ble_eq_true rfl) dJ29_remove_1 fun v1 => x_stV ?_
  refine x_aload_n 4 0 dJ29_remove_4 rfl ?_
  refine x_getR 5 fa_J29_46_19 dJ29_remove_5 fun v2 => ?_
  refine x_ifnonnull 8 19 dJ29_remove_8 rfl (fun c3 => ?_) (fun c3 => ?_)
  · exact x_stk
  · refine x_aload_n 19 0 dJ29_remove_19 rfl ?_
    refine x_getR 20 fa_J29_46_19 dJ29_remove_20 fun v4 => ?_
    refine x_isK fun i5 h6 => ?_
    subst h6
    refine x_getR 23 fa_J29_49_16 dJ29_remove_23 fun v7 => ?_
    refine x_astore_n 26 [(1, .ref v7), (0, .ref (idc 19 i0))] dJ29_remove_26 (by decide) rfl ?_
    refine x_aload_n 27 1 dJ29_remove_27 rfl ?_
    refine x_getR 28 fa_J29_1_19 dJ29_remove_28 fun v8 => ?_
    refine x_aload_n 31 1 dJ29_remove_31 rfl ?_
    refine x_getR 32 fa_J29_46_19 dJ29_remove_32 fun v9 => ?_
    refine x_isK fun i10 h11 => ?_
    subst h11
    refine x_cV 35 0 [.ref v9] [] ⟨by decide, rfl⟩ cv_J29_68 (im_J20_unlink hl i10 v9) (by decide) rfl (Nat.le_of_ble_eq_true rfl) dJ29_remove_35 fun v12 => x_stR ?_
    refine x_pop 38 dJ29_remove_38 rfl ?_
    refine x_aload_n 39 1 dJ29_remove_39 rfl ?_
    refine x_getR 40 fa_J29_29_19 dJ29_remove_40 fun v13 => ?_
    refine x_aload_n 43 1 dJ29_remove_43 rfl ?_
    refine x_getR 44 fa_J29_46_19 dJ29_remove_44 fun v14 => ?_
    refine x_bndj 68 (fun _ => [(0, .ref (idc 19 i0))]) (fun _ => []) (fun _ => ?_) (fun hj16 => ?_)
    · show TX g Γ _ Z _ 68 [(0, .ref (idc 19 i0))] [] _
      refine x_aload_n 68 0 dJ29_remove_68 rfl ?_
      refine x_null 69 dJ29_remove_69 ?_
      refine x_putR 70 fa_J29_46_19 rfl (Or.inl rfl) dJ29_remove_70 ?_
      refine x_aload_n 73 0 dJ29_remove_73 rfl ?_
      refine x_dup 74 dJ29_remove_74 rfl ?_
      refine x_getI 75 fa_J29_19_19 dJ29_remove_75 fun v15 => ?_
      refine x_iconst 78 1 (1 : Int32) dJ29_remove_78 rfl ?_
      refine x_iadd 79 dJ29_remove_79 ?_
      refine x_putI 80 fa_J29_19_19 rfl (Or.inl rfl) dJ29_remove_80 ?_
      exact x_vret 83 hZ rfl dJ29_remove_83
    · refine x_acmp_ne 47 58 dJ29_remove_47 rfl (fun c17 => ?_) (fun c17 => ?_)
      · refine x_aload_n 50 1 dJ29_remove_50 rfl ?_
        refine x_aload_n 51 0 dJ29_remove_51 rfl ?_
        refine x_putR 52 fa_J29_29_19 rfl (Or.inl rfl) dJ29_remove_52 ?_
        refine x_goto 55 68 dJ29_remove_55 rfl ?_
        refine x_sub [1] _ rfl ?_
        exact hj16 ()
      · refine x_aload_n 58 1 dJ29_remove_58 rfl ?_
        refine x_dup 59 dJ29_remove_59 rfl ?_
        refine x_getI 60 fa_J29_33_19 dJ29_remove_60 fun v18 => ?_
        refine x_iconst 63 1 (1 : Int32) dJ29_remove_63 rfl ?_
        refine x_isub 64 dJ29_remove_64 ?_
        refine x_putI 65 fa_J29_33_19 rfl (Or.inl rfl) dJ29_remove_65 ?_
        refine x_sub [1] _ rfl ?_
        exact hj16 ()
def f_J18_trimToSize (i0 : Nat) : PT Unit := gI 14 i0 1 fun v1 => gR 14 i0 0 fun v2 => isK 34 v2 fun i4 => aLen 34 i4 fun v3 => cnd (v1 = v3) (rt ()) (gR 14 i0 0 fun v7 => gI 14 i0 1 fun v8 => isK 34 v7 fun i9 => bn0 (f_J13_copyOf_2 i9 v8) fun v11 => pR 14 i0 0 v11 <| bn0 (f_J18_checkInvariants i0) fun _ => rt ())
theorem im_J18_trimToSize {g : GP} {l : Launch} (hl : l.stackTraces = false) (i0 : Nat) : Im g l 2 yJ18_trimToSize cJ18_trimToSize 1 none eV [.ref (idc 14 i0)] (f_J18_trimToSize i0) := by
  refine tx_start hl 2 _ _ _ _ (by decide) (Nat.le_of_ble_eq_true rfl) fun Γ Z hΓ hZ => ?_
  subst hΓ
  unfold f_J18_trimToSize
  show TX g Γ _ Z _ 0 [(0, .ref (idc 14 i0))] [] _
  refine x_aload_n 0 0 dJ18_trimToSize_0 rfl ?_
  refine x_getI 1 fa_J18_7_14 dJ18_trimToSize_1 fun v1 => ?_
  refine x_aload_n 4 0 dJ18_trimToSize_4 rfl ?_
  refine x_getR 5 fa_J18_11_14 dJ18_trimToSize_5 fun v2 => ?_
  refine x_isK fun i4 h5 => ?_
  subst h5
  refine x_alen 8 (by decide) dJ18_trimToSize_8 fun v3 => ?_
  refine x_icmp_eq 9 31 dJ18_trimToSize_9 rfl (fun c6 => ?_) (fun c6 => ?_)
  · exact x_vret 31 hZ rfl dJ18_trimToSize_31
  · refine x_aload_n 12 0 dJ18_trimToSize_12 rfl ?_
    refine x_aload_n 13 0 dJ18_trimToSize_13 rfl ?_
    refine x_getR 14 fa_J18_11_14 dJ18_trimToSize_14 fun v7 => ?_
    refine x_aload_n 17 0 dJ18_trimToSize_17 rfl ?_
    refine x_getI 18 fa_J18_7_14 dJ18_trimToSize_18 fun v8 => ?_
    refine x_isK fun i9 h10 => ?_
    subst h10
    refine x_cS 21 1 [.ref (idc 34 i9), .int v8] [.ref (idc 14 i0)] cs_J18_59 (im_J13_copyOf_2 hl i9 v8) (by decide) rfl (Nat.le_of_ble_eq_true rfl) dJ18_trimToSize_21 fun v11 => x_stR ?_
    refine x_putR 24 fa_J18_11_14 rfl (Or.inl rfl) dJ18_trimToSize_24 ?_
    refine x_aload_n 27 0 dJ18_trimToSize_27 rfl ?_
    refine x_cV 28 0 [] [] ⟨by decide, rfl⟩ cv_J18_56 (im_J18_checkInvariants hl i0) (by decide) rfl (Nat.le_of_ble_eq_true rfl) dJ18_trimToSize_28 fun v12 => x_stV ?_
    exact x_vret 31 hZ rfl dJ18_trimToSize_31
def f_J18_clone (i0 : Nat) : PT Nat := gI 14 i0 2 fun v1 => bnd (ρ := _) (α := Unit) (cnd (v1 = 0) (bn0 (f_J18_trimToSize i0) fun _ => rt ()) (rt ())) (fun _ => clnB i0 fun i2 => gR 14 i0 0 fun v3 => isK 34 v3 fun i4 => cln 34 i4 fun i6 => pR 14 i2 0 (idc 34 i6) <| bn0 (f_J18_checkInvariants i2) fun _ => rt (idc 14 i2))
theorem im_J18_clone {g : GP} {l : Launch} (hl : l.stackTraces = false) (i0 : Nat) : ImH g l 3 yJ18_clone cJ18_clone 2 (some (.object "java/lang/Object")) [(11, 38, 39, 216)] eR [.ref (idc 14 i0)] (f_J18_clone i0) := by
  refine tx_startW hl 3 _ _ _ _ _ (by decide) (Nat.le_of_ble_eq_true rfl) fun Γ Z hΓ hZ => ?_
  subst hΓ
  unfold f_J18_clone
  show TX g Γ _ Z _ 0 [(0, .ref (idc 14 i0))] [] _
  refine x_aload_n 0 0 dJ18_clone_0 rfl ?_
  refine x_getI 1 fa_J18_24_14 dJ18_clone_1 fun v1 => ?_
  refine x_bndj 11 (fun _ => [(0, .ref (idc 14 i0))]) (fun _ => []) (fun _ => ?_) (fun hj8 => ?_)
  · show TX g Γ _ Z _ 11 [(0, .ref (idc 14 i0))] [] _
    refine x_aload_n 11 0 dJ18_clone_11 rfl ?_
    refine x_clnB 12 rfl q2244 q3044 q266 q267 q525 q3080 q3047 (by decide) (Nat.le_of_ble_eq_true rfl) dJ18_clone_12 fun i2 => ?_
    refine x_castS 15 (by decide) q2245 dJ18_clone_15 ?_
    refine x_astore_n 18 [(1, .ref (idc 14 i2)), (0, .ref (idc 14 i0))] dJ18_clone_18 (by decide) rfl ?_
    refine x_aload_n 19 0 dJ18_clone_19 rfl ?_
    refine x_aload_n 20 1 dJ18_clone_20 rfl ?_
    refine x_getR 21 fa_J18_11_14 dJ18_clone_21 fun v3 => ?_
    refine x_isK fun i4 h5 => ?_
    subst h5
    refine x_clnA 24 (Or.inr ⟨rfl, rfl⟩) q2246 q637 q266 q267 q638 q639 (by decide) (Nat.le_of_ble_eq_true rfl) dJ18_clone_24 fun i6 => ?_
    refine x_castA 27 (Or.inr ⟨rfl, rfl⟩) q2247 dJ18_clone_27 ?_
    refine x_putR 30 fa_J18_11_14 rfl (Or.inl rfl) dJ18_clone_30 ?_
    refine x_aload_n 33 0 dJ18_clone_33 rfl ?_
    refine x_cV 34 0 [] [] ⟨by decide, rfl⟩ cv_J18_56 (im_J18_checkInvariants hl i2) (by decide) rfl (Nat.le_of_ble_eq_true rfl) dJ18_clone_34 fun v7 => x_stV ?_
    refine x_aload_n 37 0 dJ18_clone_37 rfl ?_
    exact x_aret 38 hZ (Or.inl ⟨_, rfl⟩) dJ18_clone_38
  · refine x_if_ne 4 11 dJ18_clone_4 rfl (fun c9 => ?_) (fun c9 => ?_)
    · refine x_aload_n 7 0 dJ18_clone_7 rfl ?_
      refine x_cV 8 2 [] [] ⟨by decide, rfl⟩ cv_J18_207 (im_J18_trimToSize hl i0) (by decide) rfl (Nat.le_of_ble_eq_true rfl) dJ18_clone_8 fun v10 => x_stV ?_
      exact hj8 ()
    · exact hj8 ()
def f_J25_bitCount (a1 : Int64) : PT Int32 := bnd (rt (a1 - (((a1.toUInt64 >>> ((1 : Int32).toInt64.toUInt64 &&& Int64.toUInt64 63)).toInt64) &&& (6148914691236517205 : Int64)))) fun v1 => bnd (rt ((v1 &&& (3689348814741910323 : Int64)) + (((v1.toUInt64 >>> ((2 : Int32).toInt64.toUInt64 &&& Int64.toUInt64 63)).toInt64) &&& (3689348814741910323 : Int64)))) fun v2 => bnd (rt ((v2 + ((v2.toUInt64 >>> ((4 : Int32).toInt64.toUInt64 &&& Int64.toUInt64 63)).toInt64)) &&& (1085102592571150095 : Int64))) fun v3 => bnd (rt (v3 + ((v3.toUInt64 >>> ((8 : Int32).toInt64.toUInt64 &&& Int64.toUInt64 63)).toInt64))) fun v4 => bnd (rt (v4 + ((v4.toUInt64 >>> ((16 : Int32).toInt64.toUInt64 &&& Int64.toUInt64 63)).toInt64))) fun v5 => bnd (rt (v5 + ((v5.toUInt64 >>> ((32 : Int32).toInt64.toUInt64 &&& Int64.toUInt64 63)).toInt64))) fun v6 => rt (v6.toInt32 &&& (127 : Int32))
theorem im_J25_bitCount {g : GP} {l : Launch} (hl : l.stackTraces = false) (a1 : Int64) : Im g l 0 yJ25_bitCount cJ25_bitCount 2 (some .int) eI [.long a1] (f_J25_bitCount a1) := by
  refine tx_start hl 0 _ _ _ _ (by decide) (Nat.le_of_ble_eq_true rfl) fun Γ Z hΓ hZ => ?_
  subst hΓ
  unfold f_J25_bitCount
  show TX g Γ _ Z _ 0 [(0, .long a1)] [] _
  refine x_lload_n 0 0 dJ25_bitCount_0 rfl ?_
  refine x_lload_n 1 0 dJ25_bitCount_1 rfl ?_
  refine x_iconst 2 1 (1 : Int32) dJ25_bitCount_2 rfl ?_
  refine x_lushr 3 dJ25_bitCount_3 ?_
  refine x_ldc2 4 314 (6148914691236517205 : Int64) dJ25_bitCount_4 q2341 ?_
  refine x_land 7 dJ25_bitCount_7 ?_
  refine x_lsub 8 dJ25_bitCount_8 ?_
  refine x_genL fun v1 _ => ?_
  refine x_lstore_n 9 [(0, .long v1)] dJ25_bitCount_9 (by decide) rfl ?_
  refine x_lload_n 10 0 dJ25_bitCount_10 rfl ?_
  refine x_ldc2 11 316 (3689348814741910323 : Int64) dJ25_bitCount_11 q2342 ?_
  refine x_land 14 dJ25_bitCount_14 ?_
  refine x_lload_n 15 0 dJ25_bitCount_15 rfl ?_
  refine x_iconst 16 2 (2 : Int32) dJ25_bitCount_16 rfl ?_
  refine x_lushr 17 dJ25_bitCount_17 ?_
  refine x_ldc2 18 316 (3689348814741910323 : Int64) dJ25_bitCount_18 q2342 ?_
  refine x_land 21 dJ25_bitCount_21 ?_
  refine x_ladd 22 dJ25_bitCount_22 ?_
  refine x_genL fun v2 _ => ?_
  refine x_lstore_n 23 [(0, .long v2)] dJ25_bitCount_23 (by decide) rfl ?_
  refine x_lload_n 24 0 dJ25_bitCount_24 rfl ?_
  refine x_lload_n 25 0 dJ25_bitCount_25 rfl ?_
  refine x_iconst 26 4 (4 : Int32) dJ25_bitCount_26 rfl ?_
  refine x_lushr 27 dJ25_bitCount_27 ?_
  refine x_ladd 28 dJ25_bitCount_28 ?_
  refine x_ldc2 29 318 (1085102592571150095 : Int64) dJ25_bitCount_29 q2343 ?_
  refine x_land 32 dJ25_bitCount_32 ?_
  refine x_genL fun v3 _ => ?_
  refine x_lstore_n 33 [(0, .long v3)] dJ25_bitCount_33 (by decide) rfl ?_
  refine x_lload_n 34 0 dJ25_bitCount_34 rfl ?_
  refine x_lload_n 35 0 dJ25_bitCount_35 rfl ?_
  refine x_bipush 36 8 (8 : Int32) dJ25_bitCount_36 rfl ?_
  refine x_lushr 38 dJ25_bitCount_38 ?_
  refine x_ladd 39 dJ25_bitCount_39 ?_
  refine x_genL fun v4 _ => ?_
  refine x_lstore_n 40 [(0, .long v4)] dJ25_bitCount_40 (by decide) rfl ?_
  refine x_lload_n 41 0 dJ25_bitCount_41 rfl ?_
  refine x_lload_n 42 0 dJ25_bitCount_42 rfl ?_
  refine x_bipush 43 16 (16 : Int32) dJ25_bitCount_43 rfl ?_
  refine x_lushr 45 dJ25_bitCount_45 ?_
  refine x_ladd 46 dJ25_bitCount_46 ?_
  refine x_genL fun v5 _ => ?_
  refine x_lstore_n 47 [(0, .long v5)] dJ25_bitCount_47 (by decide) rfl ?_
  refine x_lload_n 48 0 dJ25_bitCount_48 rfl ?_
  refine x_lload_n 49 0 dJ25_bitCount_49 rfl ?_
  refine x_bipush 50 32 (32 : Int32) dJ25_bitCount_50 rfl ?_
  refine x_lushr 52 dJ25_bitCount_52 ?_
  refine x_ladd 53 dJ25_bitCount_53 ?_
  refine x_genL fun v6 _ => ?_
  refine x_lstore_n 54 [(0, .long v6)] dJ25_bitCount_54 (by decide) rfl ?_
  refine x_lload_n 55 0 dJ25_bitCount_55 rfl ?_
  refine x_l2i 56 dJ25_bitCount_56 ?_
  refine x_bipush 57 127 (127 : Int32) dJ25_bitCount_57 rfl ?_
  refine x_iand 59 dJ25_bitCount_59 ?_
  exact x_iret 60 hZ rfl dJ25_bitCount_60
def f_J18_cardinality (i0 : Nat) : PT Int32 := lp (σ := Int32 × Int32) (fun r3 => un2 fun u1 u2 => gI 14 i0 1 fun v4 => cnd (v4 ≤ u2) (rt u1) (gR 14 i0 0 fun v6 => isK 34 v6 fun i7 => aJ 34 i7 u2 fun v9 => bn0 (f_J25_bitCount v9) fun v10 => r3 (u1 + v10, u2 + (1 : Int32)))) ((0 : Int32), (0 : Int32))
theorem im_J18_cardinality {g : GP} {l : Launch} (hl : l.stackTraces = false) (i0 : Nat) : Im g l 1 yJ18_cardinality cJ18_cardinality 3 (some .int) eI [.ref (idc 14 i0)] (f_J18_cardinality i0) := by
  refine tx_start hl 1 _ _ _ _ (by decide) (Nat.le_of_ble_eq_true rfl) fun Γ Z hΓ hZ => ?_
  subst hΓ
  unfold f_J18_cardinality
  show TX g Γ _ Z _ 0 [(0, .ref (idc 14 i0))] [] _
  refine x_iconst 0 0 (0 : Int32) dJ18_cardinality_0 rfl ?_
  refine x_istore_n 1 [(1, .int (0 : Int32)), (0, .ref (idc 14 i0))] dJ18_cardinality_1 (by decide) rfl ?_
  refine x_iconst 2 0 (0 : Int32) dJ18_cardinality_2 rfl ?_
  refine x_istore_n 3 [(2, .int (0 : Int32)), (1, .int (0 : Int32)), (0, .ref (idc 14 i0))] dJ18_cardinality_3 (by decide) rfl ?_
  refine x_sub [2, 1, 0] [(0, .ref (idc 14 i0)), (1, .int (0 : Int32)), (2, .int (0 : Int32))] rfl ?_
  refine x_lp (Lf := fun u => [(0, .ref (idc 14 i0)), (1, .int u.1), (2, .int u.2)]) (sf := fun _ => []) (fun r3 hr3 u => ?_) ((0 : Int32), (0 : Int32))
  obtain ⟨u1, u2⟩ := u
  show TX g Γ _ Z _ 4 [(0, .ref (idc 14 i0)), (1, .int u1), (2, .int u2)] [] _
  refine x_un2 ?_
  refine x_iload_n 4 2 dJ18_cardinality_4 rfl ?_
  refine x_aload_n 5 0 dJ18_cardinality_5 rfl ?_
  refine x_getI 6 fa_J18_7_14 dJ18_cardinality_6 fun v4 => ?_
  refine x_icmp_ge 9 30 dJ18_cardinality_9 rfl (fun c5 => ?_) (fun c5 => ?_)
  · refine x_iload_n 30 1 dJ18_cardinality_30 rfl ?_
    exact x_iret 31 hZ rfl dJ18_cardinality_31
  · refine x_iload_n 12 1 dJ18_cardinality_12 rfl ?_
    refine x_aload_n 13 0 dJ18_cardinality_13 rfl ?_
    refine x_getR 14 fa_J18_11_14 dJ18_cardinality_14 fun v6 => ?_
    refine x_iload_n 17 2 dJ18_cardinality_17 rfl ?_
    refine x_isK fun i7 h8 => ?_
    subst h8
    refine x_lald 18 dJ18_cardinality_18 fun v9 => ?_
    refine x_cS 19 0 [.long v9] [.int u1] cs_J18_196 (im_J25_bitCount hl v9) (by decide) rfl (Nat.le_of_ble_eq_true rfl) dJ18_cardinality_19 fun v10 => x_stI ?_
    refine x_iadd 22 dJ18_cardinality_22 ?_
    refine x_istore_n 23 [(1, .int (u1 + v10)), (0, .ref (idc 14 i0)), (2, .int u2)] dJ18_cardinality_23 (by decide) rfl ?_
    refine x_iinc 24 2 [(2, .int (u2 + (1 : Int32))), (1, .int (u1 + v10)), (0, .ref (idc 14 i0))] dJ18_cardinality_24 rfl rfl (by decide) rfl ?_
    refine x_goto 27 4 dJ18_cardinality_27 rfl ?_
    refine x_sub [2, 1, 0] _ rfl ?_
    exact hr3 (u1 + v10, u2 + (1 : Int32))
