/-! ===== walks: KeyringCourtModel ===== -/
def f_X5_init (i0 : Nat) : PT Unit := nwA 32 (18 : Int32) fun i1 => pR 4 i0 1 (idc 32 i1) <| nwA 32 (18 : Int32) fun i2 => pR 4 i0 2 (idc 32 i2) <| nwA 32 (6 : Int32) fun i3 => pR 4 i0 3 (idc 32 i3) <| nwA 32 (18 : Int32) fun i4 => pR 4 i0 4 (idc 32 i4) <| nwA 33 (36 : Int32) fun i5 => pR 4 i0 5 (idc 33 i5) <| nwA 33 (36 : Int32) fun i6 => pR 4 i0 6 (idc 33 i6) <| nwA 33 (6 : Int32) fun i7 => pR 4 i0 7 (idc 33 i7) <| nwA 33 (6 : Int32) fun i8 => pR 4 i0 8 (idc 33 i8) <| nwA 32 (9 : Int32) fun i9 => pR 4 i0 10 (idc 32 i9) <| nwA 32 (108 : Int32) fun i10 => pR 4 i0 11 (idc 32 i10) <| nwA 32 (108 : Int32) fun i11 => pR 4 i0 12 (idc 32 i11) <| nwA 32 (108 : Int32) fun i12 => pR 4 i0 13 (idc 32 i12) <| nwA 32 (108 : Int32) fun i13 => pR 4 i0 14 (idc 32 i13) <| nwA 32 (108 : Int32) fun i14 => pR 4 i0 15 (idc 32 i14) <| nwA 33 (96 : Int32) fun i15 => pR 4 i0 16 (idc 33 i15) <| nwA 32 (3 : Int32) fun i16 => pR 4 i0 17 (idc 32 i16) <| nwA 32 (3 : Int32) fun i17 => pR 4 i0 18 (idc 32 i17) <| nwA 32 (60 : Int32) fun i18 => pR 4 i0 20 (idc 32 i18) <| nwA 32 (60 : Int32) fun i19 => pR 4 i0 21 (idc 32 i19) <| nwA 32 (60 : Int32) fun i20 => pR 4 i0 22 (idc 32 i20) <| nwA 32 (60 : Int32) fun i21 => pR 4 i0 23 (idc 32 i21) <| nwA 32 (60 : Int32) fun i22 => pR 4 i0 24 (idc 32 i22) <| nwA 32 (60 : Int32) fun i23 => pR 4 i0 25 (idc 32 i23) <| nwA 32 (60 : Int32) fun i24 => pR 4 i0 26 (idc 32 i24) <| nwA 32 (60 : Int32) fun i25 => pR 4 i0 27 (idc 32 i25) <| nwA 32 (60 : Int32) fun i26 => pR 4 i0 28 (idc 32 i26) <| nwA 32 (180 : Int32) fun i27 => pR 4 i0 29 (idc 32 i27) <| nwA 32 (60 : Int32) fun i28 => pR 4 i0 31 (idc 32 i28) <| nwA 32 (60 : Int32) fun i29 => pR 4 i0 32 (idc 32 i29) <| nwA 32 (60 : Int32) fun i30 => pR 4 i0 33 (idc 32 i30) <| nwA 32 (60 : Int32) fun i31 => pR 4 i0 34 (idc 32 i31) <| nwA 33 (60 : Int32) fun i32 => pR 4 i0 35 (idc 33 i32) <| nwA 32 (180 : Int32) fun i33 => pR 4 i0 36 (idc 32 i33) <| nwA 32 (28 : Int32) fun i34 => pR 4 i0 37 (idc 32 i34) <| nwA 32 (4 : Int32) fun i35 => pR 4 i0 38 (idc 32 i35) <| nwA 32 (60 : Int32) fun i36 => pR 4 i0 40 (idc 32 i36) <| nwA 32 (60 : Int32) fun i37 => pR 4 i0 41 (idc 32 i37) <| nwA 32 (60 : Int32) fun i38 => pR 4 i0 42 (idc 32 i38) <| nwA 32 (60 : Int32) fun i39 => pR 4 i0 43 (idc 32 i39) <| nwA 32 (60 : Int32) fun i40 => pR 4 i0 44 (idc 32 i40) <| nwA 32 (60 : Int32) fun i41 => pR 4 i0 45 (idc 32 i41) <| nwA 32 (60 : Int32) fun i42 => pR 4 i0 47 (idc 32 i42) <| nwA 32 (60 : Int32) fun i43 => pR 4 i0 48 (idc 32 i43) <| nwA 32 (60 : Int32) fun i44 => pR 4 i0 49 (idc 32 i44) <| nwA 32 (60 : Int32) fun i45 => pR 4 i0 50 (idc 32 i45) <| nwA 33 (60 : Int32) fun i46 => pR 4 i0 51 (idc 33 i46) <| nwA 32 (200 : Int32) fun i47 => pR 4 i0 53 (idc 32 i47) <| nwA 32 (200 : Int32) fun i48 => pR 4 i0 54 (idc 32 i48) <| nwA 32 (200 : Int32) fun i49 => pR 4 i0 55 (idc 32 i49) <| nwA 32 (200 : Int32) fun i50 => pR 4 i0 56 (idc 32 i50) <| nwA 32 (200 : Int32) fun i51 => pR 4 i0 57 (idc 32 i51) <| nwA 32 (200 : Int32) fun i52 => pR 4 i0 58 (idc 32 i52) <| nwA 32 (200 : Int32) fun i53 => pR 4 i0 59 (idc 32 i53) <| pI 4 i0 60 (1 : Int32) <| pI 4 i0 62 (-1 : Int32) <| nwA 33 (20 : Int32) fun i54 => pR 4 i0 64 (idc 33 i54) <| nwA 32 (20 : Int32) fun i55 => pR 4 i0 65 (idc 32 i55) <| nwA 33 (4 : Int32) fun i56 => pR 4 i0 66 (idc 33 i56) <| nwA 32 (4 : Int32) fun i57 => pR 4 i0 67 (idc 32 i57) <| nwA 32 (4 : Int32) fun i58 => pR 4 i0 68 (idc 32 i58) <| nwA 33 (240 : Int32) fun i59 => pR 4 i0 69 (idc 33 i59) <| nwA 32 (20 : Int32) fun i60 => pR 4 i0 71 (idc 32 i60) <| nwA 32 (20 : Int32) fun i61 => pR 4 i0 72 (idc 32 i61) <| nwA 33 (20 : Int32) fun i62 => pR 4 i0 73 (idc 33 i62) <| nwA 32 (20 : Int32) fun i63 => pR 4 i0 74 (idc 32 i63) <| nwA 32 (20 : Int32) fun i64 => pR 4 i0 75 (idc 32 i64) <| nwA 32 (6 : Int32) fun i65 => pR 4 i0 76 (idc 32 i65) <| nwA 32 (1200 : Int32) fun i66 => pR 4 i0 78 (idc 32 i66) <| nwA 32 (1200 : Int32) fun i67 => pR 4 i0 79 (idc 32 i67) <| nwA 32 (1200 : Int32) fun i68 => pR 4 i0 80 (idc 32 i68) <| pI 4 i0 81 (7 : Int32) <| bnd (lp (σ := Int32) (ρ := Unit) (fun r70 => fun u69 => cnd ((18 : Int32) ≤ u69) (rt ()) (gR 4 i0 4 fun v73 => isK 32 v73 fun i74 => bI 32 i74 u69 (-1000 : Int32) <| r70 (u69 + (1 : Int32)))) (0 : Int32)) (fun _ => gR 4 i0 17 fun v76 => isK 32 v76 fun i77 => bI 32 i77 (0 : Int32) (2 : Int32) <| gR 4 i0 17 fun v79 => isK 32 v79 fun i80 => bI 32 i80 (1 : Int32) (1 : Int32) <| gR 4 i0 17 fun v82 => isK 32 v82 fun i83 => bI 32 i83 (2 : Int32) (1 : Int32) <| bnd (lp (σ := Int32) (ρ := Unit) (fun r86 => fun u85 => cnd ((3 : Int32) ≤ u85) (rt ()) (gR 4 i0 18 fun v89 => isK 32 v89 fun i90 => bI 32 i90 u85 (-1 : Int32) <| r86 (u85 + (1 : Int32)))) (0 : Int32)) (fun _ => bnd (lp (σ := Int32) (ρ := Unit) (fun r93 => fun u92 => cnd ((4 : Int32) ≤ u92) (rt ()) (gR 4 i0 67 fun v96 => isK 32 v96 fun i97 => bI 32 i97 u92 (1 : Int32) <| r93 (u92 + (1 : Int32)))) (0 : Int32)) (fun _ => bnd (lp (σ := Int32) (ρ := Unit) (fun r100 => fun u99 => cnd ((20 : Int32) ≤ u99) (rt ()) (gR 4 i0 65 fun v103 => isK 32 v103 fun i104 => bI 32 i104 u99 (-1 : Int32) <| r100 (u99 + (1 : Int32)))) (0 : Int32)) (fun _ => lp (σ := Int32) (fun r107 => fun u106 => cnd ((6 : Int32) ≤ u106) (rt ()) (gR 4 i0 76 fun v109 => isK 32 v109 fun i110 => bI 32 i110 u106 (-1 : Int32) <| r107 (u106 + (1 : Int32)))) (0 : Int32)))))
theorem im_X5_init {g : GP} {l : Launch} (hl : l.stackTraces = false) (i0 : Nat) : Im g l 1 yX5_init cX5_init 2 none eV [.ref (idc 4 i0)] (f_X5_init i0) := by
  refine tx_start hl 1 _ _ _ _ (by decide) (Nat.le_of_ble_eq_true rfl) fun Γ Z hΓ hZ => ?_
  subst hΓ
  unfold f_X5_init
  show TX g Γ _ Z _ 0 [(0, .ref (idc 4 i0))] [] _
  refine x_aload_n 0 0 dX5_init_0 rfl ?_
  refine x_objI 1 (by decide) q2415 q128 q129 dX5_init_1 (Nat.le_of_ble_eq_true rfl) (by decide) ?_
  refine x_aload_n 4 0 dX5_init_4 rfl ?_
  refine x_bipush 5 18 (18 : Int32) dX5_init_5 rfl ?_
  refine x_newa 7 (Or.inl rfl) rfl q526 dX5_init_7 fun i1 => ?_
  refine x_putR 9 fa_X5_7_4 rfl (Or.inr ⟨rfl, rfl, rfl⟩) dX5_init_9 ?_
  refine x_aload_n 12 0 dX5_init_12 rfl ?_
  refine x_bipush 13 18 (18 : Int32) dX5_init_13 rfl ?_
  refine x_newa 15 (Or.inl rfl) rfl q526 dX5_init_15 fun i2 => ?_
  refine x_putR 17 fa_X5_13_4 rfl (Or.inr ⟨rfl, rfl, rfl⟩) dX5_init_17 ?_
  refine x_aload_n 20 0 dX5_init_20 rfl ?_
  refine x_bipush 21 6 (6 : Int32) dX5_init_21 rfl ?_
  refine x_newa 23 (Or.inl rfl) rfl q526 dX5_init_23 fun i3 => ?_
  refine x_putR 25 fa_X5_16_4 rfl (Or.inr ⟨rfl, rfl, rfl⟩) dX5_init_25 ?_
  refine x_aload_n 28 0 dX5_init_28 rfl ?_
  refine x_bipush 29 18 (18 : Int32) dX5_init_29 rfl ?_
  refine x_newa 31 (Or.inl rfl) rfl q526 dX5_init_31 fun i4 => ?_
  refine x_putR 33 fa_X5_19_4 rfl (Or.inr ⟨rfl, rfl, rfl⟩) dX5_init_33 ?_
  refine x_aload_n 36 0 dX5_init_36 rfl ?_
  refine x_bipush 37 36 (36 : Int32) dX5_init_37 rfl ?_
  refine x_newa 39 (Or.inr (Or.inl rfl)) rfl q2666 dX5_init_39 fun i5 => ?_
  refine x_putR 41 fa_X5_22_4 rfl (Or.inr ⟨rfl, rfl, rfl⟩) dX5_init_41 ?_
  refine x_aload_n 44 0 dX5_init_44 rfl ?_
  refine x_bipush 45 36 (36 : Int32) dX5_init_45 rfl ?_
  refine x_newa 47 (Or.inr (Or.inl rfl)) rfl q2666 dX5_init_47 fun i6 => ?_
  refine x_putR 49 fa_X5_26_4 rfl (Or.inr ⟨rfl, rfl, rfl⟩) dX5_init_49 ?_
  refine x_aload_n 52 0 dX5_init_52 rfl ?_
  refine x_bipush 53 6 (6 : Int32) dX5_init_53 rfl ?_
  refine x_newa 55 (Or.inr (Or.inl rfl)) rfl q2666 dX5_init_55 fun i7 => ?_
  refine x_putR 57 fa_X5_29_4 rfl (Or.inr ⟨rfl, rfl, rfl⟩) dX5_init_57 ?_
  refine x_aload_n 60 0 dX5_init_60 rfl ?_
  refine x_bipush 61 6 (6 : Int32) dX5_init_61 rfl ?_
  refine x_newa 63 (Or.inr (Or.inl rfl)) rfl q2666 dX5_init_63 fun i8 => ?_
  refine x_putR 65 fa_X5_32_4 rfl (Or.inr ⟨rfl, rfl, rfl⟩) dX5_init_65 ?_
  refine x_aload_n 68 0 dX5_init_68 rfl ?_
  refine x_bipush 69 9 (9 : Int32) dX5_init_69 rfl ?_
  refine x_newa 71 (Or.inl rfl) rfl q526 dX5_init_71 fun i9 => ?_
  refine x_putR 73 fa_X5_35_4 rfl (Or.inr ⟨rfl, rfl, rfl⟩) dX5_init_73 ?_
  refine x_aload_n 76 0 dX5_init_76 rfl ?_
  refine x_bipush 77 108 (108 : Int32) dX5_init_77 rfl ?_
  refine x_newa 79 (Or.inl rfl) rfl q526 dX5_init_79 fun i10 => ?_
  refine x_putR 81 fa_X5_38_4 rfl (Or.inr ⟨rfl, rfl, rfl⟩) dX5_init_81 ?_
  refine x_aload_n 84 0 dX5_init_84 rfl ?_
  refine x_bipush 85 108 (108 : Int32) dX5_init_85 rfl ?_
  refine x_newa 87 (Or.inl rfl) rfl q526 dX5_init_87 fun i11 => ?_
  refine x_putR 89 fa_X5_41_4 rfl (Or.inr ⟨rfl, rfl, rfl⟩) dX5_init_89 ?_
  refine x_aload_n 92 0 dX5_init_92 rfl ?_
  refine x_bipush 93 108 (108 : Int32) dX5_init_93 rfl ?_
  refine x_newa 95 (Or.inl rfl) rfl q526 dX5_init_95 fun i12 => ?_
  refine x_putR 97 fa_X5_44_4 rfl (Or.inr ⟨rfl, rfl, rfl⟩) dX5_init_97 ?_
  refine x_aload_n 100 0 dX5_init_100 rfl ?_
  refine x_bipush 101 108 (108 : Int32) dX5_init_101 rfl ?_
  refine x_newa 103 (Or.inl rfl) rfl q526 dX5_init_103 fun i13 => ?_
  refine x_putR 105 fa_X5_47_4 rfl (Or.inr ⟨rfl, rfl, rfl⟩) dX5_init_105 ?_
  refine x_aload_n 108 0 dX5_init_108 rfl ?_
  refine x_bipush 109 108 (108 : Int32) dX5_init_109 rfl ?_
  refine x_newa 111 (Or.inl rfl) rfl q526 dX5_init_111 fun i14 => ?_
  refine x_putR 113 fa_X5_50_4 rfl (Or.inr ⟨rfl, rfl, rfl⟩) dX5_init_113 ?_
  refine x_aload_n 116 0 dX5_init_116 rfl ?_
  refine x_bipush 117 96 (96 : Int32) dX5_init_117 rfl ?_
  refine x_newa 119 (Or.inr (Or.inl rfl)) rfl q2666 dX5_init_119 fun i15 => ?_
  refine x_putR 121 fa_X5_53_4 rfl (Or.inr ⟨rfl, rfl, rfl⟩) dX5_init_121 ?_
  refine x_aload_n 124 0 dX5_init_124 rfl ?_
  refine x_iconst 125 3 (3 : Int32) dX5_init_125 rfl ?_
  refine x_newa 126 (Or.inl rfl) rfl q526 dX5_init_126 fun i16 => ?_
  refine x_putR 128 fa_X5_56_4 rfl (Or.inr ⟨rfl, rfl, rfl⟩) dX5_init_128 ?_
  refine x_aload_n 131 0 dX5_init_131 rfl ?_
  refine x_iconst 132 3 (3 : Int32) dX5_init_132 rfl ?_
  refine x_newa 133 (Or.inl rfl) rfl q526 dX5_init_133 fun i17 => ?_
  refine x_putR 135 fa_X5_59_4 rfl (Or.inr ⟨rfl, rfl, rfl⟩) dX5_init_135 ?_
  refine x_aload_n 138 0 dX5_init_138 rfl ?_
  refine x_bipush 139 60 (60 : Int32) dX5_init_139 rfl ?_
  refine x_newa 141 (Or.inl rfl) rfl q526 dX5_init_141 fun i18 => ?_
  refine x_putR 143 fa_X5_62_4 rfl (Or.inr ⟨rfl, rfl, rfl⟩) dX5_init_143 ?_
  refine x_aload_n 146 0 dX5_init_146 rfl ?_
  refine x_bipush 147 60 (60 : Int32) dX5_init_147 rfl ?_
  refine x_newa 149 (Or.inl rfl) rfl q526 dX5_init_149 fun i19 => ?_
  refine x_putR 151 fa_X5_65_4 rfl (Or.inr ⟨rfl, rfl, rfl⟩) dX5_init_151 ?_
  refine x_aload_n 154 0 dX5_init_154 rfl ?_
  refine x_bipush 155 60 (60 : Int32) dX5_init_155 rfl ?_
  refine x_newa 157 (Or.inl rfl) rfl q526 dX5_init_157 fun i20 => ?_
  refine x_putR 159 fa_X5_68_4 rfl (Or.inr ⟨rfl, rfl, rfl⟩) dX5_init_159 ?_
  refine x_aload_n 162 0 dX5_init_162 rfl ?_
  refine x_bipush 163 60 (60 : Int32) dX5_init_163 rfl ?_
  refine x_newa 165 (Or.inl rfl) rfl q526 dX5_init_165 fun i21 => ?_
  refine x_putR 167 fa_X5_71_4 rfl (Or.inr ⟨rfl, rfl, rfl⟩) dX5_init_167 ?_
  refine x_aload_n 170 0 dX5_init_170 rfl ?_
  refine x_bipush 171 60 (60 : Int32) dX5_init_171 rfl ?_
  refine x_newa 173 (Or.inl rfl) rfl q526 dX5_init_173 fun i22 => ?_
  refine x_putR 175 fa_X5_74_4 rfl (Or.inr ⟨rfl, rfl, rfl⟩) dX5_init_175 ?_
  refine x_aload_n 178 0 dX5_init_178 rfl ?_
  refine x_bipush 179 60 (60 : Int32) dX5_init_179 rfl ?_
  refine x_newa 181 (Or.inl rfl) rfl q526 dX5_init_181 fun i23 => ?_
  refine x_putR 183 fa_X5_77_4 rfl (Or.inr ⟨rfl, rfl, rfl⟩) dX5_init_183 ?_
  refine x_aload_n 186 0 dX5_init_186 rfl ?_
  refine x_bipush 187 60 (60 : Int32) dX5_init_187 rfl ?_
  refine x_newa 189 (Or.inl rfl) rfl q526 dX5_init_189 fun i24 => ?_
  refine x_putR 191 fa_X5_80_4 rfl (Or.inr ⟨rfl, rfl, rfl⟩) dX5_init_191 ?_
  refine x_aload_n 194 0 dX5_init_194 rfl ?_
  refine x_bipush 195 60 (60 : Int32) dX5_init_195 rfl ?_
  refine x_newa 197 (Or.inl rfl) rfl q526 dX5_init_197 fun i25 => ?_
  refine x_putR 199 fa_X5_83_4 rfl (Or.inr ⟨rfl, rfl, rfl⟩) dX5_init_199 ?_
  refine x_aload_n 202 0 dX5_init_202 rfl ?_
  refine x_bipush 203 60 (60 : Int32) dX5_init_203 rfl ?_
  refine x_newa 205 (Or.inl rfl) rfl q526 dX5_init_205 fun i26 => ?_
  refine x_putR 207 fa_X5_86_4 rfl (Or.inr ⟨rfl, rfl, rfl⟩) dX5_init_207 ?_
  refine x_aload_n 210 0 dX5_init_210 rfl ?_
  refine x_sipush 211 180 (180 : Int32) dX5_init_211 rfl ?_
  refine x_newa 214 (Or.inl rfl) rfl q526 dX5_init_214 fun i27 => ?_
  refine x_putR 216 fa_X5_89_4 rfl (Or.inr ⟨rfl, rfl, rfl⟩) dX5_init_216 ?_
  refine x_aload_n 219 0 dX5_init_219 rfl ?_
  refine x_bipush 220 60 (60 : Int32) dX5_init_220 rfl ?_
  refine x_newa 222 (Or.inl rfl) rfl q526 dX5_init_222 fun i28 => ?_
  refine x_putR 224 fa_X5_92_4 rfl (Or.inr ⟨rfl, rfl, rfl⟩) dX5_init_224 ?_
  refine x_aload_n 227 0 dX5_init_227 rfl ?_
  refine x_bipush 228 60 (60 : Int32) dX5_init_228 rfl ?_
  refine x_newa 230 (Or.inl rfl) rfl q526 dX5_init_230 fun i29 => ?_
  refine x_putR 232 fa_X5_95_4 rfl (Or.inr ⟨rfl, rfl, rfl⟩) dX5_init_232 ?_
  refine x_aload_n 235 0 dX5_init_235 rfl ?_
  refine x_bipush 236 60 (60 : Int32) dX5_init_236 rfl ?_
  refine x_newa 238 (Or.inl rfl) rfl q526 dX5_init_238 fun i30 => ?_
  refine x_putR 240 fa_X5_98_4 rfl (Or.inr ⟨rfl, rfl, rfl⟩) dX5_init_240 ?_
  refine x_aload_n 243 0 dX5_init_243 rfl ?_
  refine x_bipush 244 60 (60 : Int32) dX5_init_244 rfl ?_
  refine x_newa 246 (Or.inl rfl) rfl q526 dX5_init_246 fun i31 => ?_
  refine x_putR 248 fa_X5_101_4 rfl (Or.inr ⟨rfl, rfl, rfl⟩) dX5_init_248 ?_
  refine x_aload_n 251 0 dX5_init_251 rfl ?_
  refine x_bipush 252 60 (60 : Int32) dX5_init_252 rfl ?_
  refine x_newa 254 (Or.inr (Or.inl rfl)) rfl q2666 dX5_init_254 fun i32 => ?_
  refine x_putR 256 fa_X5_104_4 rfl (Or.inr ⟨rfl, rfl, rfl⟩) dX5_init_256 ?_
  refine x_aload_n 259 0 dX5_init_259 rfl ?_
  refine x_sipush 260 180 (180 : Int32) dX5_init_260 rfl ?_
  refine x_newa 263 (Or.inl rfl) rfl q526 dX5_init_263 fun i33 => ?_
  refine x_putR 265 fa_X5_107_4 rfl (Or.inr ⟨rfl, rfl, rfl⟩) dX5_init_265 ?_
  refine x_aload_n 268 0 dX5_init_268 rfl ?_
  refine x_bipush 269 28 (28 : Int32) dX5_init_269 rfl ?_
  refine x_newa 271 (Or.inl rfl) rfl q526 dX5_init_271 fun i34 => ?_
  refine x_putR 273 fa_X5_110_4 rfl (Or.inr ⟨rfl, rfl, rfl⟩) dX5_init_273 ?_
  refine x_aload_n 276 0 dX5_init_276 rfl ?_
  refine x_iconst 277 4 (4 : Int32) dX5_init_277 rfl ?_
  refine x_newa 278 (Or.inl rfl) rfl q526 dX5_init_278 fun i35 => ?_
  refine x_putR 280 fa_X5_113_4 rfl (Or.inr ⟨rfl, rfl, rfl⟩) dX5_init_280 ?_
  refine x_aload_n 283 0 dX5_init_283 rfl ?_
  refine x_bipush 284 60 (60 : Int32) dX5_init_284 rfl ?_
  refine x_newa 286 (Or.inl rfl) rfl q526 dX5_init_286 fun i36 => ?_
  refine x_putR 288 fa_X5_116_4 rfl (Or.inr ⟨rfl, rfl, rfl⟩) dX5_init_288 ?_
  refine x_aload_n 291 0 dX5_init_291 rfl ?_
  refine x_bipush 292 60 (60 : Int32) dX5_init_292 rfl ?_
  refine x_newa 294 (Or.inl rfl) rfl q526 dX5_init_294 fun i37 => ?_
  refine x_putR 296 fa_X5_119_4 rfl (Or.inr ⟨rfl, rfl, rfl⟩) dX5_init_296 ?_
  refine x_aload_n 299 0 dX5_init_299 rfl ?_
  refine x_bipush 300 60 (60 : Int32) dX5_init_300 rfl ?_
  refine x_newa 302 (Or.inl rfl) rfl q526 dX5_init_302 fun i38 => ?_
  refine x_putR 304 fa_X5_122_4 rfl (Or.inr ⟨rfl, rfl, rfl⟩) dX5_init_304 ?_
  refine x_aload_n 307 0 dX5_init_307 rfl ?_
  refine x_bipush 308 60 (60 : Int32) dX5_init_308 rfl ?_
  refine x_newa 310 (Or.inl rfl) rfl q526 dX5_init_310 fun i39 => ?_
  refine x_putR 312 fa_X5_125_4 rfl (Or.inr ⟨rfl, rfl, rfl⟩) dX5_init_312 ?_
  refine x_aload_n 315 0 dX5_init_315 rfl ?_
  refine x_bipush 316 60 (60 : Int32) dX5_init_316 rfl ?_
  refine x_newa 318 (Or.inl rfl) rfl q526 dX5_init_318 fun i40 => ?_
  refine x_putR 320 fa_X5_128_4 rfl (Or.inr ⟨rfl, rfl, rfl⟩) dX5_init_320 ?_
  refine x_aload_n 323 0 dX5_init_323 rfl ?_
  refine x_bipush 324 60 (60 : Int32) dX5_init_324 rfl ?_
  refine x_newa 326 (Or.inl rfl) rfl q526 dX5_init_326 fun i41 => ?_
  refine x_putR 328 fa_X5_131_4 rfl (Or.inr ⟨rfl, rfl, rfl⟩) dX5_init_328 ?_
  refine x_aload_n 331 0 dX5_init_331 rfl ?_
  refine x_bipush 332 60 (60 : Int32) dX5_init_332 rfl ?_
  refine x_newa 334 (Or.inl rfl) rfl q526 dX5_init_334 fun i42 => ?_
  refine x_putR 336 fa_X5_134_4 rfl (Or.inr ⟨rfl, rfl, rfl⟩) dX5_init_336 ?_
  refine x_aload_n 339 0 dX5_init_339 rfl ?_
  refine x_bipush 340 60 (60 : Int32) dX5_init_340 rfl ?_
  refine x_newa 342 (Or.inl rfl) rfl q526 dX5_init_342 fun i43 => ?_
  refine x_putR 344 fa_X5_137_4 rfl (Or.inr ⟨rfl, rfl, rfl⟩) dX5_init_344 ?_
  refine x_aload_n 347 0 dX5_init_347 rfl ?_
  refine x_bipush 348 60 (60 : Int32) dX5_init_348 rfl ?_
  refine x_newa 350 (Or.inl rfl) rfl q526 dX5_init_350 fun i44 => ?_
  refine x_putR 352 fa_X5_140_4 rfl (Or.inr ⟨rfl, rfl, rfl⟩) dX5_init_352 ?_
  refine x_aload_n 355 0 dX5_init_355 rfl ?_
  refine x_bipush 356 60 (60 : Int32) dX5_init_356 rfl ?_
  refine x_newa 358 (Or.inl rfl) rfl q526 dX5_init_358 fun i45 => ?_
  refine x_putR 360 fa_X5_143_4 rfl (Or.inr ⟨rfl, rfl, rfl⟩) dX5_init_360 ?_
  refine x_aload_n 363 0 dX5_init_363 rfl ?_
  refine x_bipush 364 60 (60 : Int32) dX5_init_364 rfl ?_
  refine x_newa 366 (Or.inr (Or.inl rfl)) rfl q2666 dX5_init_366 fun i46 => ?_
  refine x_putR 368 fa_X5_146_4 rfl (Or.inr ⟨rfl, rfl, rfl⟩) dX5_init_368 ?_
  refine x_aload_n 371 0 dX5_init_371 rfl ?_
  refine x_sipush 372 200 (200 : Int32) dX5_init_372 rfl ?_
  refine x_newa 375 (Or.inl rfl) rfl q526 dX5_init_375 fun i47 => ?_
  refine x_putR 377 fa_X5_149_4 rfl (Or.inr ⟨rfl, rfl, rfl⟩) dX5_init_377 ?_
  refine x_aload_n 380 0 dX5_init_380 rfl ?_
  refine x_sipush 381 200 (200 : Int32) dX5_init_381 rfl ?_
  refine x_newa 384 (Or.inl rfl) rfl q526 dX5_init_384 fun i48 => ?_
  refine x_putR 386 fa_X5_152_4 rfl (Or.inr ⟨rfl, rfl, rfl⟩) dX5_init_386 ?_
  refine x_aload_n 389 0 dX5_init_389 rfl ?_
  refine x_sipush 390 200 (200 : Int32) dX5_init_390 rfl ?_
  refine x_newa 393 (Or.inl rfl) rfl q526 dX5_init_393 fun i49 => ?_
  refine x_putR 395 fa_X5_155_4 rfl (Or.inr ⟨rfl, rfl, rfl⟩) dX5_init_395 ?_
  refine x_aload_n 398 0 dX5_init_398 rfl ?_
  refine x_sipush 399 200 (200 : Int32) dX5_init_399 rfl ?_
  refine x_newa 402 (Or.inl rfl) rfl q526 dX5_init_402 fun i50 => ?_
  refine x_putR 404 fa_X5_158_4 rfl (Or.inr ⟨rfl, rfl, rfl⟩) dX5_init_404 ?_
  refine x_aload_n 407 0 dX5_init_407 rfl ?_
  refine x_sipush 408 200 (200 : Int32) dX5_init_408 rfl ?_
  refine x_newa 411 (Or.inl rfl) rfl q526 dX5_init_411 fun i51 => ?_
  refine x_putR 413 fa_X5_161_4 rfl (Or.inr ⟨rfl, rfl, rfl⟩) dX5_init_413 ?_
  refine x_aload_n 416 0 dX5_init_416 rfl ?_
  refine x_sipush 417 200 (200 : Int32) dX5_init_417 rfl ?_
  refine x_newa 420 (Or.inl rfl) rfl q526 dX5_init_420 fun i52 => ?_
  refine x_putR 422 fa_X5_164_4 rfl (Or.inr ⟨rfl, rfl, rfl⟩) dX5_init_422 ?_
  refine x_aload_n 425 0 dX5_init_425 rfl ?_
  refine x_sipush 426 200 (200 : Int32) dX5_init_426 rfl ?_
  refine x_newa 429 (Or.inl rfl) rfl q526 dX5_init_429 fun i53 => ?_
  refine x_putR 431 fa_X5_167_4 rfl (Or.inr ⟨rfl, rfl, rfl⟩) dX5_init_431 ?_
  refine x_aload_n 434 0 dX5_init_434 rfl ?_
  refine x_iconst 435 1 (1 : Int32) dX5_init_435 rfl ?_
  refine x_putI 436 fa_X5_170_4 rfl (Or.inl rfl) dX5_init_436 ?_
  refine x_aload_n 439 0 dX5_init_439 rfl ?_
  refine x_iconst 440 (-1) (-1 : Int32) dX5_init_440 rfl ?_
  refine x_putI 441 fa_X5_174_4 rfl (Or.inl rfl) dX5_init_441 ?_
  refine x_aload_n 444 0 dX5_init_444 rfl ?_
  refine x_bipush 445 20 (20 : Int32) dX5_init_445 rfl ?_
  refine x_newa 447 (Or.inr (Or.inl rfl)) rfl q2666 dX5_init_447 fun i54 => ?_
  refine x_putR 449 fa_X5_177_4 rfl (Or.inr ⟨rfl, rfl, rfl⟩) dX5_init_449 ?_
  refine x_aload_n 452 0 dX5_init_452 rfl ?_
  refine x_bipush 453 20 (20 : Int32) dX5_init_453 rfl ?_
  refine x_newa 455 (Or.inl rfl) rfl q526 dX5_init_455 fun i55 => ?_
  refine x_putR 457 fa_X5_180_4 rfl (Or.inr ⟨rfl, rfl, rfl⟩) dX5_init_457 ?_
  refine x_aload_n 460 0 dX5_init_460 rfl ?_
  refine x_iconst 461 4 (4 : Int32) dX5_init_461 rfl ?_
  refine x_newa 462 (Or.inr (Or.inl rfl)) rfl q2666 dX5_init_462 fun i56 => ?_
  refine x_putR 464 fa_X5_183_4 rfl (Or.inr ⟨rfl, rfl, rfl⟩) dX5_init_464 ?_
  refine x_aload_n 467 0 dX5_init_467 rfl ?_
  refine x_iconst 468 4 (4 : Int32) dX5_init_468 rfl ?_
  refine x_newa 469 (Or.inl rfl) rfl q526 dX5_init_469 fun i57 => ?_
  refine x_putR 471 fa_X5_186_4 rfl (Or.inr ⟨rfl, rfl, rfl⟩) dX5_init_471 ?_
  refine x_aload_n 474 0 dX5_init_474 rfl ?_
  refine x_iconst 475 4 (4 : Int32) dX5_init_475 rfl ?_
  refine x_newa 476 (Or.inl rfl) rfl q526 dX5_init_476 fun i58 => ?_
  refine x_putR 478 fa_X5_189_4 rfl (Or.inr ⟨rfl, rfl, rfl⟩) dX5_init_478 ?_
  refine x_aload_n 481 0 dX5_init_481 rfl ?_
  refine x_sipush 482 240 (240 : Int32) dX5_init_482 rfl ?_
  refine x_newa 485 (Or.inr (Or.inl rfl)) rfl q2666 dX5_init_485 fun i59 => ?_
  refine x_putR 487 fa_X5_192_4 rfl (Or.inr ⟨rfl, rfl, rfl⟩) dX5_init_487 ?_
  refine x_aload_n 490 0 dX5_init_490 rfl ?_
  refine x_bipush 491 20 (20 : Int32) dX5_init_491 rfl ?_
  refine x_newa 493 (Or.inl rfl) rfl q526 dX5_init_493 fun i60 => ?_
  refine x_putR 495 fa_X5_195_4 rfl (Or.inr ⟨rfl, rfl, rfl⟩) dX5_init_495 ?_
  refine x_aload_n 498 0 dX5_init_498 rfl ?_
  refine x_bipush 499 20 (20 : Int32) dX5_init_499 rfl ?_
  refine x_newa 501 (Or.inl rfl) rfl q526 dX5_init_501 fun i61 => ?_
  refine x_putR 503 fa_X5_198_4 rfl (Or.inr ⟨rfl, rfl, rfl⟩) dX5_init_503 ?_
  refine x_aload_n 506 0 dX5_init_506 rfl ?_
  refine x_bipush 507 20 (20 : Int32) dX5_init_507 rfl ?_
  refine x_newa 509 (Or.inr (Or.inl rfl)) rfl q2666 dX5_init_509 fun i62 => ?_
  refine x_putR 511 fa_X5_201_4 rfl (Or.inr ⟨rfl, rfl, rfl⟩) dX5_init_511 ?_
  refine x_aload_n 514 0 dX5_init_514 rfl ?_
  refine x_bipush 515 20 (20 : Int32) dX5_init_515 rfl ?_
  refine x_newa 517 (Or.inl rfl) rfl q526 dX5_init_517 fun i63 => ?_
  refine x_putR 519 fa_X5_204_4 rfl (Or.inr ⟨rfl, rfl, rfl⟩) dX5_init_519 ?_
  refine x_aload_n 522 0 dX5_init_522 rfl ?_
  refine x_bipush 523 20 (20 : Int32) dX5_init_523 rfl ?_
  refine x_newa 525 (Or.inl rfl) rfl q526 dX5_init_525 fun i64 => ?_
  refine x_putR 527 fa_X5_207_4 rfl (Or.inr ⟨rfl, rfl, rfl⟩) dX5_init_527 ?_
  refine x_aload_n 530 0 dX5_init_530 rfl ?_
  refine x_bipush 531 6 (6 : Int32) dX5_init_531 rfl ?_
  refine x_newa 533 (Or.inl rfl) rfl q526 dX5_init_533 fun i65 => ?_
  refine x_putR 535 fa_X5_210_4 rfl (Or.inr ⟨rfl, rfl, rfl⟩) dX5_init_535 ?_
  refine x_aload_n 538 0 dX5_init_538 rfl ?_
  refine x_sipush 539 1200 (1200 : Int32) dX5_init_539 rfl ?_
  refine x_newa 542 (Or.inl rfl) rfl q526 dX5_init_542 fun i66 => ?_
  refine x_putR 544 fa_X5_213_4 rfl (Or.inr ⟨rfl, rfl, rfl⟩) dX5_init_544 ?_
  refine x_aload_n 547 0 dX5_init_547 rfl ?_
  refine x_sipush 548 1200 (1200 : Int32) dX5_init_548 rfl ?_
  refine x_newa 551 (Or.inl rfl) rfl q526 dX5_init_551 fun i67 => ?_
  refine x_putR 553 fa_X5_216_4 rfl (Or.inr ⟨rfl, rfl, rfl⟩) dX5_init_553 ?_
  refine x_aload_n 556 0 dX5_init_556 rfl ?_
  refine x_sipush 557 1200 (1200 : Int32) dX5_init_557 rfl ?_
  refine x_newa 560 (Or.inl rfl) rfl q526 dX5_init_560 fun i68 => ?_
  refine x_putR 562 fa_X5_219_4 rfl (Or.inr ⟨rfl, rfl, rfl⟩) dX5_init_562 ?_
  refine x_aload_n 565 0 dX5_init_565 rfl ?_
  refine x_bipush 566 7 (7 : Int32) dX5_init_566 rfl ?_
  refine x_putI 568 fa_X5_222_4 rfl (Or.inl rfl) dX5_init_568 ?_
  refine x_iconst 571 0 (0 : Int32) dX5_init_571 rfl ?_
  refine x_istore_n 572 [(1, .int (0 : Int32)), (0, .ref (idc 4 i0))] dX5_init_572 (by decide) rfl ?_
  refine x_sub [1, 0] [(0, .ref (idc 4 i0)), (1, .int (0 : Int32))] rfl ?_
  refine x_bndj 594 (fun _ => [(0, .ref (idc 4 i0))]) (fun _ => []) (fun _ => ?_) (fun hj71 => ?_)
  · show TX g Γ _ Z _ 594 [(0, .ref (idc 4 i0))] [] _
    refine x_aload_n 594 0 dX5_init_594 rfl ?_
    refine x_getR 595 fa_X5_56_4 dX5_init_595 fun v76 => ?_
    refine x_iconst 598 0 (0 : Int32) dX5_init_598 rfl ?_
    refine x_iconst 599 2 (2 : Int32) dX5_init_599 rfl ?_
    refine x_isK fun i77 h78 => ?_
    subst h78
    refine x_iast 600 dX5_init_600 ?_
    refine x_aload_n 601 0 dX5_init_601 rfl ?_
    refine x_getR 602 fa_X5_56_4 dX5_init_602 fun v79 => ?_
    refine x_iconst 605 1 (1 : Int32) dX5_init_605 rfl ?_
    refine x_iconst 606 1 (1 : Int32) dX5_init_606 rfl ?_
    refine x_isK fun i80 h81 => ?_
    subst h81
    refine x_iast 607 dX5_init_607 ?_
    refine x_aload_n 608 0 dX5_init_608 rfl ?_
    refine x_getR 609 fa_X5_56_4 dX5_init_609 fun v82 => ?_
    refine x_iconst 612 2 (2 : Int32) dX5_init_612 rfl ?_
    refine x_iconst 613 1 (1 : Int32) dX5_init_613 rfl ?_
    refine x_isK fun i83 h84 => ?_
    subst h84
    refine x_iast 614 dX5_init_614 ?_
    refine x_iconst 615 0 (0 : Int32) dX5_init_615 rfl ?_
    refine x_istore_n 616 [(1, .int (0 : Int32)), (0, .ref (idc 4 i0))] dX5_init_616 (by decide) rfl ?_
    refine x_sub [1, 0] [(0, .ref (idc 4 i0)), (1, .int (0 : Int32))] rfl ?_
    refine x_bndj 635 (fun _ => [(0, .ref (idc 4 i0))]) (fun _ => []) (fun _ => ?_) (fun hj87 => ?_)
    · show TX g Γ _ Z _ 635 [(0, .ref (idc 4 i0))] [] _
      refine x_iconst 635 0 (0 : Int32) dX5_init_635 rfl ?_
      refine x_istore_n 636 [(1, .int (0 : Int32)), (0, .ref (idc 4 i0))] dX5_init_636 (by decide) rfl ?_
      refine x_sub [1, 0] [(0, .ref (idc 4 i0)), (1, .int (0 : Int32))] rfl ?_
      refine x_bndj 655 (fun _ => [(0, .ref (idc 4 i0))]) (fun _ => []) (fun _ => ?_) (fun hj94 => ?_)
      · show TX g Γ _ Z _ 655 [(0, .ref (idc 4 i0))] [] _
        refine x_iconst 655 0 (0 : Int32) dX5_init_655 rfl ?_
        refine x_istore_n 656 [(1, .int (0 : Int32)), (0, .ref (idc 4 i0))] dX5_init_656 (by decide) rfl ?_
        refine x_sub [1, 0] [(0, .ref (idc 4 i0)), (1, .int (0 : Int32))] rfl ?_
        refine x_bndj 676 (fun _ => [(0, .ref (idc 4 i0))]) (fun _ => []) (fun _ => ?_) (fun hj101 => ?_)
        · show TX g Γ _ Z _ 676 [(0, .ref (idc 4 i0))] [] _
          refine x_iconst 676 0 (0 : Int32) dX5_init_676 rfl ?_
          refine x_istore_n 677 [(1, .int (0 : Int32)), (0, .ref (idc 4 i0))] dX5_init_677 (by decide) rfl ?_
          refine x_sub [1, 0] [(0, .ref (idc 4 i0)), (1, .int (0 : Int32))] rfl ?_
          refine x_lp (Lf := fun u106 => [(0, .ref (idc 4 i0)), (1, .int u106)]) (sf := fun _ => []) (fun r107 hr107 u106 => ?_) (0 : Int32)
          show TX g Γ _ Z _ 678 [(0, .ref (idc 4 i0)), (1, .int u106)] [] _
          refine x_iload_n 678 1 dX5_init_678 rfl ?_
          refine x_bipush 679 6 (6 : Int32) dX5_init_679 rfl ?_
          refine x_icmp_ge 681 697 dX5_init_681 rfl (fun c108 => ?_) (fun c108 => ?_)
          · exact x_vret 697 hZ rfl dX5_init_697
          · refine x_aload_n 684 0 dX5_init_684 rfl ?_
            refine x_getR 685 fa_X5_210_4 dX5_init_685 fun v109 => ?_
            refine x_iload_n 688 1 dX5_init_688 rfl ?_
            refine x_iconst 689 (-1) (-1 : Int32) dX5_init_689 rfl ?_
            refine x_isK fun i110 h111 => ?_
            subst h111
            refine x_iast 690 dX5_init_690 ?_
            refine x_iinc 691 1 [(1, .int (u106 + (1 : Int32))), (0, .ref (idc 4 i0))] dX5_init_691 rfl rfl (by decide) rfl ?_
            refine x_goto 694 678 dX5_init_694 rfl ?_
            refine x_sub [1, 0] _ rfl ?_
            exact hr107 (u106 + (1 : Int32))
        · refine x_lp (Lf := fun u99 => [(0, .ref (idc 4 i0)), (1, .int u99)]) (sf := fun _ => []) (fun r100 hr100 u99 => ?_) (0 : Int32)
          show TX g Γ _ Z _ 657 [(0, .ref (idc 4 i0)), (1, .int u99)] [] _
          refine x_iload_n 657 1 dX5_init_657 rfl ?_
          refine x_bipush 658 20 (20 : Int32) dX5_init_658 rfl ?_
          refine x_icmp_ge 660 676 dX5_init_660 rfl (fun c102 => ?_) (fun c102 => ?_)
          · refine x_sub [0] _ rfl ?_
            exact hj101 ()
          · refine x_aload_n 663 0 dX5_init_663 rfl ?_
            refine x_getR 664 fa_X5_180_4 dX5_init_664 fun v103 => ?_
            refine x_iload_n 667 1 dX5_init_667 rfl ?_
            refine x_iconst 668 (-1) (-1 : Int32) dX5_init_668 rfl ?_
            refine x_isK fun i104 h105 => ?_
            subst h105
            refine x_iast 669 dX5_init_669 ?_
            refine x_iinc 670 1 [(1, .int (u99 + (1 : Int32))), (0, .ref (idc 4 i0))] dX5_init_670 rfl rfl (by decide) rfl ?_
            refine x_goto 673 657 dX5_init_673 rfl ?_
            refine x_sub [1, 0] _ rfl ?_
            exact hr100 (u99 + (1 : Int32))
      · refine x_lp (Lf := fun u92 => [(0, .ref (idc 4 i0)), (1, .int u92)]) (sf := fun _ => []) (fun r93 hr93 u92 => ?_) (0 : Int32)
        show TX g Γ _ Z _ 637 [(0, .ref (idc 4 i0)), (1, .int u92)] [] _
        refine x_iload_n 637 1 dX5_init_637 rfl ?_
        refine x_iconst 638 4 (4 : Int32) dX5_init_638 rfl ?_
        refine x_icmp_ge 639 655 dX5_init_639 rfl (fun c95 => ?_) (fun c95 => ?_)
        · refine x_sub [0] _ rfl ?_
          exact hj94 ()
        · refine x_aload_n 642 0 dX5_init_642 rfl ?_
          refine x_getR 643 fa_X5_186_4 dX5_init_643 fun v96 => ?_
          refine x_iload_n 646 1 dX5_init_646 rfl ?_
          refine x_iconst 647 1 (1 : Int32) dX5_init_647 rfl ?_
          refine x_isK fun i97 h98 => ?_
          subst h98
          refine x_iast 648 dX5_init_648 ?_
          refine x_iinc 649 1 [(1, .int (u92 + (1 : Int32))), (0, .ref (idc 4 i0))] dX5_init_649 rfl rfl (by decide) rfl ?_
          refine x_goto 652 637 dX5_init_652 rfl ?_
          refine x_sub [1, 0] _ rfl ?_
          exact hr93 (u92 + (1 : Int32))
    · refine x_lp (Lf := fun u85 => [(0, .ref (idc 4 i0)), (1, .int u85)]) (sf := fun _ => []) (fun r86 hr86 u85 => ?_) (0 : Int32)
      show TX g Γ _ Z _ 617 [(0, .ref (idc 4 i0)), (1, .int u85)] [] _
      refine x_iload_n 617 1 dX5_init_617 rfl ?_
      refine x_iconst 618 3 (3 : Int32) dX5_init_618 rfl ?_
      refine x_icmp_ge 619 635 dX5_init_619 rfl (fun c88 => ?_) (fun c88 => ?_)
      · refine x_sub [0] _ rfl ?_
        exact hj87 ()
      · refine x_aload_n 622 0 dX5_init_622 rfl ?_
        refine x_getR 623 fa_X5_59_4 dX5_init_623 fun v89 => ?_
        refine x_iload_n 626 1 dX5_init_626 rfl ?_
        refine x_iconst 627 (-1) (-1 : Int32) dX5_init_627 rfl ?_
        refine x_isK fun i90 h91 => ?_
        subst h91
        refine x_iast 628 dX5_init_628 ?_
        refine x_iinc 629 1 [(1, .int (u85 + (1 : Int32))), (0, .ref (idc 4 i0))] dX5_init_629 rfl rfl (by decide) rfl ?_
        refine x_goto 632 617 dX5_init_632 rfl ?_
        refine x_sub [1, 0] _ rfl ?_
        exact hr86 (u85 + (1 : Int32))
  · refine x_lp (Lf := fun u69 => [(0, .ref (idc 4 i0)), (1, .int u69)]) (sf := fun _ => []) (fun r70 hr70 u69 => ?_) (0 : Int32)
    show TX g Γ _ Z _ 573 [(0, .ref (idc 4 i0)), (1, .int u69)] [] _
    refine x_iload_n 573 1 dX5_init_573 rfl ?_
    refine x_bipush 574 18 (18 : Int32) dX5_init_574 rfl ?_
    refine x_icmp_ge 576 594 dX5_init_576 rfl (fun c72 => ?_) (fun c72 => ?_)
    · refine x_sub [0] _ rfl ?_
      exact hj71 ()
    · refine x_aload_n 579 0 dX5_init_579 rfl ?_
      refine x_getR 580 fa_X5_19_4 dX5_init_580 fun v73 => ?_
      refine x_iload_n 583 1 dX5_init_583 rfl ?_
      refine x_sipush 584 (-1000) (-1000 : Int32) dX5_init_584 rfl ?_
      refine x_isK fun i74 h75 => ?_
      subst h75
      refine x_iast 587 dX5_init_587 ?_
      refine x_iinc 588 1 [(1, .int (u69 + (1 : Int32))), (0, .ref (idc 4 i0))] dX5_init_588 rfl rfl (by decide) rfl ?_
      refine x_goto 591 573 dX5_init_591 rfl ?_
      refine x_sub [1, 0] _ rfl ?_
      exact hr70 (u69 + (1 : Int32))
def f_X5_thrown (i0 : Nat) : PT Int32 := gI 4 i0 82 fun v1 => rt v1
theorem im_X5_thrown {g : GP} {l : Launch} (hl : l.stackTraces = false) (i0 : Nat) : Im g l 0 yX5_thrown cX5_thrown 1 (some .int) eI [.ref (idc 4 i0)] (f_X5_thrown i0) := by
  refine tx_start hl 0 _ _ _ _ (by decide) (Nat.le_of_ble_eq_true rfl) fun Γ Z hΓ hZ => ?_
  subst hΓ
  unfold f_X5_thrown
  show TX g Γ _ Z _ 0 [(0, .ref (idc 4 i0))] [] _
  refine x_aload_n 0 0 dX5_thrown_0 rfl ?_
  refine x_getI 1 fa_X5_225_4 dX5_thrown_1 fun v1 => ?_
  exact x_iret 4 hZ rfl dX5_thrown_4
def f_X5_audits (i0 : Nat) : PT Int32 := pI 4 i0 82 (0 : Int32) <| gI 4 i0 77 fun v1 => rt v1
theorem im_X5_audits {g : GP} {l : Launch} (hl : l.stackTraces = false) (i0 : Nat) : Im g l 0 yX5_audits cX5_audits 1 (some .int) eI [.ref (idc 4 i0)] (f_X5_audits i0) := by
  refine tx_start hl 0 _ _ _ _ (by decide) (Nat.le_of_ble_eq_true rfl) fun Γ Z hΓ hZ => ?_
  subst hΓ
  unfold f_X5_audits
  show TX g Γ _ Z _ 0 [(0, .ref (idc 4 i0))] [] _
  refine x_aload_n 0 0 dX5_audits_0 rfl ?_
  refine x_iconst 1 0 (0 : Int32) dX5_audits_1 rfl ?_
  refine x_putI 2 fa_X5_225_4 rfl (Or.inl rfl) dX5_audits_2 ?_
  refine x_aload_n 5 0 dX5_audits_5 rfl ?_
  refine x_getI 6 fa_X5_244_4 dX5_audits_6 fun v1 => ?_
  exact x_iret 9 hZ rfl dX5_audits_9
def f_X5_isIn (a1 : Int32) (a2 : Int32) (a3 : Int32) : PT Int32 := cnd (a1 < a2) (asr ((0 : Int32) = 0 ∨ (0 : Int32) = 1) (rt (0 : Int32))) (cnd (a3 < a1) (asr ((0 : Int32) = 0 ∨ (0 : Int32) = 1) (rt (0 : Int32))) (asr ((1 : Int32) = 0 ∨ (1 : Int32) = 1) (rt (1 : Int32))))
theorem im_X5_isIn {g : GP} {l : Launch} (hl : l.stackTraces = false) (a1 : Int32) (a2 : Int32) (a3 : Int32) : Im g l 0 yX5_isIn cX5_isIn 3 (some .boolean) eI [.int a1, .int a2, .int a3] (f_X5_isIn a1 a2 a3) := by
  refine tx_start hl 0 _ _ _ _ (by decide) (Nat.le_of_ble_eq_true rfl) fun Γ Z hΓ hZ => ?_
  subst hΓ
  unfold f_X5_isIn
  show TX g Γ _ Z _ 0 [(0, .int a1), (1, .int a2), (2, .int a3)] [] _
  refine x_iload_n 0 0 dX5_isIn_0 rfl ?_
  refine x_iload_n 1 1 dX5_isIn_1 rfl ?_
  refine x_icmp_lt 2 14 dX5_isIn_2 rfl (fun c1 => ?_) (fun c1 => ?_)
  · refine x_iconst 14 0 (0 : Int32) dX5_isIn_14 rfl ?_
    exact x_zret 15 hZ rfl dX5_isIn_15
  · refine x_iload_n 5 0 dX5_isIn_5 rfl ?_
    refine x_iload_n 6 2 dX5_isIn_6 rfl ?_
    refine x_icmp_gt 7 14 dX5_isIn_7 rfl (fun c2 => ?_) (fun c2 => ?_)
    · refine x_iconst 14 0 (0 : Int32) dX5_isIn_14 rfl ?_
      exact x_zret 15 hZ rfl dX5_isIn_15
    · refine x_iconst 10 1 (1 : Int32) dX5_isIn_10 rfl ?_
      refine x_goto 11 15 dX5_isIn_11 rfl ?_
      exact x_zret 15 hZ rfl dX5_isIn_15
def f_X5_may (i0 : Nat) (a1 : Int32) : PT Int32 := bnd (ρ := _) (α := Int32) (cnd (a1 = 0) (rt (1 : Int32)) (rt (0 : Int32))) (fun u1 => pI 4 i0 82 u1 <| asr (a1 = 0 ∨ a1 = 1) (rt a1))
theorem im_X5_may {g : GP} {l : Launch} (hl : l.stackTraces = false) (i0 : Nat) (a1 : Int32) : Im g l 0 yX5_may cX5_may 2 (some .boolean) eI [.ref (idc 4 i0), .int a1] (f_X5_may i0 a1) := by
  refine tx_start hl 0 _ _ _ _ (by decide) (Nat.le_of_ble_eq_true rfl) fun Γ Z hΓ hZ => ?_
  subst hΓ
  unfold f_X5_may
  show TX g Γ _ Z _ 0 [(0, .ref (idc 4 i0)), (1, .int a1)] [] _
  refine x_aload_n 0 0 dX5_may_0 rfl ?_
  refine x_iload_n 1 1 dX5_may_1 rfl ?_
  refine x_bndj 10 (fun u1 => [(1, .int a1)]) (fun u1 => [.int u1, .ref (idc 4 i0)]) (fun u1 => ?_) (fun hj2 => ?_)
  · show TX g Γ _ Z _ 10 [(1, .int a1)] [.int u1, .ref (idc 4 i0)] _
    refine x_putI 10 fa_X5_225_4 rfl (Or.inl rfl) dX5_may_10 ?_
    refine x_iload_n 13 0 dX5_may_13 rfl ?_
    exact x_zret 14 hZ rfl dX5_may_14
  · refine x_if_eq 2 9 dX5_may_2 rfl (fun c3 => ?_) (fun c3 => ?_)
    · refine x_iconst 9 1 (1 : Int32) dX5_may_9 rfl ?_
      refine x_sub [1] _ rfl ?_
      exact hj2 (1 : Int32)
    · refine x_iconst 5 0 (0 : Int32) dX5_may_5 rfl ?_
      refine x_goto 6 10 dX5_may_6 rfl ?_
      refine x_sub [1] _ rfl ?_
      exact hj2 (0 : Int32)
def f_X5_audit (i0 : Nat) (a1 : Int32) : PT Int32 := gI 4 i0 77 fun v1 => bn0 (f_X5_isIn a1 (0 : Int32) (v1 - (1 : Int32))) fun v2 => bn0 (f_X5_may i0 v2) fun v3 => cnd (v3 = 0) (rt (0 : Int32)) (gR 4 i0 78 fun v5 => isK 32 v5 fun i6 => aI 32 i6 a1 fun v8 => gR 4 i0 79 fun v9 => isK 32 v9 fun i10 => aI 32 i10 a1 fun v12 => rt (((1000 : Int32) * v8) + v12))
theorem im_X5_audit {g : GP} {l : Launch} (hl : l.stackTraces = false) (i0 : Nat) (a1 : Int32) : Im g l 1 yX5_audit cX5_audit 2 (some .int) eI [.ref (idc 4 i0), .int a1] (f_X5_audit i0 a1) := by
  refine tx_start hl 1 _ _ _ _ (by decide) (Nat.le_of_ble_eq_true rfl) fun Γ Z hΓ hZ => ?_
  subst hΓ
  unfold f_X5_audit
  show TX g Γ _ Z _ 0 [(0, .ref (idc 4 i0)), (1, .int a1)] [] _
  refine x_aload_n 0 0 dX5_audit_0 rfl ?_
  refine x_iload_n 1 1 dX5_audit_1 rfl ?_
  refine x_iconst 2 0 (0 : Int32) dX5_audit_2 rfl ?_
  refine x_aload_n 3 0 dX5_audit_3 rfl ?_
  refine x_getI 4 fa_X5_244_4 dX5_audit_4 fun v1 => ?_
  refine x_iconst 7 1 (1 : Int32) dX5_audit_7 rfl ?_
  refine x_isub 8 dX5_audit_8 ?_
  refine x_cS 9 0 [.int a1, .int (0 : Int32), .int (v1 - (1 : Int32))] [.ref (idc 4 i0)] cs_X5_228 (im_X5_isIn hl a1 (0 : Int32) (v1 - (1 : Int32))) (by decide) rfl (Nat.le_of_ble_eq_true rfl) dX5_audit_9 fun v2 => x_stI ?_
  refine x_cV 12 0 [.int v2] [] ⟨by decide, rfl⟩ cv_X5_251 (im_X5_may hl i0 v2) (by decide) rfl (Nat.le_of_ble_eq_true rfl) dX5_audit_12 fun v3 => x_stI ?_
  refine x_if_eq 15 38 dX5_audit_15 rfl (fun c4 => ?_) (fun c4 => ?_)
  · refine x_iconst 38 0 (0 : Int32) dX5_audit_38 rfl ?_
    exact x_iret 39 hZ rfl dX5_audit_39
  · refine x_sipush 18 1000 (1000 : Int32) dX5_audit_18 rfl ?_
    refine x_aload_n 21 0 dX5_audit_21 rfl ?_
    refine x_getR 22 fa_X5_213_4 dX5_audit_22 fun v5 => ?_
    refine x_iload_n 25 1 dX5_audit_25 rfl ?_
    refine x_isK fun i6 h7 => ?_
    subst h7
    refine x_iald 26 dX5_audit_26 fun v8 => ?_
    refine x_imul 27 dX5_audit_27 ?_
    refine x_aload_n 28 0 dX5_audit_28 rfl ?_
    refine x_getR 29 fa_X5_216_4 dX5_audit_29 fun v9 => ?_
    refine x_iload_n 32 1 dX5_audit_32 rfl ?_
    refine x_isK fun i10 h11 => ?_
    subst h11
    refine x_iald 33 dX5_audit_33 fun v12 => ?_
    refine x_iadd 34 dX5_audit_34 ?_
    refine x_goto 35 39 dX5_audit_35 rfl ?_
    exact x_iret 39 hZ rfl dX5_audit_39
def f_X5_sum (i0 : Nat) : PT Int32 := pI 4 i0 82 (0 : Int32) <| gI 4 i0 81 fun v1 => rt v1
theorem im_X5_sum {g : GP} {l : Launch} (hl : l.stackTraces = false) (i0 : Nat) : Im g l 0 yX5_sum cX5_sum 1 (some .int) eI [.ref (idc 4 i0)] (f_X5_sum i0) := by
  refine tx_start hl 0 _ _ _ _ (by decide) (Nat.le_of_ble_eq_true rfl) fun Γ Z hΓ hZ => ?_
  subst hΓ
  unfold f_X5_sum
  show TX g Γ _ Z _ 0 [(0, .ref (idc 4 i0))] [] _
  refine x_aload_n 0 0 dX5_sum_0 rfl ?_
  refine x_iconst 1 0 (0 : Int32) dX5_sum_1 rfl ?_
  refine x_putI 2 fa_X5_225_4 rfl (Or.inl rfl) dX5_sum_2 ?_
  refine x_aload_n 5 0 dX5_sum_5 rfl ?_
  refine x_getI 6 fa_X5_222_4 dX5_sum_6 fun v1 => ?_
  exact x_iret 9 hZ rfl dX5_sum_9
def f_X5_sumAnew (i0 : Nat) (a1 : Int32) : PT Int32 := gI 4 i0 77 fun v1 => bn0 (f_X5_isIn a1 (0 : Int32) v1) fun v2 => bn0 (f_X5_may i0 v2) fun v3 => cnd (v3 = 0) (rt (0 : Int32)) (lp (σ := Int32 × Int32) (fun r7 => un2 fun u5 u6 => cnd (a1 ≤ u6) (rt u5) (gR 4 i0 78 fun v9 => isK 32 v9 fun i10 => aI 32 i10 u6 fun v12 => gR 4 i0 79 fun v13 => isK 32 v13 fun i14 => aI 32 i14 u6 fun v16 => gR 4 i0 80 fun v17 => isK 32 v17 fun i18 => aI 32 i18 u6 fun v20 => bnd (rt ((((((31 : Int32) * u5) + ((100 : Int32) * v12)) + v16) + v20) - (((((31 : Int32) * u5) + ((100 : Int32) * v12)) + v16) + v20) / (65521 : Int32) * (65521 : Int32))) fun v21 => r7 (v21, u6 + (1 : Int32)))) ((7 : Int32), (0 : Int32)))
theorem im_X5_sumAnew {g : GP} {l : Launch} (hl : l.stackTraces = false) (i0 : Nat) (a1 : Int32) : Im g l 1 yX5_sumAnew cX5_sumAnew 4 (some .int) eI [.ref (idc 4 i0), .int a1] (f_X5_sumAnew i0 a1) := by
  refine tx_start hl 1 _ _ _ _ (by decide) (Nat.le_of_ble_eq_true rfl) fun Γ Z hΓ hZ => ?_
  subst hΓ
  unfold f_X5_sumAnew
  show TX g Γ _ Z _ 0 [(0, .ref (idc 4 i0)), (1, .int a1)] [] _
  refine x_aload_n 0 0 dX5_sumAnew_0 rfl ?_
  refine x_iload_n 1 1 dX5_sumAnew_1 rfl ?_
  refine x_iconst 2 0 (0 : Int32) dX5_sumAnew_2 rfl ?_
  refine x_aload_n 3 0 dX5_sumAnew_3 rfl ?_
  refine x_getI 4 fa_X5_244_4 dX5_sumAnew_4 fun v1 => ?_
  refine x_cS 7 0 [.int a1, .int (0 : Int32), .int v1] [.ref (idc 4 i0)] cs_X5_228 (im_X5_isIn hl a1 (0 : Int32) v1) (by decide) rfl (Nat.le_of_ble_eq_true rfl) dX5_sumAnew_7 fun v2 => x_stI ?_
  refine x_cV 10 0 [.int v2] [] ⟨by decide, rfl⟩ cv_X5_251 (im_X5_may hl i0 v2) (by decide) rfl (Nat.le_of_ble_eq_true rfl) dX5_sumAnew_10 fun v3 => x_stI ?_
  refine x_if_ne 13 18 dX5_sumAnew_13 rfl (fun c4 => ?_) (fun c4 => ?_)
  · refine x_iconst 16 0 (0 : Int32) dX5_sumAnew_16 rfl ?_
    exact x_iret 17 hZ rfl dX5_sumAnew_17
  · refine x_bipush 18 7 (7 : Int32) dX5_sumAnew_18 rfl ?_
    refine x_istore_n 20 [(2, .int (7 : Int32)), (0, .ref (idc 4 i0)), (1, .int a1)] dX5_sumAnew_20 (by decide) rfl ?_
    refine x_iconst 21 0 (0 : Int32) dX5_sumAnew_21 rfl ?_
    refine x_istore_n 22 [(3, .int (0 : Int32)), (2, .int (7 : Int32)), (0, .ref (idc 4 i0)), (1, .int a1)] dX5_sumAnew_22 (by decide) rfl ?_
    refine x_sub [2, 3, 1, 0] [(0, .ref (idc 4 i0)), (1, .int a1), (2, .int (7 : Int32)), (3, .int (0 : Int32))] rfl ?_
    refine x_lp (Lf := fun u => [(0, .ref (idc 4 i0)), (1, .int a1), (2, .int u.1), (3, .int u.2)]) (sf := fun _ => []) (fun r7 hr7 u => ?_) ((7 : Int32), (0 : Int32))
    obtain ⟨u5, u6⟩ := u
    show TX g Γ _ Z _ 23 [(0, .ref (idc 4 i0)), (1, .int a1), (2, .int u5), (3, .int u6)] [] _
    refine x_un2 ?_
    refine x_iload_n 23 3 dX5_sumAnew_23 rfl ?_
    refine x_iload_n 24 1 dX5_sumAnew_24 rfl ?_
    refine x_icmp_ge 25 66 dX5_sumAnew_25 rfl (fun c8 => ?_) (fun c8 => ?_)
    · refine x_iload_n 66 2 dX5_sumAnew_66 rfl ?_
      exact x_iret 67 hZ rfl dX5_sumAnew_67
    · refine x_bipush 28 31 (31 : Int32) dX5_sumAnew_28 rfl ?_
      refine x_iload_n 30 2 dX5_sumAnew_30 rfl ?_
      refine x_imul 31 dX5_sumAnew_31 ?_
      refine x_bipush 32 100 (100 : Int32) dX5_sumAnew_32 rfl ?_
      refine x_aload_n 34 0 dX5_sumAnew_34 rfl ?_
      refine x_getR 35 fa_X5_213_4 dX5_sumAnew_35 fun v9 => ?_
      refine x_iload_n 38 3 dX5_sumAnew_38 rfl ?_
      refine x_isK fun i10 h11 => ?_
      subst h11
      refine x_iald 39 dX5_sumAnew_39 fun v12 => ?_
      refine x_imul 40 dX5_sumAnew_40 ?_
      refine x_iadd 41 dX5_sumAnew_41 ?_
      refine x_aload_n 42 0 dX5_sumAnew_42 rfl ?_
      refine x_getR 43 fa_X5_216_4 dX5_sumAnew_43 fun v13 => ?_
      refine x_iload_n 46 3 dX5_sumAnew_46 rfl ?_
      refine x_isK fun i14 h15 => ?_
      subst h15
      refine x_iald 47 dX5_sumAnew_47 fun v16 => ?_
      refine x_iadd 48 dX5_sumAnew_48 ?_
      refine x_aload_n 49 0 dX5_sumAnew_49 rfl ?_
      refine x_getR 50 fa_X5_219_4 dX5_sumAnew_50 fun v17 => ?_
      refine x_iload_n 53 3 dX5_sumAnew_53 rfl ?_
      refine x_isK fun i18 h19 => ?_
      subst h19
      refine x_iald 54 dX5_sumAnew_54 fun v20 => ?_
      refine x_iadd 55 dX5_sumAnew_55 ?_
      refine x_ldc 56 250 (65521 : Int32) dX5_sumAnew_56 q2694 ?_
      refine x_irem 58 dX5_sumAnew_58 (by decide) ?_
      refine x_genI fun v21 _ => ?_
      refine x_istore_n 59 [(2, .int v21), (0, .ref (idc 4 i0)), (1, .int a1), (3, .int u6)] dX5_sumAnew_59 (by decide) rfl ?_
      refine x_iinc 60 3 [(3, .int (u6 + (1 : Int32))), (2, .int v21), (0, .ref (idc 4 i0)), (1, .int a1)] dX5_sumAnew_60 rfl rfl (by decide) rfl ?_
      refine x_goto 63 23 dX5_sumAnew_63 rfl ?_
      refine x_sub [2, 3, 1, 0] _ rfl ?_
      exact hr7 (v21, u6 + (1 : Int32))
def f_X5_mayBoth (i0 : Nat) (a1 : Int32) (a2 : Int32) : PT Int32 := bnd (ρ := _) (α := Int32) (cnd (a1 = 0) (rt (1 : Int32)) (cnd (a2 = 0) (rt (2 : Int32)) (rt (0 : Int32)))) (fun u1 => pI 4 i0 82 u1 <| gI 4 i0 82 fun v2 => cnd (v2 = 0) (asr ((1 : Int32) = 0 ∨ (1 : Int32) = 1) (rt (1 : Int32))) (asr ((0 : Int32) = 0 ∨ (0 : Int32) = 1) (rt (0 : Int32))))
theorem im_X5_mayBoth {g : GP} {l : Launch} (hl : l.stackTraces = false) (i0 : Nat) (a1 : Int32) (a2 : Int32) : Im g l 0 yX5_mayBoth cX5_mayBoth 3 (some .boolean) eI [.ref (idc 4 i0), .int a1, .int a2] (f_X5_mayBoth i0 a1 a2) := by
  refine tx_start hl 0 _ _ _ _ (by decide) (Nat.le_of_ble_eq_true rfl) fun Γ Z hΓ hZ => ?_
  subst hΓ
  unfold f_X5_mayBoth
  show TX g Γ _ Z _ 0 [(0, .ref (idc 4 i0)), (1, .int a1), (2, .int a2)] [] _
  refine x_aload_n 0 0 dX5_mayBoth_0 rfl ?_
  refine x_iload_n 1 1 dX5_mayBoth_1 rfl ?_
  refine x_bndj 18 (fun u1 => [(0, .ref (idc 4 i0))]) (fun u1 => [.int u1, .ref (idc 4 i0)]) (fun u1 => ?_) (fun hj4 => ?_)
  · show TX g Γ _ Z _ 18 [(0, .ref (idc 4 i0))] [.int u1, .ref (idc 4 i0)] _
    refine x_putI 18 fa_X5_225_4 rfl (Or.inl rfl) dX5_mayBoth_18 ?_
    refine x_aload_n 21 0 dX5_mayBoth_21 rfl ?_
    refine x_getI 22 fa_X5_225_4 dX5_mayBoth_22 fun v2 => ?_
    refine x_if_ne 25 32 dX5_mayBoth_25 rfl (fun c3 => ?_) (fun c3 => ?_)
    · refine x_iconst 28 1 (1 : Int32) dX5_mayBoth_28 rfl ?_
      refine x_goto 29 33 dX5_mayBoth_29 rfl ?_
      exact x_zret 33 hZ rfl dX5_mayBoth_33
    · refine x_iconst 32 0 (0 : Int32) dX5_mayBoth_32 rfl ?_
      exact x_zret 33 hZ rfl dX5_mayBoth_33
  · refine x_if_ne 2 9 dX5_mayBoth_2 rfl (fun c5 => ?_) (fun c5 => ?_)
    · refine x_iconst 5 1 (1 : Int32) dX5_mayBoth_5 rfl ?_
      refine x_goto 6 18 dX5_mayBoth_6 rfl ?_
      refine x_sub [0] _ rfl ?_
      exact hj4 (1 : Int32)
    · refine x_iload_n 9 2 dX5_mayBoth_9 rfl ?_
      refine x_if_ne 10 17 dX5_mayBoth_10 rfl (fun c6 => ?_) (fun c6 => ?_)
      · refine x_iconst 13 2 (2 : Int32) dX5_mayBoth_13 rfl ?_
        refine x_goto 14 18 dX5_mayBoth_14 rfl ?_
        refine x_sub [0] _ rfl ?_
        exact hj4 (2 : Int32)
      · refine x_iconst 17 0 (0 : Int32) dX5_mayBoth_17 rfl ?_
        refine x_sub [0] _ rfl ?_
        exact hj4 (0 : Int32)
def f_X5_write (i0 : Nat) (a1 : Int32) (a2 : Int32) : PT Unit := gR 4 i0 78 fun v1 => gI 4 i0 77 fun v2 => isK 32 v1 fun i3 => bI 32 i3 v2 a1 <| gR 4 i0 79 fun v5 => gI 4 i0 77 fun v6 => isK 32 v5 fun i7 => bI 32 i7 v6 a2 <| gR 4 i0 80 fun v9 => gI 4 i0 77 fun v10 => gI 4 i0 0 fun v11 => isK 32 v9 fun i12 => bI 32 i12 v10 v11 <| gI 4 i0 77 fun v14 => pI 4 i0 77 (v14 + (1 : Int32)) <| gI 4 i0 81 fun v15 => gI 4 i0 0 fun v16 => pI 4 i0 81 ((((((31 : Int32) * v15) + ((100 : Int32) * a1)) + a2) + v16) - (((((31 : Int32) * v15) + ((100 : Int32) * a1)) + a2) + v16) / (65521 : Int32) * (65521 : Int32)) <| rt ()
theorem im_X5_write {g : GP} {l : Launch} (hl : l.stackTraces = false) (i0 : Nat) (a1 : Int32) (a2 : Int32) : Im g l 0 yX5_write cX5_write 3 none eV [.ref (idc 4 i0), .int a1, .int a2] (f_X5_write i0 a1 a2) := by
  refine tx_start hl 0 _ _ _ _ (by decide) (Nat.le_of_ble_eq_true rfl) fun Γ Z hΓ hZ => ?_
  subst hΓ
  unfold f_X5_write
  show TX g Γ _ Z _ 0 [(0, .ref (idc 4 i0)), (1, .int a1), (2, .int a2)] [] _
  refine x_aload_n 0 0 dX5_write_0 rfl ?_
  refine x_getR 1 fa_X5_213_4 dX5_write_1 fun v1 => ?_
  refine x_aload_n 4 0 dX5_write_4 rfl ?_
  refine x_getI 5 fa_X5_244_4 dX5_write_5 fun v2 => ?_
  refine x_iload_n 8 1 dX5_write_8 rfl ?_
  refine x_isK fun i3 h4 => ?_
  subst h4
  refine x_iast 9 dX5_write_9 ?_
  refine x_aload_n 10 0 dX5_write_10 rfl ?_
  refine x_getR 11 fa_X5_216_4 dX5_write_11 fun v5 => ?_
  refine x_aload_n 14 0 dX5_write_14 rfl ?_
  refine x_getI 15 fa_X5_244_4 dX5_write_15 fun v6 => ?_
  refine x_iload_n 18 2 dX5_write_18 rfl ?_
  refine x_isK fun i7 h8 => ?_
  subst h8
  refine x_iast 19 dX5_write_19 ?_
  refine x_aload_n 20 0 dX5_write_20 rfl ?_
  refine x_getR 21 fa_X5_219_4 dX5_write_21 fun v9 => ?_
  refine x_aload_n 24 0 dX5_write_24 rfl ?_
  refine x_getI 25 fa_X5_244_4 dX5_write_25 fun v10 => ?_
  refine x_aload_n 28 0 dX5_write_28 rfl ?_
  refine x_getI 29 fa_X5_247_4 dX5_write_29 fun v11 => ?_
  refine x_isK fun i12 h13 => ?_
  subst h13
  refine x_iast 32 dX5_write_32 ?_
  refine x_aload_n 33 0 dX5_write_33 rfl ?_
  refine x_dup 34 dX5_write_34 rfl ?_
  refine x_getI 35 fa_X5_244_4 dX5_write_35 fun v14 => ?_
  refine x_iconst 38 1 (1 : Int32) dX5_write_38 rfl ?_
  refine x_iadd 39 dX5_write_39 ?_
  refine x_putI 40 fa_X5_244_4 rfl (Or.inl rfl) dX5_write_40 ?_
  refine x_aload_n 43 0 dX5_write_43 rfl ?_
  refine x_bipush 44 31 (31 : Int32) dX5_write_44 rfl ?_
  refine x_aload_n 46 0 dX5_write_46 rfl ?_
  refine x_getI 47 fa_X5_222_4 dX5_write_47 fun v15 => ?_
  refine x_imul 50 dX5_write_50 ?_
  refine x_bipush 51 100 (100 : Int32) dX5_write_51 rfl ?_
  refine x_iload_n 53 1 dX5_write_53 rfl ?_
  refine x_imul 54 dX5_write_54 ?_
  refine x_iadd 55 dX5_write_55 ?_
  refine x_iload_n 56 2 dX5_write_56 rfl ?_
  refine x_iadd 57 dX5_write_57 ?_
  refine x_aload_n 58 0 dX5_write_58 rfl ?_
  refine x_getI 59 fa_X5_247_4 dX5_write_59 fun v16 => ?_
  refine x_iadd 62 dX5_write_62 ?_
  refine x_ldc 63 250 (65521 : Int32) dX5_write_63 q2694 ?_
  refine x_irem 65 dX5_write_65 (by decide) ?_
  refine x_putI 66 fa_X5_222_4 rfl (Or.inl rfl) dX5_write_66 ?_
  exact x_vret 69 hZ rfl dX5_write_69
def f_X5_hears (i0 : Nat) (a1 : Int32) (a2 : Int32) : PT Int32 := lp (σ := Int32 × Int32) (fun r3 => un2 fun u1 u2 => gI 4 i0 52 fun v4 => cnd (v4 ≤ u2) (asr (u1 = 0 ∨ u1 = 1) (rt u1)) (jo (σ := Int32) (fun u6 => r3 ((1 : Int32), u6 + (1 : Int32))) fun j8 => cnd (u1 = 0) (gR 4 i0 57 fun v10 => isK 32 v10 fun i11 => aI 32 i11 u2 fun v13 => cnd (v13 = a2) (gR 4 i0 54 fun v15 => isK 32 v15 fun i16 => aI 32 i16 u2 fun v18 => cnd (v18 = a1) (j8 u2) (r3 ((0 : Int32), u2 + (1 : Int32)))) (r3 ((0 : Int32), u2 + (1 : Int32)))) (j8 u2))) ((0 : Int32), (0 : Int32))
theorem im_X5_hears {g : GP} {l : Launch} (hl : l.stackTraces = false) (i0 : Nat) (a1 : Int32) (a2 : Int32) : Im g l 0 yX5_hears cX5_hears 5 (some .boolean) eI [.ref (idc 4 i0), .int a1, .int a2] (f_X5_hears i0 a1 a2) := by
  refine tx_start hl 0 _ _ _ _ (by decide) (Nat.le_of_ble_eq_true rfl) fun Γ Z hΓ hZ => ?_
  subst hΓ
  unfold f_X5_hears
  show TX g Γ _ Z _ 0 [(0, .ref (idc 4 i0)), (1, .int a1), (2, .int a2)] [] _
  refine x_iconst 0 0 (0 : Int32) dX5_hears_0 rfl ?_
  refine x_istore_n 1 [(3, .int (0 : Int32)), (0, .ref (idc 4 i0)), (1, .int a1), (2, .int a2)] dX5_hears_1 (by decide) rfl ?_
  refine x_iconst 2 0 (0 : Int32) dX5_hears_2 rfl ?_
  refine x_istore 3 [(4, .int (0 : Int32)), (3, .int (0 : Int32)), (0, .ref (idc 4 i0)), (1, .int a1), (2, .int a2)] dX5_hears_3 (by decide) rfl ?_
  refine x_sub [2, 3, 4, 1, 0] [(0, .ref (idc 4 i0)), (1, .int a1), (2, .int a2), (3, .int (0 : Int32)), (4, .int (0 : Int32))] rfl ?_
  refine x_lp (Lf := fun u => [(0, .ref (idc 4 i0)), (1, .int a1), (2, .int a2), (3, .int u.1), (4, .int u.2)]) (sf := fun _ => []) (fun r3 hr3 u => ?_) ((0 : Int32), (0 : Int32))
  obtain ⟨u1, u2⟩ := u
  show TX g Γ _ Z _ 5 [(0, .ref (idc 4 i0)), (1, .int a1), (2, .int a2), (3, .int u1), (4, .int u2)] [] _
  refine x_un2 ?_
  refine x_iload 5 4 dX5_hears_5 rfl ?_
  refine x_aload_n 7 0 dX5_hears_7 rfl ?_
  refine x_getI 8 fa_X5_241_4 dX5_hears_8 fun v4 => ?_
  refine x_icmp_ge 11 52 dX5_hears_11 rfl (fun c5 => ?_) (fun c5 => ?_)
  · refine x_iload_n 52 3 dX5_hears_52 rfl ?_
    exact x_zret 53 hZ rfl dX5_hears_53
  · refine x_iload_n 14 3 dX5_hears_14 rfl ?_
    refine x_jo 40 (Lf := fun u6 => [(0, .ref (idc 4 i0)), (1, .int a1), (2, .int a2), (4, .int u6)]) (sf := fun u6 => []) (fun u6 => ?_) (fun j8 hj7 => ?_)
    · show TX g Γ _ Z _ 40 [(0, .ref (idc 4 i0)), (1, .int a1), (2, .int a2), (4, .int u6)] [] _
      refine x_iconst 40 1 (1 : Int32) dX5_hears_40 rfl ?_
      refine x_goto 41 45 dX5_hears_41 rfl ?_
      refine x_istore_n 45 [(3, .int (1 : Int32)), (0, .ref (idc 4 i0)), (1, .int a1), (2, .int a2), (4, .int u6)] dX5_hears_45 (by decide) rfl ?_
      refine x_iinc 46 4 [(4, .int (u6 + (1 : Int32))), (3, .int (1 : Int32)), (0, .ref (idc 4 i0)), (1, .int a1), (2, .int a2)] dX5_hears_46 rfl rfl (by decide) rfl ?_
      refine x_goto 49 5 dX5_hears_49 rfl ?_
      refine x_sub [2, 3, 4, 1, 0] _ rfl ?_
      exact hr3 ((1 : Int32), u6 + (1 : Int32))
    · refine x_if_ne 15 40 dX5_hears_15 rfl (fun c9 => ?_) (fun c9 => ?_)
      · refine x_aload_n 18 0 dX5_hears_18 rfl ?_
        refine x_getR 19 fa_X5_161_4 dX5_hears_19 fun v10 => ?_
        refine x_iload 22 4 dX5_hears_22 rfl ?_
        refine x_isK fun i11 h12 => ?_
        subst h12
        refine x_iald 24 dX5_hears_24 fun v13 => ?_
        refine x_iload_n 25 2 dX5_hears_25 rfl ?_
        refine x_icmp_ne 26 44 dX5_hears_26 rfl (fun c14 => ?_) (fun c14 => ?_)
        · refine x_aload_n 29 0 dX5_hears_29 rfl ?_
          refine x_getR 30 fa_X5_152_4 dX5_hears_30 fun v15 => ?_
          refine x_iload 33 4 dX5_hears_33 rfl ?_
          refine x_isK fun i16 h17 => ?_
          subst h17
          refine x_iald 35 dX5_hears_35 fun v18 => ?_
          refine x_iload_n 36 1 dX5_hears_36 rfl ?_
          refine x_icmp_ne 37 44 dX5_hears_37 rfl (fun c19 => ?_) (fun c19 => ?_)
          · refine x_sub [0, 1, 2, 4] _ rfl ?_
            exact hj7 u2
          · refine x_iconst 44 0 (0 : Int32) dX5_hears_44 rfl ?_
            refine x_istore_n 45 [(3, .int (0 : Int32)), (0, .ref (idc 4 i0)), (1, .int a1), (2, .int a2), (4, .int u2)] dX5_hears_45 (by decide) rfl ?_
            refine x_iinc 46 4 [(4, .int (u2 + (1 : Int32))), (3, .int (0 : Int32)), (0, .ref (idc 4 i0)), (1, .int a1), (2, .int a2)] dX5_hears_46 rfl rfl (by decide) rfl ?_
            refine x_goto 49 5 dX5_hears_49 rfl ?_
            refine x_sub [2, 3, 4, 1, 0] _ rfl ?_
            exact hr3 ((0 : Int32), u2 + (1 : Int32))
        · refine x_iconst 44 0 (0 : Int32) dX5_hears_44 rfl ?_
          refine x_istore_n 45 [(3, .int (0 : Int32)), (0, .ref (idc 4 i0)), (1, .int a1), (2, .int a2), (4, .int u2)] dX5_hears_45 (by decide) rfl ?_
          refine x_iinc 46 4 [(4, .int (u2 + (1 : Int32))), (3, .int (0 : Int32)), (0, .ref (idc 4 i0)), (1, .int a1), (2, .int a2)] dX5_hears_46 rfl rfl (by decide) rfl ?_
          refine x_goto 49 5 dX5_hears_49 rfl ?_
          refine x_sub [2, 3, 4, 1, 0] _ rfl ?_
          exact hr3 ((0 : Int32), u2 + (1 : Int32))
      · refine x_sub [0, 1, 2, 4] _ rfl ?_
        exact hj7 u2
def f_X5_endFamily (i0 : Nat) (a1 : Int32) : PT Unit := gR 4 i0 51 fun v1 => isK 33 v1 fun i2 => aI 33 i2 a1 fun v4 => cnd (v4 = 0) (rt ()) (gR 4 i0 51 fun v6 => isK 33 v6 fun i7 => bZ 33 i7 a1 (0 : Int32) <| bn0 (f_X5_write i0 (3 : Int32) a1) fun _ => lp (σ := Int32) (fun r11 => fun u10 => cnd ((4 : Int32) ≤ u10) (rt ()) (gR 4 i0 69 fun v13 => gR 4 i0 66 fun v14 => isK 33 v14 fun i15 => aI 33 i15 u10 fun v17 => bnd (ρ := _) (α := Int32) (jo (σ := Unit) (fun _ => rt (0 : Int32)) fun j23 => cnd (v17 = 0) (bn0 (f_X5_hears i0 u10 a1) fun v25 => cnd (v25 = 0) (j23 ()) (rt (1 : Int32))) (j23 ())) (fun u18 => isK 33 v13 fun i19 => bZ 33 i19 (((60 : Int32) * u10) + a1) u18 <| r11 (u10 + (1 : Int32))))) (0 : Int32))
theorem im_X5_endFamily {g : GP} {l : Launch} (hl : l.stackTraces = false) (i0 : Nat) (a1 : Int32) : Im g l 1 yX5_endFamily cX5_endFamily 3 none eV [.ref (idc 4 i0), .int a1] (f_X5_endFamily i0 a1) := by
  refine tx_start hl 1 _ _ _ _ (by decide) (Nat.le_of_ble_eq_true rfl) fun Γ Z hΓ hZ => ?_
  subst hΓ
  unfold f_X5_endFamily
  show TX g Γ _ Z _ 0 [(0, .ref (idc 4 i0)), (1, .int a1)] [] _
  refine x_aload_n 0 0 dX5_endFamily_0 rfl ?_
  refine x_getR 1 fa_X5_146_4 dX5_endFamily_1 fun v1 => ?_
  refine x_iload_n 4 1 dX5_endFamily_4 rfl ?_
  refine x_isK fun i2 h3 => ?_
  subst h3
  refine x_zald 5 dX5_endFamily_5 fun v4 => ?_
  refine x_if_ne 6 10 dX5_endFamily_6 rfl (fun c5 => ?_) (fun c5 => ?_)
  · exact x_vret 9 hZ rfl dX5_endFamily_9
  · refine x_aload_n 10 0 dX5_endFamily_10 rfl ?_
    refine x_getR 11 fa_X5_146_4 dX5_endFamily_11 fun v6 => ?_
    refine x_iload_n 14 1 dX5_endFamily_14 rfl ?_
    refine x_iconst 15 0 (0 : Int32) dX5_endFamily_15 rfl ?_
    refine x_isK fun i7 h8 => ?_
    subst h8
    refine x_zast 16 dX5_endFamily_16 ?_
    refine x_aload_n 17 0 dX5_endFamily_17 rfl ?_
    refine x_iconst 18 3 (3 : Int32) dX5_endFamily_18 rfl ?_
    refine x_iload_n 19 1 dX5_endFamily_19 rfl ?_
    refine x_cV 20 0 [.int (3 : Int32), .int a1] [] ⟨by decide, rfl⟩ cv_X5_255 (im_X5_write hl i0 (3 : Int32) a1) (by decide) rfl (Nat.le_of_ble_eq_true rfl) dX5_endFamily_20 fun v9 => x_stV ?_
    refine x_iconst 23 0 (0 : Int32) dX5_endFamily_23 rfl ?_
    refine x_istore_n 24 [(2, .int (0 : Int32)), (0, .ref (idc 4 i0)), (1, .int a1)] dX5_endFamily_24 (by decide) rfl ?_
    refine x_sub [1, 2, 0] [(0, .ref (idc 4 i0)), (1, .int a1), (2, .int (0 : Int32))] rfl ?_
    refine x_lp (Lf := fun u10 => [(0, .ref (idc 4 i0)), (1, .int a1), (2, .int u10)]) (sf := fun _ => []) (fun r11 hr11 u10 => ?_) (0 : Int32)
    show TX g Γ _ Z _ 25 [(0, .ref (idc 4 i0)), (1, .int a1), (2, .int u10)] [] _
    refine x_iload_n 25 2 dX5_endFamily_25 rfl ?_
    refine x_iconst 26 4 (4 : Int32) dX5_endFamily_26 rfl ?_
    refine x_icmp_ge 27 70 dX5_endFamily_27 rfl (fun c12 => ?_) (fun c12 => ?_)
    · exact x_vret 70 hZ rfl dX5_endFamily_70
    · refine x_aload_n 30 0 dX5_endFamily_30 rfl ?_
      refine x_getR 31 fa_X5_192_4 dX5_endFamily_31 fun v13 => ?_
      refine x_bipush 34 60 (60 : Int32) dX5_endFamily_34 rfl ?_
      refine x_iload_n 36 2 dX5_endFamily_36 rfl ?_
      refine x_imul 37 dX5_endFamily_37 ?_
      refine x_iload_n 38 1 dX5_endFamily_38 rfl ?_
      refine x_iadd 39 dX5_endFamily_39 ?_
      refine x_aload_n 40 0 dX5_endFamily_40 rfl ?_
      refine x_getR 41 fa_X5_183_4 dX5_endFamily_41 fun v14 => ?_
      refine x_iload_n 44 2 dX5_endFamily_44 rfl ?_
      refine x_isK fun i15 h16 => ?_
      subst h16
      refine x_zald 45 dX5_endFamily_45 fun v17 => ?_
      refine x_bndj 63 (fun u18 => [(0, .ref (idc 4 i0)), (1, .int a1), (2, .int u10)]) (fun u18 => [.int u18, .int (((60 : Int32) * u10) + a1), .ref v13]) (fun u18 => ?_) (fun hj21 => ?_)
      · show TX g Γ _ Z _ 63 [(0, .ref (idc 4 i0)), (1, .int a1), (2, .int u10)] [.int u18, .int (((60 : Int32) * u10) + a1), .ref v13] _
        refine x_isK fun i19 h20 => ?_
        subst h20
        refine x_zast 63 dX5_endFamily_63 ?_
        refine x_iinc 64 2 [(2, .int (u10 + (1 : Int32))), (0, .ref (idc 4 i0)), (1, .int a1)] dX5_endFamily_64 rfl rfl (by decide) rfl ?_
        refine x_goto 67 25 dX5_endFamily_67 rfl ?_
        refine x_sub [1, 2, 0] _ rfl ?_
        exact hr11 (u10 + (1 : Int32))
      · refine x_jo 62 (Lf := fun _ => [(0, .ref (idc 4 i0)), (1, .int a1), (2, .int u10)]) (sf := fun _ => [.int (((60 : Int32) * u10) + a1), .ref v13]) (fun _ => ?_) (fun j23 hj22 => ?_)
        · show TX g Γ _ Z _ 62 [(0, .ref (idc 4 i0)), (1, .int a1), (2, .int u10)] [.int (((60 : Int32) * u10) + a1), .ref v13] _
          refine x_iconst 62 0 (0 : Int32) dX5_endFamily_62 rfl ?_
          exact hj21 (0 : Int32)
        · refine x_if_ne 46 62 dX5_endFamily_46 rfl (fun c24 => ?_) (fun c24 => ?_)
          · refine x_aload_n 49 0 dX5_endFamily_49 rfl ?_
            refine x_iload_n 50 2 dX5_endFamily_50 rfl ?_
            refine x_iload_n 51 1 dX5_endFamily_51 rfl ?_
            refine x_cV 52 0 [.int u10, .int a1] [.int (((60 : Int32) * u10) + a1), .ref v13] ⟨by decide, rfl⟩ cv_X5_259 (im_X5_hears hl i0 u10 a1) (by decide) rfl (Nat.le_of_ble_eq_true rfl) dX5_endFamily_52 fun v25 => x_stI ?_
            refine x_if_eq 55 62 dX5_endFamily_55 rfl (fun c26 => ?_) (fun c26 => ?_)
            · exact hj22 ()
            · refine x_iconst 58 1 (1 : Int32) dX5_endFamily_58 rfl ?_
              refine x_goto 59 63 dX5_endFamily_59 rfl ?_
              exact hj21 (1 : Int32)
          · exact hj22 ()
def f_X5_endFamiliesOf (i0 : Nat) (a1 : Int32) : PT Unit := lp (σ := Int32) (fun r2 => fun u1 => gI 4 i0 46 fun v3 => cnd (v3 ≤ u1) (rt ()) (gR 4 i0 40 fun v5 => gR 4 i0 47 fun v6 => isK 32 v6 fun i7 => aI 32 i7 u1 fun v9 => isK 32 v5 fun i10 => aI 32 i10 v9 fun v12 => cnd (v12 = a1) (bn0 (f_X5_endFamily i0 u1) fun _ => r2 (u1 + (1 : Int32))) (r2 (u1 + (1 : Int32))))) (0 : Int32)
theorem im_X5_endFamiliesOf {g : GP} {l : Launch} (hl : l.stackTraces = false) (i0 : Nat) (a1 : Int32) : Im g l 2 yX5_endFamiliesOf cX5_endFamiliesOf 3 none eV [.ref (idc 4 i0), .int a1] (f_X5_endFamiliesOf i0 a1) := by
  refine tx_start hl 2 _ _ _ _ (by decide) (Nat.le_of_ble_eq_true rfl) fun Γ Z hΓ hZ => ?_
  subst hΓ
  unfold f_X5_endFamiliesOf
  show TX g Γ _ Z _ 0 [(0, .ref (idc 4 i0)), (1, .int a1)] [] _
  refine x_iconst 0 0 (0 : Int32) dX5_endFamiliesOf_0 rfl ?_
  refine x_istore_n 1 [(2, .int (0 : Int32)), (0, .ref (idc 4 i0)), (1, .int a1)] dX5_endFamiliesOf_1 (by decide) rfl ?_
  refine x_sub [1, 2, 0] [(0, .ref (idc 4 i0)), (1, .int a1), (2, .int (0 : Int32))] rfl ?_
  refine x_lp (Lf := fun u1 => [(0, .ref (idc 4 i0)), (1, .int a1), (2, .int u1)]) (sf := fun _ => []) (fun r2 hr2 u1 => ?_) (0 : Int32)
  show TX g Γ _ Z _ 2 [(0, .ref (idc 4 i0)), (1, .int a1), (2, .int u1)] [] _
  refine x_iload_n 2 2 dX5_endFamiliesOf_2 rfl ?_
  refine x_aload_n 3 0 dX5_endFamiliesOf_3 rfl ?_
  refine x_getI 4 fa_X5_238_4 dX5_endFamiliesOf_4 fun v3 => ?_
  refine x_icmp_ge 7 36 dX5_endFamiliesOf_7 rfl (fun c4 => ?_) (fun c4 => ?_)
  · exact x_vret 36 hZ rfl dX5_endFamiliesOf_36
  · refine x_aload_n 10 0 dX5_endFamiliesOf_10 rfl ?_
    refine x_getR 11 fa_X5_116_4 dX5_endFamiliesOf_11 fun v5 => ?_
    refine x_aload_n 14 0 dX5_endFamiliesOf_14 rfl ?_
    refine x_getR 15 fa_X5_134_4 dX5_endFamiliesOf_15 fun v6 => ?_
    refine x_iload_n 18 2 dX5_endFamiliesOf_18 rfl ?_
    refine x_isK fun i7 h8 => ?_
    subst h8
    refine x_iald 19 dX5_endFamiliesOf_19 fun v9 => ?_
    refine x_isK fun i10 h11 => ?_
    subst h11
    refine x_iald 20 dX5_endFamiliesOf_20 fun v12 => ?_
    refine x_iload_n 21 1 dX5_endFamiliesOf_21 rfl ?_
    refine x_icmp_ne 22 30 dX5_endFamiliesOf_22 rfl (fun c13 => ?_) (fun c13 => ?_)
    · refine x_aload_n 25 0 dX5_endFamiliesOf_25 rfl ?_
      refine x_iload_n 26 2 dX5_endFamiliesOf_26 rfl ?_
      refine x_cV 27 1 [.int u1] [] ⟨by decide, rfl⟩ cv_X5_263 (im_X5_endFamily hl i0 u1) (by decide) rfl (Nat.le_of_ble_eq_true rfl) dX5_endFamiliesOf_27 fun v14 => x_stV ?_
      refine x_iinc 30 2 [(2, .int (u1 + (1 : Int32))), (0, .ref (idc 4 i0)), (1, .int a1)] dX5_endFamiliesOf_30 rfl rfl (by decide) rfl ?_
      refine x_goto 33 2 dX5_endFamiliesOf_33 rfl ?_
      refine x_sub [1, 2, 0] _ rfl ?_
      exact hr2 (u1 + (1 : Int32))
    · refine x_iinc 30 2 [(2, .int (u1 + (1 : Int32))), (0, .ref (idc 4 i0)), (1, .int a1)] dX5_endFamiliesOf_30 rfl rfl (by decide) rfl ?_
      refine x_goto 33 2 dX5_endFamiliesOf_33 rfl ?_
      refine x_sub [1, 2, 0] _ rfl ?_
      exact hr2 (u1 + (1 : Int32))
def f_X5_endSession (i0 : Nat) (a1 : Int32) : PT Int32 := gR 4 i0 35 fun v1 => isK 33 v1 fun i2 => bZ 33 i2 a1 (0 : Int32) <| bn0 (f_X5_write i0 (1 : Int32) a1) fun _ => bnd (lp (σ := Int32 × Int32) (ρ := Int32) (fun r7 => un2 fun u5 u6 => gI 4 i0 30 fun v10 => cnd (v10 ≤ u6) (rt u5) (gR 4 i0 35 fun v12 => isK 33 v12 fun i13 => aI 33 i13 u6 fun v15 => cnd (v15 = 0) (r7 (u5, u6 + (1 : Int32))) (gR 4 i0 34 fun v17 => isK 32 v17 fun i18 => aI 32 i18 u6 fun v20 => cnd (v20 = a1) (gR 4 i0 35 fun v22 => isK 33 v22 fun i23 => bZ 33 i23 u6 (0 : Int32) <| bn0 (f_X5_write i0 (1 : Int32) u6) fun _ => bn0 (f_X5_endFamiliesOf i0 u6) fun _ => r7 (u5 + (1 : Int32), u6 + (1 : Int32))) (r7 (u5, u6 + (1 : Int32)))))) ((1 : Int32), (0 : Int32))) (fun u8 => bn0 (f_X5_endFamiliesOf i0 a1) fun _ => rt u8)
theorem im_X5_endSession {g : GP} {l : Launch} (hl : l.stackTraces = false) (i0 : Nat) (a1 : Int32) : Im g l 3 yX5_endSession cX5_endSession 4 (some .int) eI [.ref (idc 4 i0), .int a1] (f_X5_endSession i0 a1) := by
  refine tx_start hl 3 _ _ _ _ (by decide) (Nat.le_of_ble_eq_true rfl) fun Γ Z hΓ hZ => ?_
  subst hΓ
  unfold f_X5_endSession
  show TX g Γ _ Z _ 0 [(0, .ref (idc 4 i0)), (1, .int a1)] [] _
  refine x_aload_n 0 0 dX5_endSession_0 rfl ?_
  refine x_getR 1 fa_X5_104_4 dX5_endSession_1 fun v1 => ?_
  refine x_iload_n 4 1 dX5_endSession_4 rfl ?_
  refine x_iconst 5 0 (0 : Int32) dX5_endSession_5 rfl ?_
  refine x_isK fun i2 h3 => ?_
  subst h3
  refine x_zast 6 dX5_endSession_6 ?_
  refine x_aload_n 7 0 dX5_endSession_7 rfl ?_
  refine x_iconst 8 1 (1 : Int32) dX5_endSession_8 rfl ?_
  refine x_iload_n 9 1 dX5_endSession_9 rfl ?_
  refine x_cV 10 0 [.int (1 : Int32), .int a1] [] ⟨by decide, rfl⟩ cv_X5_255 (im_X5_write hl i0 (1 : Int32) a1) (by decide) rfl (Nat.le_of_ble_eq_true rfl) dX5_endSession_10 fun v4 => x_stV ?_
  refine x_iconst 13 1 (1 : Int32) dX5_endSession_13 rfl ?_
  refine x_istore_n 14 [(2, .int (1 : Int32)), (0, .ref (idc 4 i0)), (1, .int a1)] dX5_endSession_14 (by decide) rfl ?_
  refine x_iconst 15 0 (0 : Int32) dX5_endSession_15 rfl ?_
  refine x_istore_n 16 [(3, .int (0 : Int32)), (2, .int (1 : Int32)), (0, .ref (idc 4 i0)), (1, .int a1)] dX5_endSession_16 (by decide) rfl ?_
  refine x_sub [2, 3, 1, 0] [(0, .ref (idc 4 i0)), (1, .int a1), (2, .int (1 : Int32)), (3, .int (0 : Int32))] rfl ?_
  refine x_bndj 71 (fun u8 => [(0, .ref (idc 4 i0)), (1, .int a1), (2, .int u8)]) (fun u8 => []) (fun u8 => ?_) (fun hj9 => ?_)
  · show TX g Γ _ Z _ 71 [(0, .ref (idc 4 i0)), (1, .int a1), (2, .int u8)] [] _
    refine x_aload_n 71 0 dX5_endSession_71 rfl ?_
    refine x_iload_n 72 1 dX5_endSession_72 rfl ?_
    refine x_cV 73 2 [.int a1] [] ⟨by decide, rfl⟩ cv_X5_267 (im_X5_endFamiliesOf hl i0 a1) (by decide) rfl (Nat.le_of_ble_eq_true rfl) dX5_endSession_73 fun v27 => x_stV ?_
    refine x_iload_n 76 2 dX5_endSession_76 rfl ?_
    exact x_iret 77 hZ rfl dX5_endSession_77
  · refine x_lp (Lf := fun u => [(0, .ref (idc 4 i0)), (1, .int a1), (2, .int u.1), (3, .int u.2)]) (sf := fun _ => []) (fun r7 hr7 u => ?_) ((1 : Int32), (0 : Int32))
    obtain ⟨u5, u6⟩ := u
    show TX g Γ _ Z _ 17 [(0, .ref (idc 4 i0)), (1, .int a1), (2, .int u5), (3, .int u6)] [] _
    refine x_un2 ?_
    refine x_iload_n 17 3 dX5_endSession_17 rfl ?_
    refine x_aload_n 18 0 dX5_endSession_18 rfl ?_
    refine x_getI 19 fa_X5_235_4 dX5_endSession_19 fun v10 => ?_
    refine x_icmp_ge 22 71 dX5_endSession_22 rfl (fun c11 => ?_) (fun c11 => ?_)
    · refine x_sub [0, 1, 2] _ rfl ?_
      exact hj9 u5
    · refine x_aload_n 25 0 dX5_endSession_25 rfl ?_
      refine x_getR 26 fa_X5_104_4 dX5_endSession_26 fun v12 => ?_
      refine x_iload_n 29 3 dX5_endSession_29 rfl ?_
      refine x_isK fun i13 h14 => ?_
      subst h14
      refine x_zald 30 dX5_endSession_30 fun v15 => ?_
      refine x_if_eq 31 65 dX5_endSession_31 rfl (fun c16 => ?_) (fun c16 => ?_)
      · refine x_iinc 65 3 [(3, .int (u6 + (1 : Int32))), (0, .ref (idc 4 i0)), (1, .int a1), (2, .int u5)] dX5_endSession_65 rfl rfl (by decide) rfl ?_
        refine x_goto 68 17 dX5_endSession_68 rfl ?_
        refine x_sub [1, 2, 3, 0] _ rfl ?_
        exact hr7 (u5, u6 + (1 : Int32))
      · refine x_aload_n 34 0 dX5_endSession_34 rfl ?_
        refine x_getR 35 fa_X5_101_4 dX5_endSession_35 fun v17 => ?_
        refine x_iload_n 38 3 dX5_endSession_38 rfl ?_
        refine x_isK fun i18 h19 => ?_
        subst h19
        refine x_iald 39 dX5_endSession_39 fun v20 => ?_
        refine x_iload_n 40 1 dX5_endSession_40 rfl ?_
        refine x_icmp_ne 41 65 dX5_endSession_41 rfl (fun c21 => ?_) (fun c21 => ?_)
        · refine x_aload_n 44 0 dX5_endSession_44 rfl ?_
          refine x_getR 45 fa_X5_104_4 dX5_endSession_45 fun v22 => ?_
          refine x_iload_n 48 3 dX5_endSession_48 rfl ?_
          refine x_iconst 49 0 (0 : Int32) dX5_endSession_49 rfl ?_
          refine x_isK fun i23 h24 => ?_
          subst h24
          refine x_zast 50 dX5_endSession_50 ?_
          refine x_aload_n 51 0 dX5_endSession_51 rfl ?_
          refine x_iconst 52 1 (1 : Int32) dX5_endSession_52 rfl ?_
          refine x_iload_n 53 3 dX5_endSession_53 rfl ?_
          refine x_cV 54 0 [.int (1 : Int32), .int u6] [] ⟨by decide, rfl⟩ cv_X5_255 (im_X5_write hl i0 (1 : Int32) u6) (by decide) rfl (Nat.le_of_ble_eq_true rfl) dX5_endSession_54 fun v25 => x_stV ?_
          refine x_aload_n 57 0 dX5_endSession_57 rfl ?_
          refine x_iload_n 58 3 dX5_endSession_58 rfl ?_
          refine x_cV 59 2 [.int u6] [] ⟨by decide, rfl⟩ cv_X5_267 (im_X5_endFamiliesOf hl i0 u6) (by decide) rfl (Nat.le_of_ble_eq_true rfl) dX5_endSession_59 fun v26 => x_stV ?_
          refine x_iinc 62 2 [(2, .int (u5 + (1 : Int32))), (0, .ref (idc 4 i0)), (1, .int a1), (3, .int u6)] dX5_endSession_62 rfl rfl (by decide) rfl ?_
          refine x_iinc 65 3 [(3, .int (u6 + (1 : Int32))), (2, .int (u5 + (1 : Int32))), (0, .ref (idc 4 i0)), (1, .int a1)] dX5_endSession_65 rfl rfl (by decide) rfl ?_
          refine x_goto 68 17 dX5_endSession_68 rfl ?_
          refine x_sub [2, 3, 1, 0] _ rfl ?_
          exact hr7 (u5 + (1 : Int32), u6 + (1 : Int32))
        · refine x_iinc 65 3 [(3, .int (u6 + (1 : Int32))), (0, .ref (idc 4 i0)), (1, .int a1), (2, .int u5)] dX5_endSession_65 rfl rfl (by decide) rfl ?_
          refine x_goto 68 17 dX5_endSession_68 rfl ?_
          refine x_sub [1, 2, 3, 0] _ rfl ?_
          exact hr7 (u5, u6 + (1 : Int32))
def f_X5_pass (i0 : Nat) (a1 : Int32) : PT Int32 := bn0 (f_X5_isIn a1 (1 : Int32) (600 : Int32)) fun v1 => bnd (ρ := _) (α := Int32) (jo (σ := Unit) (fun _ => rt (0 : Int32)) fun j54 => cnd (v1 = 0) (j54 ()) (gI 4 i0 0 fun v56 => cnd ((30000 : Int32) < (v56 + a1)) (j54 ()) (rt (1 : Int32)))) (fun u2 => bn0 (f_X5_mayBoth i0 v1 u2) fun v3 => cnd (v3 = 0) (rt (0 : Int32)) (lp (σ := Int32 × Int32) (fun r7 => un2 fun u5 u6 => cnd (a1 ≤ u6) (rt u5) (gI 4 i0 0 fun v9 => pI 4 i0 0 (v9 + (1 : Int32)) <| gI 4 i0 62 fun v10 => bnd (ρ := _) (α := Unit) (cnd (v10 = (-1 : Int32)) (rt ()) (gI 4 i0 0 fun v41 => gI 4 i0 63 fun v42 => cnd (v41 < v42) (rt ()) (gR 4 i0 65 fun v44 => gI 4 i0 61 fun v45 => gI 4 i0 0 fun v46 => isK 32 v44 fun i47 => bI 32 i47 v45 (v46 + (20 : Int32)) <| gI 4 i0 62 fun v49 => pI 4 i0 61 v49 <| pI 4 i0 62 (-1 : Int32) <| gI 4 i0 61 fun v50 => bn0 (f_X5_write i0 (5 : Int32) v50) fun _ => rt ()))) (fun _ => lp (σ := Int32 × Int32) (fun r13 => un2 fun u11 u12 => gI 4 i0 30 fun v14 => cnd (v14 ≤ u12) (r7 (u11, u6 + (1 : Int32))) (gR 4 i0 35 fun v16 => isK 33 v16 fun i17 => aI 33 i17 u12 fun v19 => bnd (ρ := _) (α := Int32) (jo (σ := Unit) (fun _ => rt (0 : Int32)) fun j25 => cnd (v19 = 0) (j25 ()) (gI 4 i0 0 fun v27 => gR 4 i0 33 fun v28 => isK 32 v28 fun i29 => aI 32 i29 u12 fun v31 => cnd ((30 : Int32) < (v27 - v31)) (rt (1 : Int32)) (gI 4 i0 0 fun v33 => gR 4 i0 32 fun v34 => isK 32 v34 fun i35 => aI 32 i35 u12 fun v37 => cnd ((v33 - v37) ≤ (480 : Int32)) (j25 ()) (rt (1 : Int32))))) (fun u20 => cnd (u20 = 0) (r13 (u11 + (0 : Int32), u12 + (1 : Int32))) (bn0 (f_X5_endSession i0 u12) fun v22 => r13 (u11 + v22, u12 + (1 : Int32)))))) (u5, (0 : Int32))))) ((0 : Int32), (0 : Int32))))
theorem im_X5_pass {g : GP} {l : Launch} (hl : l.stackTraces = false) (i0 : Nat) (a1 : Int32) : Im g l 4 yX5_pass cX5_pass 7 (some .int) eI [.ref (idc 4 i0), .int a1] (f_X5_pass i0 a1) := by
  refine tx_start hl 4 _ _ _ _ (by decide) (Nat.le_of_ble_eq_true rfl) fun Γ Z hΓ hZ => ?_
  subst hΓ
  unfold f_X5_pass
  show TX g Γ _ Z _ 0 [(0, .ref (idc 4 i0)), (1, .int a1)] [] _
  refine x_iload_n 0 1 dX5_pass_0 rfl ?_
  refine x_iconst 1 1 (1 : Int32) dX5_pass_1 rfl ?_
  refine x_sipush 2 600 (600 : Int32) dX5_pass_2 rfl ?_
  refine x_cS 5 0 [.int a1, .int (1 : Int32), .int (600 : Int32)] [] cs_X5_228 (im_X5_isIn hl a1 (1 : Int32) (600 : Int32)) (by decide) rfl (Nat.le_of_ble_eq_true rfl) dX5_pass_5 fun v1 => x_stI ?_
  refine x_istore_n 8 [(2, .int v1), (0, .ref (idc 4 i0)), (1, .int a1)] dX5_pass_8 (by decide) rfl ?_
  refine x_aload_n 9 1 dX5_pass_9 rfl ?_
  refine x_iload_n 10 0 dX5_pass_10 rfl ?_
  refine x_iload_n 11 0 dX5_pass_11 rfl ?_
  refine x_bndj 32 (fun u2 => [(0, .ref (idc 4 i0)), (1, .int a1)]) (fun u2 => [.int u2, .int v1, .ref (idc 4 i0)]) (fun u2 => ?_) (fun hj52 => ?_)
  · show TX g Γ _ Z _ 32 [(0, .ref (idc 4 i0)), (1, .int a1)] [.int u2, .int v1, .ref (idc 4 i0)] _
    refine x_cV 32 0 [.int v1, .int u2] [] ⟨by decide, rfl⟩ cv_X5_274 (im_X5_mayBoth hl i0 v1 u2) (by decide) rfl (Nat.le_of_ble_eq_true rfl) dX5_pass_32 fun v3 => x_stI ?_
    refine x_if_ne 35 40 dX5_pass_35 rfl (fun c4 => ?_) (fun c4 => ?_)
    · refine x_iconst 38 0 (0 : Int32) dX5_pass_38 rfl ?_
      exact x_iret 39 hZ rfl dX5_pass_39
    · refine x_iconst 40 0 (0 : Int32) dX5_pass_40 rfl ?_
      refine x_istore_n 41 [(3, .int (0 : Int32)), (0, .ref (idc 4 i0)), (1, .int a1)] dX5_pass_41 (by decide) rfl ?_
      refine x_iconst 42 0 (0 : Int32) dX5_pass_42 rfl ?_
      refine x_istore 43 [(4, .int (0 : Int32)), (3, .int (0 : Int32)), (0, .ref (idc 4 i0)), (1, .int a1)] dX5_pass_43 (by decide) rfl ?_
      refine x_sub [2, 3, 1, 0] [(0, .ref (idc 4 i0)), (1, .int a1), (3, .int (0 : Int32)), (4, .int (0 : Int32))] rfl ?_
      refine x_lp (Lf := fun u => [(0, .ref (idc 4 i0)), (1, .int a1), (3, .int u.1), (4, .int u.2)]) (sf := fun _ => []) (fun r7 hr7 u => ?_) ((0 : Int32), (0 : Int32))
      obtain ⟨u5, u6⟩ := u
      show TX g Γ _ Z _ 45 [(0, .ref (idc 4 i0)), (1, .int a1), (3, .int u5), (4, .int u6)] [] _
      refine x_un2 ?_
      refine x_iload 45 3 dX5_pass_45 rfl ?_
      refine x_iload_n 47 1 dX5_pass_47 rfl ?_
      refine x_icmp_ge 48 212 dX5_pass_48 rfl (fun c8 => ?_) (fun c8 => ?_)
      · refine x_iload_n 212 2 dX5_pass_212 rfl ?_
        exact x_iret 213 hZ rfl dX5_pass_213
      · refine x_aload_n 51 0 dX5_pass_51 rfl ?_
        refine x_dup 52 dX5_pass_52 rfl ?_
        refine x_getI 53 fa_X5_247_4 dX5_pass_53 fun v9 => ?_
        refine x_iconst 56 1 (1 : Int32) dX5_pass_56 rfl ?_
        refine x_iadd 57 dX5_pass_57 ?_
        refine x_putI 58 fa_X5_247_4 rfl (Or.inl rfl) dX5_pass_58 ?_
        refine x_aload_n 61 0 dX5_pass_61 rfl ?_
        refine x_getI 62 fa_X5_174_4 dX5_pass_62 fun v10 => ?_
        refine x_iconst 65 (-1) (-1 : Int32) dX5_pass_65 rfl ?_
        refine x_bndj 118 (fun _ => [(0, .ref (idc 4 i0)), (1, .int a1), (3, .int u5), (4, .int u6)]) (fun _ => []) (fun _ => ?_) (fun hj39 => ?_)
        · show TX g Γ _ Z _ 118 [(0, .ref (idc 4 i0)), (1, .int a1), (3, .int u5), (4, .int u6)] [] _
          refine x_iconst 118 0 (0 : Int32) dX5_pass_118 rfl ?_
          refine x_istore 119 [(5, .int (0 : Int32)), (0, .ref (idc 4 i0)), (1, .int a1), (3, .int u5), (4, .int u6)] dX5_pass_119 (by decide) rfl ?_
          refine x_sub [1, 2, 3, 4, 0] [(0, .ref (idc 4 i0)), (1, .int a1), (3, .int u5), (4, .int u6), (5, .int (0 : Int32))] rfl ?_
          refine x_lp (Lf := fun u => [(0, .ref (idc 4 i0)), (1, .int a1), (3, .int u.1), (4, .int u6), (5, .int u.2)]) (sf := fun _ => []) (fun r13 hr13 u => ?_) (u5, (0 : Int32))
          obtain ⟨u11, u12⟩ := u
          show TX g Γ _ Z _ 121 [(0, .ref (idc 4 i0)), (1, .int a1), (3, .int u11), (4, .int u6), (5, .int u12)] [] _
          refine x_un2 ?_
          refine x_iload 121 4 dX5_pass_121 rfl ?_
          refine x_aload_n 123 0 dX5_pass_123 rfl ?_
          refine x_getI 124 fa_X5_235_4 dX5_pass_124 fun v14 => ?_
          refine x_icmp_ge 127 206 dX5_pass_127 rfl (fun c15 => ?_) (fun c15 => ?_)
          · refine x_iinc 206 3 [(4, .int (u6 + (1 : Int32))), (0, .ref (idc 4 i0)), (1, .int a1), (3, .int u11), (5, .int u12)] dX5_pass_206 rfl rfl (by decide) rfl ?_
            refine x_goto 209 45 dX5_pass_209 rfl ?_
            refine x_sub [1, 2, 3, 0] _ rfl ?_
            exact hr7 (u11, u6 + (1 : Int32))
          · refine x_aload_n 130 0 dX5_pass_130 rfl ?_
            refine x_getR 131 fa_X5_104_4 dX5_pass_131 fun v16 => ?_
            refine x_iload 134 4 dX5_pass_134 rfl ?_
            refine x_isK fun i17 h18 => ?_
            subst h18
            refine x_zald 136 dX5_pass_136 fun v19 => ?_
            refine x_bndj 180 (fun u20 => [(0, .ref (idc 4 i0)), (1, .int a1), (3, .int u11), (4, .int u6), (5, .int u12)]) (fun u20 => [.int u20]) (fun u20 => ?_) (fun hj23 => ?_)
            · show TX g Γ _ Z _ 180 [(0, .ref (idc 4 i0)), (1, .int a1), (3, .int u11), (4, .int u6), (5, .int u12)] [.int u20] _
              refine x_istore 180 [(6, .int u20), (0, .ref (idc 4 i0)), (1, .int a1), (3, .int u11), (4, .int u6), (5, .int u12)] dX5_pass_180 (by decide) rfl ?_
              refine x_iload_n 182 3 dX5_pass_182 rfl ?_
              refine x_iload 183 0 dX5_pass_183 rfl ?_
              refine x_if_eq 185 197 dX5_pass_185 rfl (fun c21 => ?_) (fun c21 => ?_)
              · refine x_iconst 197 0 (0 : Int32) dX5_pass_197 rfl ?_
                refine x_iadd 198 dX5_pass_198 ?_
                refine x_istore_n 199 [(3, .int (u11 + (0 : Int32))), (6, .int u20), (0, .ref (idc 4 i0)), (1, .int a1), (4, .int u6), (5, .int u12)] dX5_pass_199 (by decide) rfl ?_
                refine x_iinc 200 5 [(5, .int (u12 + (1 : Int32))), (3, .int (u11 + (0 : Int32))), (6, .int u20), (0, .ref (idc 4 i0)), (1, .int a1), (4, .int u6)] dX5_pass_200 rfl rfl (by decide) rfl ?_
                refine x_goto 203 121 dX5_pass_203 rfl ?_
                refine x_sub [3, 4, 1, 5, 0] _ rfl ?_
                exact hr13 (u11 + (0 : Int32), u12 + (1 : Int32))
              · refine x_aload_n 188 1 dX5_pass_188 rfl ?_
                refine x_iload 189 5 dX5_pass_189 rfl ?_
                refine x_cV 191 3 [.int u12] [.int u11] ⟨by decide, rfl⟩ cv_X5_270 (im_X5_endSession hl i0 u12) (by decide) rfl (Nat.le_of_ble_eq_true rfl) dX5_pass_191 fun v22 => x_stI ?_
                refine x_goto 194 198 dX5_pass_194 rfl ?_
                refine x_iadd 198 dX5_pass_198 ?_
                refine x_istore_n 199 [(3, .int (u11 + v22)), (6, .int u20), (0, .ref (idc 4 i0)), (1, .int a1), (4, .int u6), (5, .int u12)] dX5_pass_199 (by decide) rfl ?_
                refine x_iinc 200 5 [(5, .int (u12 + (1 : Int32))), (3, .int (u11 + v22)), (6, .int u20), (0, .ref (idc 4 i0)), (1, .int a1), (4, .int u6)] dX5_pass_200 rfl rfl (by decide) rfl ?_
                refine x_goto 203 121 dX5_pass_203 rfl ?_
                refine x_sub [3, 4, 1, 5, 0] _ rfl ?_
                exact hr13 (u11 + v22, u12 + (1 : Int32))
            · refine x_jo 179 (Lf := fun _ => [(0, .ref (idc 4 i0)), (1, .int a1), (3, .int u11), (4, .int u6), (5, .int u12)]) (sf := fun _ => []) (fun _ => ?_) (fun j25 hj24 => ?_)
              · show TX g Γ _ Z _ 179 [(0, .ref (idc 4 i0)), (1, .int a1), (3, .int u11), (4, .int u6), (5, .int u12)] [] _
                refine x_iconst 179 0 (0 : Int32) dX5_pass_179 rfl ?_
                exact hj23 (0 : Int32)
              · refine x_if_eq 137 179 dX5_pass_137 rfl (fun c26 => ?_) (fun c26 => ?_)
                · exact hj24 ()
                · refine x_aload_n 140 0 dX5_pass_140 rfl ?_
                  refine x_getI 141 fa_X5_247_4 dX5_pass_141 fun v27 => ?_
                  refine x_aload_n 144 0 dX5_pass_144 rfl ?_
                  refine x_getR 145 fa_X5_98_4 dX5_pass_145 fun v28 => ?_
                  refine x_iload 148 4 dX5_pass_148 rfl ?_
                  refine x_isK fun i29 h30 => ?_
                  subst h30
                  refine x_iald 150 dX5_pass_150 fun v31 => ?_
                  refine x_isub 151 dX5_pass_151 ?_
                  refine x_bipush 152 30 (30 : Int32) dX5_pass_152 rfl ?_
                  refine x_icmp_gt 154 175 dX5_pass_154 rfl (fun c32 => ?_) (fun c32 => ?_)
                  · refine x_iconst 175 1 (1 : Int32) dX5_pass_175 rfl ?_
                    refine x_goto 176 180 dX5_pass_176 rfl ?_
                    exact hj23 (1 : Int32)
                  · refine x_aload_n 157 0 dX5_pass_157 rfl ?_
                    refine x_getI 158 fa_X5_247_4 dX5_pass_158 fun v33 => ?_
                    refine x_aload_n 161 0 dX5_pass_161 rfl ?_
                    refine x_getR 162 fa_X5_95_4 dX5_pass_162 fun v34 => ?_
                    refine x_iload 165 4 dX5_pass_165 rfl ?_
                    refine x_isK fun i35 h36 => ?_
                    subst h36
                    refine x_iald 167 dX5_pass_167 fun v37 => ?_
                    refine x_isub 168 dX5_pass_168 ?_
                    refine x_sipush 169 480 (480 : Int32) dX5_pass_169 rfl ?_
                    refine x_icmp_le 172 179 dX5_pass_172 rfl (fun c38 => ?_) (fun c38 => ?_)
                    · exact hj24 ()
                    · refine x_iconst 175 1 (1 : Int32) dX5_pass_175 rfl ?_
                      refine x_goto 176 180 dX5_pass_176 rfl ?_
                      exact hj23 (1 : Int32)
        · refine x_icmp_eq 66 118 dX5_pass_66 rfl (fun c40 => ?_) (fun c40 => ?_)
          · exact hj39 ()
          · refine x_aload_n 69 0 dX5_pass_69 rfl ?_
            refine x_getI 70 fa_X5_247_4 dX5_pass_70 fun v41 => ?_
            refine x_aload_n 73 0 dX5_pass_73 rfl ?_
            refine x_getI 74 fa_X5_278_4 dX5_pass_74 fun v42 => ?_
            refine x_icmp_lt 77 118 dX5_pass_77 rfl (fun c43 => ?_) (fun c43 => ?_)
            · exact hj39 ()
            · refine x_aload_n 80 0 dX5_pass_80 rfl ?_
              refine x_getR 81 fa_X5_180_4 dX5_pass_81 fun v44 => ?_
              refine x_aload_n 84 0 dX5_pass_84 rfl ?_
              refine x_getI 85 fa_X5_281_4 dX5_pass_85 fun v45 => ?_
              refine x_aload_n 88 0 dX5_pass_88 rfl ?_
              refine x_getI 89 fa_X5_247_4 dX5_pass_89 fun v46 => ?_
              refine x_bipush 92 20 (20 : Int32) dX5_pass_92 rfl ?_
              refine x_iadd 94 dX5_pass_94 ?_
              refine x_isK fun i47 h48 => ?_
              subst h48
              refine x_iast 95 dX5_pass_95 ?_
              refine x_aload_n 96 0 dX5_pass_96 rfl ?_
              refine x_aload_n 97 0 dX5_pass_97 rfl ?_
              refine x_getI 98 fa_X5_174_4 dX5_pass_98 fun v49 => ?_
              refine x_putI 101 fa_X5_281_4 rfl (Or.inl rfl) dX5_pass_101 ?_
              refine x_aload_n 104 0 dX5_pass_104 rfl ?_
              refine x_iconst 105 (-1) (-1 : Int32) dX5_pass_105 rfl ?_
              refine x_putI 106 fa_X5_174_4 rfl (Or.inl rfl) dX5_pass_106 ?_
              refine x_aload_n 109 0 dX5_pass_109 rfl ?_
              refine x_iconst 110 5 (5 : Int32) dX5_pass_110 rfl ?_
              refine x_aload_n 111 0 dX5_pass_111 rfl ?_
              refine x_getI 112 fa_X5_281_4 dX5_pass_112 fun v50 => ?_
              refine x_cV 115 0 [.int (5 : Int32), .int v50] [] ⟨by decide, rfl⟩ cv_X5_255 (im_X5_write hl i0 (5 : Int32) v50) (by decide) rfl (Nat.le_of_ble_eq_true rfl) dX5_pass_115 fun v51 => x_stV ?_
              exact hj39 ()
  · refine x_jo 31 (Lf := fun _ => [(0, .ref (idc 4 i0)), (1, .int a1)]) (sf := fun _ => [.int v1, .ref (idc 4 i0)]) (fun _ => ?_) (fun j54 hj53 => ?_)
    · show TX g Γ _ Z _ 31 [(0, .ref (idc 4 i0)), (1, .int a1)] [.int v1, .ref (idc 4 i0)] _
      refine x_iconst 31 0 (0 : Int32) dX5_pass_31 rfl ?_
      exact hj52 (0 : Int32)
    · refine x_if_eq 12 31 dX5_pass_12 rfl (fun c55 => ?_) (fun c55 => ?_)
      · refine x_sub [1, 2] _ rfl ?_
        exact hj53 ()
      · refine x_aload_n 15 1 dX5_pass_15 rfl ?_
        refine x_getI 16 fa_X5_247_4 dX5_pass_16 fun v56 => ?_
        refine x_iload_n 19 2 dX5_pass_19 rfl ?_
        refine x_iadd 20 dX5_pass_20 ?_
        refine x_sipush 21 30000 (30000 : Int32) dX5_pass_21 rfl ?_
        refine x_icmp_gt 24 31 dX5_pass_24 rfl (fun c57 => ?_) (fun c57 => ?_)
        · refine x_sub [1, 2] _ rfl ?_
          exact hj53 ()
        · refine x_iconst 27 1 (1 : Int32) dX5_pass_27 rfl ?_
          refine x_goto 28 32 dX5_pass_28 rfl ?_
          refine x_sub [1, 2] _ rfl ?_
          exact hj52 (1 : Int32)
def f_X5_isSix (a1 : Int32) : PT Int32 := bn0 (f_X5_isIn a1 (0 : Int32) (5 : Int32)) fun v1 => asr (v1 = 0 ∨ v1 = 1) (rt v1)
theorem im_X5_isSix {g : GP} {l : Launch} (hl : l.stackTraces = false) (a1 : Int32) : Im g l 1 yX5_isSix cX5_isSix 1 (some .boolean) eI [.int a1] (f_X5_isSix a1) := by
  refine tx_start hl 1 _ _ _ _ (by decide) (Nat.le_of_ble_eq_true rfl) fun Γ Z hΓ hZ => ?_
  subst hΓ
  unfold f_X5_isSix
  show TX g Γ _ Z _ 0 [(0, .int a1)] [] _
  refine x_iload_n 0 0 dX5_isSix_0 rfl ?_
  refine x_iconst 1 0 (0 : Int32) dX5_isSix_1 rfl ?_
  refine x_iconst 2 5 (5 : Int32) dX5_isSix_2 rfl ?_
  refine x_cS 3 0 [.int a1, .int (0 : Int32), .int (5 : Int32)] [] cs_X5_228 (im_X5_isIn hl a1 (0 : Int32) (5 : Int32)) (by decide) rfl (Nat.le_of_ble_eq_true rfl) dX5_isSix_3 fun v1 => x_stI ?_
  exact x_zret 6 hZ rfl dX5_isSix_6
def f_X5_isFactor (a1 : Int32) : PT Int32 := bn0 (f_X5_isIn a1 (0 : Int32) (2 : Int32)) fun v1 => asr (v1 = 0 ∨ v1 = 1) (rt v1)
theorem im_X5_isFactor {g : GP} {l : Launch} (hl : l.stackTraces = false) (a1 : Int32) : Im g l 1 yX5_isFactor cX5_isFactor 1 (some .boolean) eI [.int a1] (f_X5_isFactor a1) := by
  refine tx_start hl 1 _ _ _ _ (by decide) (Nat.le_of_ble_eq_true rfl) fun Γ Z hΓ hZ => ?_
  subst hΓ
  unfold f_X5_isFactor
  show TX g Γ _ Z _ 0 [(0, .int a1)] [] _
  refine x_iload_n 0 0 dX5_isFactor_0 rfl ?_
  refine x_iconst 1 0 (0 : Int32) dX5_isFactor_1 rfl ?_
  refine x_iconst 2 2 (2 : Int32) dX5_isFactor_2 rfl ?_
  refine x_cS 3 0 [.int a1, .int (0 : Int32), .int (2 : Int32)] [] cs_X5_228 (im_X5_isIn hl a1 (0 : Int32) (2 : Int32)) (by decide) rfl (Nat.le_of_ble_eq_true rfl) dX5_isFactor_3 fun v1 => x_stI ?_
  exact x_zret 6 hZ rfl dX5_isFactor_6
def f_X5_ready (i0 : Nat) (a1 : Int32) (a2 : Int32) : PT Unit := gR 4 i0 1 fun v1 => isK 32 v1 fun i2 => bI 32 i2 (((3 : Int32) * a1) + a2) (1 : Int32) <| gR 4 i0 2 fun v4 => isK 32 v4 fun i5 => bI 32 i5 (((3 : Int32) * a1) + a2) (0 : Int32) <| cnd (a2 = (2 : Int32)) (gR 4 i0 3 fun v8 => isK 32 v8 fun i9 => bI 32 i9 a1 (0 : Int32) <| rt ()) (rt ())
theorem im_X5_ready {g : GP} {l : Launch} (hl : l.stackTraces = false) (i0 : Nat) (a1 : Int32) (a2 : Int32) : Im g l 0 yX5_ready cX5_ready 3 none eV [.ref (idc 4 i0), .int a1, .int a2] (f_X5_ready i0 a1 a2) := by
  refine tx_start hl 0 _ _ _ _ (by decide) (Nat.le_of_ble_eq_true rfl) fun Γ Z hΓ hZ => ?_
  subst hΓ
  unfold f_X5_ready
  show TX g Γ _ Z _ 0 [(0, .ref (idc 4 i0)), (1, .int a1), (2, .int a2)] [] _
  refine x_aload_n 0 0 dX5_ready_0 rfl ?_
  refine x_getR 1 fa_X5_7_4 dX5_ready_1 fun v1 => ?_
  refine x_iconst 4 3 (3 : Int32) dX5_ready_4 rfl ?_
  refine x_iload_n 5 1 dX5_ready_5 rfl ?_
  refine x_imul 6 dX5_ready_6 ?_
  refine x_iload_n 7 2 dX5_ready_7 rfl ?_
  refine x_iadd 8 dX5_ready_8 ?_
  refine x_iconst 9 1 (1 : Int32) dX5_ready_9 rfl ?_
  refine x_isK fun i2 h3 => ?_
  subst h3
  refine x_iast 10 dX5_ready_10 ?_
  refine x_aload_n 11 0 dX5_ready_11 rfl ?_
  refine x_getR 12 fa_X5_13_4 dX5_ready_12 fun v4 => ?_
  refine x_iconst 15 3 (3 : Int32) dX5_ready_15 rfl ?_
  refine x_iload_n 16 1 dX5_ready_16 rfl ?_
  refine x_imul 17 dX5_ready_17 ?_
  refine x_iload_n 18 2 dX5_ready_18 rfl ?_
  refine x_iadd 19 dX5_ready_19 ?_
  refine x_iconst 20 0 (0 : Int32) dX5_ready_20 rfl ?_
  refine x_isK fun i5 h6 => ?_
  subst h6
  refine x_iast 21 dX5_ready_21 ?_
  refine x_iload_n 22 2 dX5_ready_22 rfl ?_
  refine x_iconst 23 2 (2 : Int32) dX5_ready_23 rfl ?_
  refine x_icmp_ne 24 34 dX5_ready_24 rfl (fun c7 => ?_) (fun c7 => ?_)
  · refine x_aload_n 27 0 dX5_ready_27 rfl ?_
    refine x_getR 28 fa_X5_16_4 dX5_ready_28 fun v8 => ?_
    refine x_iload_n 31 1 dX5_ready_31 rfl ?_
    refine x_iconst 32 0 (0 : Int32) dX5_ready_32 rfl ?_
    refine x_isK fun i9 h10 => ?_
    subst h10
    refine x_iast 33 dX5_ready_33 ?_
    exact x_vret 34 hZ rfl dX5_ready_34
  · exact x_vret 34 hZ rfl dX5_ready_34
def f_X5_enroll (i0 : Nat) (a1 : Int32) (a2 : Int32) : PT Int32 := bn0 (f_X5_isSix a1) fun v1 => bn0 (f_X5_isFactor a2) fun v2 => bn0 (f_X5_mayBoth i0 v1 v2) fun v3 => cnd (v3 = 0) (rt (0 : Int32)) (gR 4 i0 1 fun v5 => isK 32 v5 fun i6 => aI 32 i6 (((3 : Int32) * a1) + a2) fun v8 => bn0 (f_X5_ready i0 a1 a2) fun _ => rt v8)
theorem im_X5_enroll {g : GP} {l : Launch} (hl : l.stackTraces = false) (i0 : Nat) (a1 : Int32) (a2 : Int32) : Im g l 2 yX5_enroll cX5_enroll 4 (some .int) eI [.ref (idc 4 i0), .int a1, .int a2] (f_X5_enroll i0 a1 a2) := by
  refine tx_start hl 2 _ _ _ _ (by decide) (Nat.le_of_ble_eq_true rfl) fun Γ Z hΓ hZ => ?_
  subst hΓ
  unfold f_X5_enroll
  show TX g Γ _ Z _ 0 [(0, .ref (idc 4 i0)), (1, .int a1), (2, .int a2)] [] _
  refine x_aload_n 0 0 dX5_enroll_0 rfl ?_
  refine x_iload_n 1 1 dX5_enroll_1 rfl ?_
  refine x_cS 2 1 [.int a1] [.ref (idc 4 i0)] cs_X5_284 (im_X5_isSix hl a1) (by decide) rfl (Nat.le_of_ble_eq_true rfl) dX5_enroll_2 fun v1 => x_stI ?_
  refine x_iload_n 5 2 dX5_enroll_5 rfl ?_
  refine x_cS 6 1 [.int a2] [.int v1, .ref (idc 4 i0)] cs_X5_288 (im_X5_isFactor hl a2) (by decide) rfl (Nat.le_of_ble_eq_true rfl) dX5_enroll_6 fun v2 => x_stI ?_
  refine x_cV 9 0 [.int v1, .int v2] [] ⟨by decide, rfl⟩ cv_X5_274 (im_X5_mayBoth hl i0 v1 v2) (by decide) rfl (Nat.le_of_ble_eq_true rfl) dX5_enroll_9 fun v3 => x_stI ?_
  refine x_if_ne 12 17 dX5_enroll_12 rfl (fun c4 => ?_) (fun c4 => ?_)
  · refine x_iconst 15 0 (0 : Int32) dX5_enroll_15 rfl ?_
    exact x_iret 16 hZ rfl dX5_enroll_16
  · refine x_aload_n 17 0 dX5_enroll_17 rfl ?_
    refine x_getR 18 fa_X5_7_4 dX5_enroll_18 fun v5 => ?_
    refine x_iconst 21 3 (3 : Int32) dX5_enroll_21 rfl ?_
    refine x_iload_n 22 1 dX5_enroll_22 rfl ?_
    refine x_imul 23 dX5_enroll_23 ?_
    refine x_iload_n 24 2 dX5_enroll_24 rfl ?_
    refine x_iadd 25 dX5_enroll_25 ?_
    refine x_isK fun i6 h7 => ?_
    subst h7
    refine x_iald 26 dX5_enroll_26 fun v8 => ?_
    refine x_istore_n 27 [(3, .int v8), (0, .ref (idc 4 i0)), (1, .int a1), (2, .int a2)] dX5_enroll_27 (by decide) rfl ?_
    refine x_aload_n 28 1 dX5_enroll_28 rfl ?_
    refine x_iload_n 29 2 dX5_enroll_29 rfl ?_
    refine x_iload_n 30 3 dX5_enroll_30 rfl ?_
    refine x_cV 31 0 [.int a1, .int a2] [] ⟨by decide, rfl⟩ cv_X5_291 (im_X5_ready hl i0 a1 a2) (by decide) rfl (Nat.le_of_ble_eq_true rfl) dX5_enroll_31 fun v9 => x_stV ?_
    refine x_iload_n 34 0 dX5_enroll_34 rfl ?_
    exact x_iret 35 hZ rfl dX5_enroll_35
def f_X5_factor (i0 : Nat) (a1 : Int32) (a2 : Int32) : PT Int32 := bn0 (f_X5_isSix a1) fun v1 => bn0 (f_X5_isFactor a2) fun v2 => bn0 (f_X5_mayBoth i0 v1 v2) fun v3 => cnd (v3 = 0) (rt (0 : Int32)) (gR 4 i0 1 fun v5 => isK 32 v5 fun i6 => aI 32 i6 (((3 : Int32) * a1) + a2) fun v8 => rt v8)
theorem im_X5_factor {g : GP} {l : Launch} (hl : l.stackTraces = false) (i0 : Nat) (a1 : Int32) (a2 : Int32) : Im g l 2 yX5_factor cX5_factor 3 (some .int) eI [.ref (idc 4 i0), .int a1, .int a2] (f_X5_factor i0 a1 a2) := by
  refine tx_start hl 2 _ _ _ _ (by decide) (Nat.le_of_ble_eq_true rfl) fun Γ Z hΓ hZ => ?_
  subst hΓ
  unfold f_X5_factor
  show TX g Γ _ Z _ 0 [(0, .ref (idc 4 i0)), (1, .int a1), (2, .int a2)] [] _
  refine x_aload_n 0 0 dX5_factor_0 rfl ?_
  refine x_iload_n 1 1 dX5_factor_1 rfl ?_
  refine x_cS 2 1 [.int a1] [.ref (idc 4 i0)] cs_X5_284 (im_X5_isSix hl a1) (by decide) rfl (Nat.le_of_ble_eq_true rfl) dX5_factor_2 fun v1 => x_stI ?_
  refine x_iload_n 5 2 dX5_factor_5 rfl ?_
  refine x_cS 6 1 [.int a2] [.int v1, .ref (idc 4 i0)] cs_X5_288 (im_X5_isFactor hl a2) (by decide) rfl (Nat.le_of_ble_eq_true rfl) dX5_factor_6 fun v2 => x_stI ?_
  refine x_cV 9 0 [.int v1, .int v2] [] ⟨by decide, rfl⟩ cv_X5_274 (im_X5_mayBoth hl i0 v1 v2) (by decide) rfl (Nat.le_of_ble_eq_true rfl) dX5_factor_9 fun v3 => x_stI ?_
  refine x_if_eq 12 28 dX5_factor_12 rfl (fun c4 => ?_) (fun c4 => ?_)
  · refine x_iconst 28 0 (0 : Int32) dX5_factor_28 rfl ?_
    exact x_iret 29 hZ rfl dX5_factor_29
  · refine x_aload_n 15 0 dX5_factor_15 rfl ?_
    refine x_getR 16 fa_X5_7_4 dX5_factor_16 fun v5 => ?_
    refine x_iconst 19 3 (3 : Int32) dX5_factor_19 rfl ?_
    refine x_iload_n 20 1 dX5_factor_20 rfl ?_
    refine x_imul 21 dX5_factor_21 ?_
    refine x_iload_n 22 2 dX5_factor_22 rfl ?_
    refine x_iadd 23 dX5_factor_23 ?_
    refine x_isK fun i6 h7 => ?_
    subst h7
    refine x_iald 24 dX5_factor_24 fun v8 => ?_
    refine x_goto 25 29 dX5_factor_25 rfl ?_
    exact x_iret 29 hZ rfl dX5_factor_29
def f_X5_isNext (a1 : Int32) : PT Int32 := bn0 (f_X5_isIn a1 (-1 : Int32) (11 : Int32)) fun v1 => asr (v1 = 0 ∨ v1 = 1) (rt v1)
theorem im_X5_isNext {g : GP} {l : Launch} (hl : l.stackTraces = false) (a1 : Int32) : Im g l 1 yX5_isNext cX5_isNext 1 (some .boolean) eI [.int a1] (f_X5_isNext a1) := by
  refine tx_start hl 1 _ _ _ _ (by decide) (Nat.le_of_ble_eq_true rfl) fun Γ Z hΓ hZ => ?_
  subst hΓ
  unfold f_X5_isNext
  show TX g Γ _ Z _ 0 [(0, .int a1)] [] _
  refine x_iload_n 0 0 dX5_isNext_0 rfl ?_
  refine x_iconst 1 (-1) (-1 : Int32) dX5_isNext_1 rfl ?_
  refine x_bipush 2 11 (11 : Int32) dX5_isNext_2 rfl ?_
  refine x_cS 4 0 [.int a1, .int (-1 : Int32), .int (11 : Int32)] [] cs_X5_228 (im_X5_isIn hl a1 (-1 : Int32) (11 : Int32)) (by decide) rfl (Nat.le_of_ble_eq_true rfl) dX5_isNext_4 fun v1 => x_stI ?_
  exact x_zret 7 hZ rfl dX5_isNext_7
def f_X5_step (i0 : Nat) (a1 : Int32) (a2 : Int32) (a3 : Int32) (a4 : Int32) (a5 : Int32) : PT Int32 := bnd (ρ := _) (α := Int32) (jo (σ := Unit) (fun _ => rt (2 : Int32)) fun j62 => cnd (a1 = 0) (j62 ()) (cnd (a1 = (3 : Int32)) (j62 ()) (cnd (a1 = (2 : Int32)) (rt (20 : Int32)) (cnd (a1 = (4 : Int32)) (rt (6 : Int32)) (rt (0 : Int32)))))) (fun u1 => bn0 (f_X5_isIn a1 (0 : Int32) (6 : Int32)) fun v2 => bnd (ρ := _) (α := Int32) (jo (σ := Unit) (fun _ => rt (0 : Int32)) fun j52 => cnd (v2 = 0) (j52 ()) (bn0 (f_X5_isIn a2 (0 : Int32) u1) fun v54 => cnd (v54 = 0) (j52 ()) (cnd (a1 = 0) (bn0 (f_X5_isIn a3 (1 : Int32) (3 : Int32)) fun v57 => cnd (v57 = 0) (j52 ()) (rt (1 : Int32))) (cnd (a3 = 0) (rt (1 : Int32)) (j52 ()))))) (fun u3 => bnd (ρ := _) (α := Int32) (jo (σ := Unit) (fun _ => rt (0 : Int32)) fun j43 => cnd (u3 = 0) (j43 ()) (cnd ((5 : Int32) ≤ a1) (rt (1 : Int32)) (bn0 (f_X5_isNext a4) fun v46 => cnd (v46 = 0) (j43 ()) (bn0 (f_X5_isNext a5) fun v48 => cnd (v48 = 0) (j43 ()) (rt (1 : Int32)))))) (fun u4 => gR 4 i0 10 fun v5 => isK 32 v5 fun i6 => aI 32 i6 (8 : Int32) fun v8 => bnd (ρ := _) (α := Int32) (cnd ((12 : Int32) ≤ v8) (rt (0 : Int32)) (rt (1 : Int32))) (fun u9 => bn0 (f_X5_mayBoth i0 u4 u9) fun v10 => cnd (v10 = 0) (rt (0 : Int32)) (gR 4 i0 10 fun v12 => isK 32 v12 fun i13 => aI 32 i13 (8 : Int32) fun v15 => gR 4 i0 11 fun v16 => isK 32 v16 fun i17 => bI 32 i17 ((96 : Int32) + v15) a1 <| gR 4 i0 12 fun v19 => isK 32 v19 fun i20 => bI 32 i20 ((96 : Int32) + v15) a2 <| gR 4 i0 13 fun v22 => isK 32 v22 fun i23 => bI 32 i23 ((96 : Int32) + v15) a3 <| gR 4 i0 14 fun v25 => isK 32 v25 fun i26 => bI 32 i26 ((96 : Int32) + v15) a4 <| gR 4 i0 15 fun v28 => isK 32 v28 fun i29 => bI 32 i29 ((96 : Int32) + v15) a5 <| gR 4 i0 10 fun v31 => isK 32 v31 fun i32 => aI 32 i32 (8 : Int32) fun v34 => bI 32 i32 (8 : Int32) (v34 + (1 : Int32)) <| gR 4 i0 10 fun v35 => isK 32 v35 fun i36 => aI 32 i36 (8 : Int32) fun v38 => rt (v38 - (1 : Int32)))))))
theorem im_X5_step {g : GP} {l : Launch} (hl : l.stackTraces = false) (i0 : Nat) (a1 : Int32) (a2 : Int32) (a3 : Int32) (a4 : Int32) (a5 : Int32) : Im g l 2 yX5_step cX5_step 9 (some .int) eI [.ref (idc 4 i0), .int a1, .int a2, .int a3, .int a4, .int a5] (f_X5_step i0 a1 a2 a3 a4 a5) := by
  refine tx_start hl 2 _ _ _ _ (by decide) (Nat.le_of_ble_eq_true rfl) fun Γ Z hΓ hZ => ?_
  subst hΓ
  unfold f_X5_step
  show TX g Γ _ Z _ 0 [(0, .ref (idc 4 i0)), (1, .int a1), (2, .int a2), (3, .int a3), (4, .int a4), (5, .int a5)] [] _
  refine x_iload_n 0 1 dX5_step_0 rfl ?_
  refine x_bndj 34 (fun u1 => [(0, .ref (idc 4 i0)), (1, .int a1), (2, .int a2), (3, .int a3), (4, .int a4), (5, .int a5)]) (fun u1 => [.int u1]) (fun u1 => ?_) (fun hj60 => ?_)
  · show TX g Γ _ Z _ 34 [(0, .ref (idc 4 i0)), (1, .int a1), (2, .int a2), (3, .int a3), (4, .int a4), (5, .int a5)] [.int u1] _
    refine x_istore 34 [(6, .int u1), (0, .ref (idc 4 i0)), (1, .int a1), (2, .int a2), (3, .int a3), (4, .int a4), (5, .int a5)] dX5_step_34 (by decide) rfl ?_
    refine x_iload_n 36 2 dX5_step_36 rfl ?_
    refine x_iconst 37 0 (0 : Int32) dX5_step_37 rfl ?_
    refine x_bipush 38 6 (6 : Int32) dX5_step_38 rfl ?_
    refine x_cS 40 0 [.int a1, .int (0 : Int32), .int (6 : Int32)] [] cs_X5_228 (im_X5_isIn hl a1 (0 : Int32) (6 : Int32)) (by decide) rfl (Nat.le_of_ble_eq_true rfl) dX5_step_40 fun v2 => x_stI ?_
    refine x_bndj 81 (fun u3 => [(0, .ref (idc 4 i0)), (1, .int a1), (2, .int a2), (3, .int a3), (4, .int a4), (5, .int a5)]) (fun u3 => [.int u3]) (fun u3 => ?_) (fun hj50 => ?_)
    · show TX g Γ _ Z _ 81 [(0, .ref (idc 4 i0)), (1, .int a1), (2, .int a2), (3, .int a3), (4, .int a4), (5, .int a5)] [.int u3] _
      refine x_istore 81 [(7, .int u3), (0, .ref (idc 4 i0)), (1, .int a1), (2, .int a2), (3, .int a3), (4, .int a4), (5, .int a5)] dX5_step_81 (by decide) rfl ?_
      refine x_iload 83 0 dX5_step_83 rfl ?_
      refine x_bndj 114 (fun u4 => [(0, .ref (idc 4 i0)), (1, .int a1), (2, .int a2), (3, .int a3), (4, .int a4), (5, .int a5)]) (fun u4 => [.int u4]) (fun u4 => ?_) (fun hj41 => ?_)
      · show TX g Γ _ Z _ 114 [(0, .ref (idc 4 i0)), (1, .int a1), (2, .int a2), (3, .int a3), (4, .int a4), (5, .int a5)] [.int u4] _
        refine x_istore 114 [(7, .int u4), (0, .ref (idc 4 i0)), (1, .int a1), (2, .int a2), (3, .int a3), (4, .int a4), (5, .int a5)] dX5_step_114 (by decide) rfl ?_
        refine x_aload_n 116 1 dX5_step_116 rfl ?_
        refine x_iload 117 0 dX5_step_117 rfl ?_
        refine x_aload_n 119 1 dX5_step_119 rfl ?_
        refine x_getR 120 fa_X5_35_4 dX5_step_120 fun v5 => ?_
        refine x_bipush 123 8 (8 : Int32) dX5_step_123 rfl ?_
        refine x_isK fun i6 h7 => ?_
        subst h7
        refine x_iald 125 dX5_step_125 fun v8 => ?_
        refine x_bipush 126 12 (12 : Int32) dX5_step_126 rfl ?_
        refine x_bndj 136 (fun u9 => [(0, .ref (idc 4 i0)), (1, .int a1), (2, .int a2), (3, .int a3), (4, .int a4), (5, .int a5)]) (fun u9 => [.int u9, .int u4, .ref (idc 4 i0)]) (fun u9 => ?_) (fun hj39 => ?_)
        · show TX g Γ _ Z _ 136 [(0, .ref (idc 4 i0)), (1, .int a1), (2, .int a2), (3, .int a3), (4, .int a4), (5, .int a5)] [.int u9, .int u4, .ref (idc 4 i0)] _
          refine x_cV 136 0 [.int u4, .int u9] [] ⟨by decide, rfl⟩ cv_X5_274 (im_X5_mayBoth hl i0 u4 u9) (by decide) rfl (Nat.le_of_ble_eq_true rfl) dX5_step_136 fun v10 => x_stI ?_
          refine x_if_ne 139 144 dX5_step_139 rfl (fun c11 => ?_) (fun c11 => ?_)
          · refine x_iconst 142 0 (0 : Int32) dX5_step_142 rfl ?_
            exact x_iret 143 hZ rfl dX5_step_143
          · refine x_bipush 144 96 (96 : Int32) dX5_step_144 rfl ?_
            refine x_aload_n 146 0 dX5_step_146 rfl ?_
            refine x_getR 147 fa_X5_35_4 dX5_step_147 fun v12 => ?_
            refine x_bipush 150 8 (8 : Int32) dX5_step_150 rfl ?_
            refine x_isK fun i13 h14 => ?_
            subst h14
            refine x_iald 152 dX5_step_152 fun v15 => ?_
            refine x_iadd 153 dX5_step_153 ?_
            refine x_istore 154 [(8, .int ((96 : Int32) + v15)), (0, .ref (idc 4 i0)), (1, .int a1), (2, .int a2), (3, .int a3), (4, .int a4), (5, .int a5)] dX5_step_154 (by decide) rfl ?_
            refine x_aload_n 156 1 dX5_step_156 rfl ?_
            refine x_getR 157 fa_X5_38_4 dX5_step_157 fun v16 => ?_
            refine x_iload 160 0 dX5_step_160 rfl ?_
            refine x_iload_n 162 2 dX5_step_162 rfl ?_
            refine x_isK fun i17 h18 => ?_
            subst h18
            refine x_iast 163 dX5_step_163 ?_
            refine x_aload_n 164 1 dX5_step_164 rfl ?_
            refine x_getR 165 fa_X5_41_4 dX5_step_165 fun v19 => ?_
            refine x_iload 168 0 dX5_step_168 rfl ?_
            refine x_iload_n 170 3 dX5_step_170 rfl ?_
            refine x_isK fun i20 h21 => ?_
            subst h21
            refine x_iast 171 dX5_step_171 ?_
            refine x_aload_n 172 1 dX5_step_172 rfl ?_
            refine x_getR 173 fa_X5_44_4 dX5_step_173 fun v22 => ?_
            refine x_iload 176 0 dX5_step_176 rfl ?_
            refine x_iload_n 178 4 dX5_step_178 rfl ?_
            refine x_isK fun i23 h24 => ?_
            subst h24
            refine x_iast 179 dX5_step_179 ?_
            refine x_aload_n 180 1 dX5_step_180 rfl ?_
            refine x_getR 181 fa_X5_47_4 dX5_step_181 fun v25 => ?_
            refine x_iload 184 0 dX5_step_184 rfl ?_
            refine x_iload 186 5 dX5_step_186 rfl ?_
            refine x_isK fun i26 h27 => ?_
            subst h27
            refine x_iast 188 dX5_step_188 ?_
            refine x_aload_n 189 1 dX5_step_189 rfl ?_
            refine x_getR 190 fa_X5_50_4 dX5_step_190 fun v28 => ?_
            refine x_iload 193 0 dX5_step_193 rfl ?_
            refine x_iload 195 6 dX5_step_195 rfl ?_
            refine x_isK fun i29 h30 => ?_
            subst h30
            refine x_iast 197 dX5_step_197 ?_
            refine x_aload_n 198 1 dX5_step_198 rfl ?_
            refine x_getR 199 fa_X5_35_4 dX5_step_199 fun v31 => ?_
            refine x_bipush 202 8 (8 : Int32) dX5_step_202 rfl ?_
            refine x_dup2 204 dX5_step_204 rfl rfl ?_
            refine x_isK fun i32 h33 => ?_
            subst h33
            refine x_iald 205 dX5_step_205 fun v34 => ?_
            refine x_iconst 206 1 (1 : Int32) dX5_step_206 rfl ?_
            refine x_iadd 207 dX5_step_207 ?_
            refine x_iast 208 dX5_step_208 ?_
            refine x_aload_n 209 1 dX5_step_209 rfl ?_
            refine x_getR 210 fa_X5_35_4 dX5_step_210 fun v35 => ?_
            refine x_bipush 213 8 (8 : Int32) dX5_step_213 rfl ?_
            refine x_isK fun i36 h37 => ?_
            subst h37
            refine x_iald 215 dX5_step_215 fun v38 => ?_
            refine x_iconst 216 1 (1 : Int32) dX5_step_216 rfl ?_
            refine x_isub 217 dX5_step_217 ?_
            exact x_iret 218 hZ rfl dX5_step_218
        · refine x_icmp_ge 128 135 dX5_step_128 rfl (fun c40 => ?_) (fun c40 => ?_)
          · refine x_iconst 135 0 (0 : Int32) dX5_step_135 rfl ?_
            refine x_sub [1, 2, 3, 4, 5, 6] _ rfl ?_
            exact hj39 (0 : Int32)
          · refine x_iconst 131 1 (1 : Int32) dX5_step_131 rfl ?_
            refine x_goto 132 136 dX5_step_132 rfl ?_
            refine x_sub [1, 2, 3, 4, 5, 6] _ rfl ?_
            exact hj39 (1 : Int32)
      · refine x_jo 113 (Lf := fun _ => [(0, .ref (idc 4 i0)), (1, .int a1), (2, .int a2), (3, .int a3), (4, .int a4), (5, .int a5)]) (sf := fun _ => []) (fun _ => ?_) (fun j43 hj42 => ?_)
        · show TX g Γ _ Z _ 113 [(0, .ref (idc 4 i0)), (1, .int a1), (2, .int a2), (3, .int a3), (4, .int a4), (5, .int a5)] [] _
          refine x_iconst 113 0 (0 : Int32) dX5_step_113 rfl ?_
          exact hj41 (0 : Int32)
        · refine x_if_eq 85 113 dX5_step_85 rfl (fun c44 => ?_) (fun c44 => ?_)
          · refine x_sub [1, 2, 3, 4, 5, 6] _ rfl ?_
            exact hj42 ()
          · refine x_iload_n 88 2 dX5_step_88 rfl ?_
            refine x_iconst 89 5 (5 : Int32) dX5_step_89 rfl ?_
            refine x_icmp_ge 90 109 dX5_step_90 rfl (fun c45 => ?_) (fun c45 => ?_)
            · refine x_iconst 109 1 (1 : Int32) dX5_step_109 rfl ?_
              refine x_goto 110 114 dX5_step_110 rfl ?_
              refine x_sub [1, 2, 3, 4, 5, 6] _ rfl ?_
              exact hj41 (1 : Int32)
            · refine x_iload 93 5 dX5_step_93 rfl ?_
              refine x_cS 95 1 [.int a4] [] cs_X5_297 (im_X5_isNext hl a4) (by decide) rfl (Nat.le_of_ble_eq_true rfl) dX5_step_95 fun v46 => x_stI ?_
              refine x_if_eq 98 113 dX5_step_98 rfl (fun c47 => ?_) (fun c47 => ?_)
              · refine x_sub [1, 2, 3, 4, 5, 6] _ rfl ?_
                exact hj42 ()
              · refine x_iload 101 6 dX5_step_101 rfl ?_
                refine x_cS 103 1 [.int a5] [] cs_X5_297 (im_X5_isNext hl a5) (by decide) rfl (Nat.le_of_ble_eq_true rfl) dX5_step_103 fun v48 => x_stI ?_
                refine x_if_eq 106 113 dX5_step_106 rfl (fun c49 => ?_) (fun c49 => ?_)
                · refine x_sub [1, 2, 3, 4, 5, 6] _ rfl ?_
                  exact hj42 ()
                · refine x_iconst 109 1 (1 : Int32) dX5_step_109 rfl ?_
                  refine x_goto 110 114 dX5_step_110 rfl ?_
                  refine x_sub [1, 2, 3, 4, 5, 6] _ rfl ?_
                  exact hj41 (1 : Int32)
    · refine x_jo 80 (Lf := fun _ => [(0, .ref (idc 4 i0)), (1, .int a1), (2, .int a2), (3, .int a3), (4, .int a4), (5, .int a5)]) (sf := fun _ => []) (fun _ => ?_) (fun j52 hj51 => ?_)
      · show TX g Γ _ Z _ 80 [(0, .ref (idc 4 i0)), (1, .int a1), (2, .int a2), (3, .int a3), (4, .int a4), (5, .int a5)] [] _
        refine x_iconst 80 0 (0 : Int32) dX5_step_80 rfl ?_
        exact hj50 (0 : Int32)
      · refine x_if_eq 43 80 dX5_step_43 rfl (fun c53 => ?_) (fun c53 => ?_)
        · refine x_sub [1, 2, 3, 4, 5, 6] _ rfl ?_
          exact hj51 ()
        · refine x_iload_n 46 3 dX5_step_46 rfl ?_
          refine x_iconst 47 0 (0 : Int32) dX5_step_47 rfl ?_
          refine x_iload 48 0 dX5_step_48 rfl ?_
          refine x_cS 50 0 [.int a2, .int (0 : Int32), .int u1] [] cs_X5_228 (im_X5_isIn hl a2 (0 : Int32) u1) (by decide) rfl (Nat.le_of_ble_eq_true rfl) dX5_step_50 fun v54 => x_stI ?_
          refine x_if_eq 53 80 dX5_step_53 rfl (fun c55 => ?_) (fun c55 => ?_)
          · refine x_sub [1, 2, 3, 4, 5, 6] _ rfl ?_
            exact hj51 ()
          · refine x_iload_n 56 2 dX5_step_56 rfl ?_
            refine x_if_ne 57 72 dX5_step_57 rfl (fun c56 => ?_) (fun c56 => ?_)
            · refine x_iload_n 60 4 dX5_step_60 rfl ?_
              refine x_iconst 61 1 (1 : Int32) dX5_step_61 rfl ?_
              refine x_iconst 62 3 (3 : Int32) dX5_step_62 rfl ?_
              refine x_cS 63 0 [.int a3, .int (1 : Int32), .int (3 : Int32)] [] cs_X5_228 (im_X5_isIn hl a3 (1 : Int32) (3 : Int32)) (by decide) rfl (Nat.le_of_ble_eq_true rfl) dX5_step_63 fun v57 => x_stI ?_
              refine x_if_eq 66 80 dX5_step_66 rfl (fun c58 => ?_) (fun c58 => ?_)
              · refine x_sub [1, 2, 3, 4, 5, 6] _ rfl ?_
                exact hj51 ()
              · refine x_goto 69 76 dX5_step_69 rfl ?_
                refine x_iconst 76 1 (1 : Int32) dX5_step_76 rfl ?_
                refine x_goto 77 81 dX5_step_77 rfl ?_
                refine x_sub [1, 2, 3, 4, 5, 6] _ rfl ?_
                exact hj50 (1 : Int32)
            · refine x_iload_n 72 4 dX5_step_72 rfl ?_
              refine x_if_ne 73 80 dX5_step_73 rfl (fun c59 => ?_) (fun c59 => ?_)
              · refine x_iconst 76 1 (1 : Int32) dX5_step_76 rfl ?_
                refine x_goto 77 81 dX5_step_77 rfl ?_
                refine x_sub [1, 2, 3, 4, 5, 6] _ rfl ?_
                exact hj50 (1 : Int32)
              · refine x_sub [1, 2, 3, 4, 5, 6] _ rfl ?_
                exact hj51 ()
  · refine x_jo 9 (Lf := fun _ => [(0, .ref (idc 4 i0)), (1, .int a1), (2, .int a2), (3, .int a3), (4, .int a4), (5, .int a5)]) (sf := fun _ => []) (fun _ => ?_) (fun j62 hj61 => ?_)
    · show TX g Γ _ Z _ 9 [(0, .ref (idc 4 i0)), (1, .int a1), (2, .int a2), (3, .int a3), (4, .int a4), (5, .int a5)] [] _
      refine x_iconst 9 2 (2 : Int32) dX5_step_9 rfl ?_
      refine x_goto 10 34 dX5_step_10 rfl ?_
      exact hj60 (2 : Int32)
    · refine x_if_eq 1 9 dX5_step_1 rfl (fun c63 => ?_) (fun c63 => ?_)
      · exact hj61 ()
      · refine x_iload_n 4 1 dX5_step_4 rfl ?_
        refine x_iconst 5 3 (3 : Int32) dX5_step_5 rfl ?_
        refine x_icmp_ne 6 13 dX5_step_6 rfl (fun c64 => ?_) (fun c64 => ?_)
        · exact hj61 ()
        · refine x_iload_n 13 1 dX5_step_13 rfl ?_
          refine x_iconst 14 2 (2 : Int32) dX5_step_14 rfl ?_
          refine x_icmp_ne 15 23 dX5_step_15 rfl (fun c65 => ?_) (fun c65 => ?_)
          · refine x_bipush 18 20 (20 : Int32) dX5_step_18 rfl ?_
            refine x_goto 20 34 dX5_step_20 rfl ?_
            exact hj60 (20 : Int32)
          · refine x_iload_n 23 1 dX5_step_23 rfl ?_
            refine x_iconst 24 4 (4 : Int32) dX5_step_24 rfl ?_
            refine x_icmp_ne 25 33 dX5_step_25 rfl (fun c66 => ?_) (fun c66 => ?_)
            · refine x_bipush 28 6 (6 : Int32) dX5_step_28 rfl ?_
              refine x_goto 30 34 dX5_step_30 rfl ?_
              exact hj60 (6 : Int32)
            · refine x_iconst 33 0 (0 : Int32) dX5_step_33 rfl ?_
              exact hj60 (0 : Int32)
def f_X5_clear (i0 : Nat) : PT Int32 := pI 4 i0 82 (0 : Int32) <| gR 4 i0 10 fun v1 => isK 32 v1 fun i2 => aI 32 i2 (8 : Int32) fun v4 => gR 4 i0 10 fun v5 => isK 32 v5 fun i6 => bI 32 i6 (8 : Int32) (0 : Int32) <| rt v4
theorem im_X5_clear {g : GP} {l : Launch} (hl : l.stackTraces = false) (i0 : Nat) : Im g l 0 yX5_clear cX5_clear 2 (some .int) eI [.ref (idc 4 i0)] (f_X5_clear i0) := by
  refine tx_start hl 0 _ _ _ _ (by decide) (Nat.le_of_ble_eq_true rfl) fun Γ Z hΓ hZ => ?_
  subst hΓ
  unfold f_X5_clear
  show TX g Γ _ Z _ 0 [(0, .ref (idc 4 i0))] [] _
  refine x_aload_n 0 0 dX5_clear_0 rfl ?_
  refine x_iconst 1 0 (0 : Int32) dX5_clear_1 rfl ?_
  refine x_putI 2 fa_X5_225_4 rfl (Or.inl rfl) dX5_clear_2 ?_
  refine x_aload_n 5 0 dX5_clear_5 rfl ?_
  refine x_getR 6 fa_X5_35_4 dX5_clear_6 fun v1 => ?_
  refine x_bipush 9 8 (8 : Int32) dX5_clear_9 rfl ?_
  refine x_isK fun i2 h3 => ?_
  subst h3
  refine x_iald 11 dX5_clear_11 fun v4 => ?_
  refine x_istore_n 12 [(1, .int v4), (0, .ref (idc 4 i0))] dX5_clear_12 (by decide) rfl ?_
  refine x_aload_n 13 1 dX5_clear_13 rfl ?_
  refine x_getR 14 fa_X5_35_4 dX5_clear_14 fun v5 => ?_
  refine x_bipush 17 8 (8 : Int32) dX5_clear_17 rfl ?_
  refine x_iconst 19 0 (0 : Int32) dX5_clear_19 rfl ?_
  refine x_isK fun i6 h7 => ?_
  subst h7
  refine x_iast 20 dX5_clear_20 ?_
  refine x_iload_n 21 0 dX5_clear_21 rfl ?_
  exact x_iret 22 hZ rfl dX5_clear_22
def f_X5_isTest (a1 : Int32) : PT Int32 := cnd (a1 < (1 : Int32)) (asr ((0 : Int32) = 0 ∨ (0 : Int32) = 1) (rt (0 : Int32))) (cnd ((4 : Int32) < a1) (asr ((0 : Int32) = 0 ∨ (0 : Int32) = 1) (rt (0 : Int32))) (asr ((1 : Int32) = 0 ∨ (1 : Int32) = 1) (rt (1 : Int32))))
theorem im_X5_isTest {g : GP} {l : Launch} (hl : l.stackTraces = false) (a1 : Int32) : Im g l 0 yX5_isTest cX5_isTest 1 (some .boolean) eI [.int a1] (f_X5_isTest a1) := by
  refine tx_start hl 0 _ _ _ _ (by decide) (Nat.le_of_ble_eq_true rfl) fun Γ Z hΓ hZ => ?_
  subst hΓ
  unfold f_X5_isTest
  show TX g Γ _ Z _ 0 [(0, .int a1)] [] _
  refine x_iload_n 0 0 dX5_isTest_0 rfl ?_
  refine x_iconst 1 1 (1 : Int32) dX5_isTest_1 rfl ?_
  refine x_icmp_lt 2 14 dX5_isTest_2 rfl (fun c1 => ?_) (fun c1 => ?_)
  · refine x_iconst 14 0 (0 : Int32) dX5_isTest_14 rfl ?_
    exact x_zret 15 hZ rfl dX5_isTest_15
  · refine x_iload_n 5 0 dX5_isTest_5 rfl ?_
    refine x_iconst 6 4 (4 : Int32) dX5_isTest_6 rfl ?_
    refine x_icmp_gt 7 14 dX5_isTest_7 rfl (fun c2 => ?_) (fun c2 => ?_)
    · refine x_iconst 14 0 (0 : Int32) dX5_isTest_14 rfl ?_
      exact x_zret 15 hZ rfl dX5_isTest_15
    · refine x_iconst 10 1 (1 : Int32) dX5_isTest_10 rfl ?_
      refine x_goto 11 15 dX5_isTest_11 rfl ?_
      exact x_zret 15 hZ rfl dX5_isTest_15
def f_X5_circles (i0 : Nat) (a1 : Int32) : PT Int32 := lp (σ := Int32 × Int32 × Int32) (fun r4 => un3 fun u1 u2 u3 => cnd (u2 = u1) (asr (u3 = 0 ∨ u3 = 1) (rt u3)) (lp (σ := Int32 × Int32 × Int32) (fun r9 => un3 fun u6 u7 u8 => gR 4 i0 10 fun v10 => isK 32 v10 fun i11 => aI 32 i11 (8 : Int32) fun v13 => cnd (v13 ≤ u8) (r4 (u2, u6, u7)) (cnd (((u2 >>> (u8 &&& 31)) &&& (1 : Int32)) = (1 : Int32)) (gR 4 i0 11 fun v16 => isK 32 v16 fun i17 => aI 32 i17 ((96 : Int32) + u8) fun v19 => bn0 (f_X5_isTest v19) fun v20 => cnd (v20 = 0) (r9 (u6, u7, u8 + (1 : Int32))) (gR 4 i0 14 fun v22 => isK 32 v22 fun i23 => aI 32 i23 ((96 : Int32) + u8) fun v25 => gR 4 i0 15 fun v26 => isK 32 v26 fun i27 => aI 32 i27 ((96 : Int32) + u8) fun v29 => bnd (ρ := _) (α := Int32) (jo (σ := Unit) (fun _ => rt (1 : Int32)) fun j38 => cnd (u7 = 0) (cnd (v25 = a1) (j38 ()) (cnd (v29 = a1) (j38 ()) (rt (0 : Int32)))) (j38 ())) (fun u30 => bnd (ρ := _) (α := Int32) (cnd (v25 < 0) (rt (0 : Int32)) (rt ((1 : Int32) <<< (v25 &&& 31)))) (fun u31 => cnd (v29 < 0) (r9 ((u6 ||| u31) ||| (0 : Int32), u30, u8 + (1 : Int32))) (bnd (rt ((u6 ||| u31) ||| ((1 : Int32) <<< (v29 &&& 31)))) fun v33 => r9 (v33, u30, u8 + (1 : Int32))))))) (r9 (u6, u7, u8 + (1 : Int32))))) (u2, u3, (0 : Int32)))) ((0 : Int32), (1 : Int32) <<< (a1 &&& 31), (0 : Int32))
theorem im_X5_circles {g : GP} {l : Launch} (hl : l.stackTraces = false) (i0 : Nat) (a1 : Int32) : Im g l 1 yX5_circles cX5_circles 8 (some .boolean) eI [.ref (idc 4 i0), .int a1] (f_X5_circles i0 a1) := by
  refine tx_start hl 1 _ _ _ _ (by decide) (Nat.le_of_ble_eq_true rfl) fun Γ Z hΓ hZ => ?_
  subst hΓ
  unfold f_X5_circles
  show TX g Γ _ Z _ 0 [(0, .ref (idc 4 i0)), (1, .int a1)] [] _
  refine x_iconst 0 0 (0 : Int32) dX5_circles_0 rfl ?_
  refine x_istore_n 1 [(2, .int (0 : Int32)), (0, .ref (idc 4 i0)), (1, .int a1)] dX5_circles_1 (by decide) rfl ?_
  refine x_iconst 2 1 (1 : Int32) dX5_circles_2 rfl ?_
  refine x_iload_n 3 2 dX5_circles_3 rfl ?_
  refine x_ishl 4 dX5_circles_4 ?_
  refine x_istore_n 5 [(3, .int ((1 : Int32) <<< (a1 &&& 31))), (2, .int (0 : Int32)), (0, .ref (idc 4 i0)), (1, .int a1)] dX5_circles_5 (by decide) rfl ?_
  refine x_iconst 6 0 (0 : Int32) dX5_circles_6 rfl ?_
  refine x_istore 7 [(4, .int (0 : Int32)), (3, .int ((1 : Int32) <<< (a1 &&& 31))), (2, .int (0 : Int32)), (0, .ref (idc 4 i0)), (1, .int a1)] dX5_circles_7 (by decide) rfl ?_
  refine x_sub [3, 4, 2, 1, 0] [(0, .ref (idc 4 i0)), (1, .int a1), (2, .int (0 : Int32)), (3, .int ((1 : Int32) <<< (a1 &&& 31))), (4, .int (0 : Int32))] rfl ?_
  refine x_lp (Lf := fun u => [(0, .ref (idc 4 i0)), (1, .int a1), (2, .int u.1), (3, .int u.2.1), (4, .int u.2.2)]) (sf := fun _ => []) (fun r4 hr4 u => ?_) ((0 : Int32), (1 : Int32) <<< (a1 &&& 31), (0 : Int32))
  obtain ⟨u1, u2, u3⟩ := u
  show TX g Γ _ Z _ 9 [(0, .ref (idc 4 i0)), (1, .int a1), (2, .int u1), (3, .int u2), (4, .int u3)] [] _
  refine x_un3 ?_
  refine x_iload_n 9 3 dX5_circles_9 rfl ?_
  refine x_iload_n 10 2 dX5_circles_10 rfl ?_
  refine x_icmp_eq 11 146 dX5_circles_11 rfl (fun c5 => ?_) (fun c5 => ?_)
  · refine x_iload 146 4 dX5_circles_146 rfl ?_
    exact x_zret 148 hZ rfl dX5_circles_148
  · refine x_iload_n 14 3 dX5_circles_14 rfl ?_
    refine x_istore_n 15 [(2, .int u2), (0, .ref (idc 4 i0)), (1, .int a1), (3, .int u2), (4, .int u3)] dX5_circles_15 (by decide) rfl ?_
    refine x_iconst 16 0 (0 : Int32) dX5_circles_16 rfl ?_
    refine x_istore 17 [(5, .int (0 : Int32)), (2, .int u2), (0, .ref (idc 4 i0)), (1, .int a1), (3, .int u2), (4, .int u3)] dX5_circles_17 (by decide) rfl ?_
    refine x_sub [2, 3, 1, 4, 5, 0] [(0, .ref (idc 4 i0)), (1, .int a1), (2, .int u2), (3, .int u2), (4, .int u3), (5, .int (0 : Int32))] rfl ?_
    refine x_lp (Lf := fun u => [(0, .ref (idc 4 i0)), (1, .int a1), (2, .int u2), (3, .int u.1), (4, .int u.2.1), (5, .int u.2.2)]) (sf := fun _ => []) (fun r9 hr9 u => ?_) (u2, u3, (0 : Int32))
    obtain ⟨u6, u7, u8⟩ := u
    show TX g Γ _ Z _ 19 [(0, .ref (idc 4 i0)), (1, .int a1), (2, .int u2), (3, .int u6), (4, .int u7), (5, .int u8)] [] _
    refine x_un3 ?_
    refine x_iload 19 5 dX5_circles_19 rfl ?_
    refine x_aload_n 21 0 dX5_circles_21 rfl ?_
    refine x_getR 22 fa_X5_35_4 dX5_circles_22 fun v10 => ?_
    refine x_bipush 25 8 (8 : Int32) dX5_circles_25 rfl ?_
    refine x_isK fun i11 h12 => ?_
    subst h12
    refine x_iald 27 dX5_circles_27 fun v13 => ?_
    refine x_icmp_ge 28 143 dX5_circles_28 rfl (fun c14 => ?_) (fun c14 => ?_)
    · refine x_goto 143 9 dX5_circles_143 rfl ?_
      refine x_sub [0, 1, 2, 3, 4] _ rfl ?_
      exact hr4 (u2, u6, u7)
    · refine x_iload_n 31 2 dX5_circles_31 rfl ?_
      refine x_iload 32 5 dX5_circles_32 rfl ?_
      refine x_ishr 34 dX5_circles_34 ?_
      refine x_iconst 35 1 (1 : Int32) dX5_circles_35 rfl ?_
      refine x_iand 36 dX5_circles_36 ?_
      refine x_iconst 37 1 (1 : Int32) dX5_circles_37 rfl ?_
      refine x_icmp_ne 38 137 dX5_circles_38 rfl (fun c15 => ?_) (fun c15 => ?_)
      · refine x_aload_n 41 0 dX5_circles_41 rfl ?_
        refine x_getR 42 fa_X5_38_4 dX5_circles_42 fun v16 => ?_
        refine x_bipush 45 96 (96 : Int32) dX5_circles_45 rfl ?_
        refine x_iload 47 5 dX5_circles_47 rfl ?_
        refine x_iadd 49 dX5_circles_49 ?_
        refine x_isK fun i17 h18 => ?_
        subst h18
        refine x_iald 50 dX5_circles_50 fun v19 => ?_
        refine x_cS 51 0 [.int v19] [] cs_X5_300 (im_X5_isTest hl v19) (by decide) rfl (Nat.le_of_ble_eq_true rfl) dX5_circles_51 fun v20 => x_stI ?_
        refine x_if_eq 54 137 dX5_circles_54 rfl (fun c21 => ?_) (fun c21 => ?_)
        · refine x_iinc 137 5 [(5, .int (u8 + (1 : Int32))), (0, .ref (idc 4 i0)), (1, .int a1), (2, .int u2), (3, .int u6), (4, .int u7)] dX5_circles_137 rfl rfl (by decide) rfl ?_
          refine x_goto 140 19 dX5_circles_140 rfl ?_
          refine x_sub [1, 2, 3, 4, 5, 0] _ rfl ?_
          exact hr9 (u6, u7, u8 + (1 : Int32))
        · refine x_aload_n 57 0 dX5_circles_57 rfl ?_
          refine x_getR 58 fa_X5_47_4 dX5_circles_58 fun v22 => ?_
          refine x_bipush 61 96 (96 : Int32) dX5_circles_61 rfl ?_
          refine x_iload 63 5 dX5_circles_63 rfl ?_
          refine x_iadd 65 dX5_circles_65 ?_
          refine x_isK fun i23 h24 => ?_
          subst h24
          refine x_iald 66 dX5_circles_66 fun v25 => ?_
          refine x_istore 67 [(6, .int v25), (0, .ref (idc 4 i0)), (1, .int a1), (2, .int u2), (3, .int u6), (4, .int u7), (5, .int u8)] dX5_circles_67 (by decide) rfl ?_
          refine x_aload_n 69 1 dX5_circles_69 rfl ?_
          refine x_getR 70 fa_X5_50_4 dX5_circles_70 fun v26 => ?_
          refine x_bipush 73 96 (96 : Int32) dX5_circles_73 rfl ?_
          refine x_iload 75 6 dX5_circles_75 rfl ?_
          refine x_iadd 77 dX5_circles_77 ?_
          refine x_isK fun i27 h28 => ?_
          subst h28
          refine x_iald 78 dX5_circles_78 fun v29 => ?_
          refine x_istore 79 [(7, .int v29), (6, .int v25), (0, .ref (idc 4 i0)), (1, .int a1), (2, .int u2), (3, .int u6), (4, .int u7), (5, .int u8)] dX5_circles_79 (by decide) rfl ?_
          refine x_iload 81 6 dX5_circles_81 rfl ?_
          refine x_bndj 103 (fun u30 => [(0, .ref (idc 4 i0)), (1, .int a1), (2, .int u2), (3, .int u6), (5, .int u8), (6, .int v25), (7, .int v29)]) (fun u30 => [.int u30]) (fun u30 => ?_) (fun hj36 => ?_)
          · show TX g Γ _ Z _ 103 [(0, .ref (idc 4 i0)), (1, .int a1), (2, .int u2), (3, .int u6), (5, .int u8), (6, .int v25), (7, .int v29)] [.int u30] _
            refine x_istore 103 [(4, .int u30), (0, .ref (idc 4 i0)), (1, .int a1), (2, .int u2), (3, .int u6), (5, .int u8), (6, .int v25), (7, .int v29)] dX5_circles_103 (by decide) rfl ?_
            refine x_iload_n 105 4 dX5_circles_105 rfl ?_
            refine x_iload 106 6 dX5_circles_106 rfl ?_
            refine x_bndj 119 (fun u31 => [(0, .ref (idc 4 i0)), (1, .int a1), (2, .int u2), (4, .int u30), (5, .int u8), (7, .int v29)]) (fun u31 => [.int u31, .int u6]) (fun u31 => ?_) (fun hj34 => ?_)
            · show TX g Γ _ Z _ 119 [(0, .ref (idc 4 i0)), (1, .int a1), (2, .int u2), (4, .int u30), (5, .int u8), (7, .int v29)] [.int u31, .int u6] _
              refine x_ior 119 dX5_circles_119 ?_
              refine x_istore_n 120 [(3, .int (u6 ||| u31)), (0, .ref (idc 4 i0)), (1, .int a1), (2, .int u2), (4, .int u30), (5, .int u8), (7, .int v29)] dX5_circles_120 (by decide) rfl ?_
              refine x_iload_n 121 0 dX5_circles_121 rfl ?_
              refine x_iload 122 6 dX5_circles_122 rfl ?_
              refine x_if_lt 124 134 dX5_circles_124 rfl (fun c32 => ?_) (fun c32 => ?_)
              · refine x_iconst 134 0 (0 : Int32) dX5_circles_134 rfl ?_
                refine x_ior 135 dX5_circles_135 ?_
                refine x_istore_n 136 [(3, .int ((u6 ||| u31) ||| (0 : Int32))), (0, .ref (idc 4 i0)), (1, .int a1), (2, .int u2), (4, .int u30), (5, .int u8), (7, .int v29)] dX5_circles_136 (by decide) rfl ?_
                refine x_iinc 137 5 [(5, .int (u8 + (1 : Int32))), (3, .int ((u6 ||| u31) ||| (0 : Int32))), (0, .ref (idc 4 i0)), (1, .int a1), (2, .int u2), (4, .int u30), (7, .int v29)] dX5_circles_137 rfl rfl (by decide) rfl ?_
                refine x_goto 140 19 dX5_circles_140 rfl ?_
                refine x_sub [2, 3, 4, 1, 5, 0] _ rfl ?_
                exact hr9 ((u6 ||| u31) ||| (0 : Int32), u30, u8 + (1 : Int32))
              · refine x_iconst 127 1 (1 : Int32) dX5_circles_127 rfl ?_
                refine x_iload 128 6 dX5_circles_128 rfl ?_
                refine x_ishl 130 dX5_circles_130 ?_
                refine x_goto 131 135 dX5_circles_131 rfl ?_
                refine x_ior 135 dX5_circles_135 ?_
                refine x_genI fun v33 _ => ?_
                refine x_istore_n 136 [(3, .int v33), (0, .ref (idc 4 i0)), (1, .int a1), (2, .int u2), (4, .int u30), (5, .int u8), (7, .int v29)] dX5_circles_136 (by decide) rfl ?_
                refine x_iinc 137 5 [(5, .int (u8 + (1 : Int32))), (3, .int v33), (0, .ref (idc 4 i0)), (1, .int a1), (2, .int u2), (4, .int u30), (7, .int v29)] dX5_circles_137 rfl rfl (by decide) rfl ?_
                refine x_goto 140 19 dX5_circles_140 rfl ?_
                refine x_sub [2, 3, 4, 1, 5, 0] _ rfl ?_
                exact hr9 (v33, u30, u8 + (1 : Int32))
            · refine x_if_lt 108 118 dX5_circles_108 rfl (fun c35 => ?_) (fun c35 => ?_)
              · refine x_iconst 118 0 (0 : Int32) dX5_circles_118 rfl ?_
                refine x_sub [1, 2, 3, 0, 5, 7] _ rfl ?_
                exact hj34 (0 : Int32)
              · refine x_iconst 111 1 (1 : Int32) dX5_circles_111 rfl ?_
                refine x_iload 112 6 dX5_circles_112 rfl ?_
                refine x_ishl 114 dX5_circles_114 ?_
                refine x_goto 115 119 dX5_circles_115 rfl ?_
                refine x_sub [1, 2, 3, 0, 5, 7] _ rfl ?_
                exact hj34 ((1 : Int32) <<< (v25 &&& 31))
          · refine x_jo 98 (Lf := fun _ => [(0, .ref (idc 4 i0)), (1, .int a1), (2, .int u2), (3, .int u6), (5, .int u8), (6, .int v25), (7, .int v29)]) (sf := fun _ => []) (fun _ => ?_) (fun j38 hj37 => ?_)
            · show TX g Γ _ Z _ 98 [(0, .ref (idc 4 i0)), (1, .int a1), (2, .int u2), (3, .int u6), (5, .int u8), (6, .int v25), (7, .int v29)] [] _
              refine x_iconst 98 1 (1 : Int32) dX5_circles_98 rfl ?_
              refine x_goto 99 103 dX5_circles_99 rfl ?_
              exact hj36 (1 : Int32)
            · refine x_if_ne 83 98 dX5_circles_83 rfl (fun c39 => ?_) (fun c39 => ?_)
              · refine x_iload 86 1 dX5_circles_86 rfl ?_
                refine x_iload_n 88 3 dX5_circles_88 rfl ?_
                refine x_icmp_eq 89 98 dX5_circles_89 rfl (fun c40 => ?_) (fun c40 => ?_)
                · refine x_sub [2, 3, 4, 5, 7, 1, 0] _ rfl ?_
                  exact hj37 ()
                · refine x_iload 92 0 dX5_circles_92 rfl ?_
                  refine x_iload_n 94 3 dX5_circles_94 rfl ?_
                  refine x_icmp_ne 95 102 dX5_circles_95 rfl (fun c41 => ?_) (fun c41 => ?_)
                  · refine x_sub [2, 3, 4, 5, 7, 1, 0] _ rfl ?_
                    exact hj37 ()
                  · refine x_iconst 102 0 (0 : Int32) dX5_circles_102 rfl ?_
                    refine x_sub [2, 3, 4, 5, 7, 1, 0] _ rfl ?_
                    exact hj36 (0 : Int32)
              · refine x_sub [2, 3, 4, 5, 7, 1, 0] _ rfl ?_
                exact hj37 ()
      · refine x_iinc 137 5 [(5, .int (u8 + (1 : Int32))), (0, .ref (idc 4 i0)), (1, .int a1), (2, .int u2), (3, .int u6), (4, .int u7)] dX5_circles_137 rfl rfl (by decide) rfl ?_
        refine x_goto 140 19 dX5_circles_140 rfl ?_
        refine x_sub [1, 2, 3, 4, 5, 0] _ rfl ?_
        exact hr9 (u6, u7, u8 + (1 : Int32))
def f_X5_publish (i0 : Nat) : PT Int32 := gR 4 i0 10 fun v1 => isK 32 v1 fun i2 => aI 32 i2 (8 : Int32) fun v4 => bnd (ρ := _) (α := Int32) (jo (σ := Unit) (fun _ => rt (0 : Int32)) fun j126 => cnd (v4 ≤ 0) (j126 ()) (gI 4 i0 9 fun v128 => cnd ((8 : Int32) ≤ v128) (j126 ()) (rt (1 : Int32)))) (fun u5 => bnd (lp (σ := Int32 × Int32) (ρ := Int32) (fun r8 => un2 fun u6 u7 => gR 4 i0 10 fun v11 => isK 32 v11 fun i12 => aI 32 i12 (8 : Int32) fun v14 => cnd (v14 ≤ u7) (rt u6) (cnd (u6 = 0) (r8 ((0 : Int32), u7 + (1 : Int32))) (gR 4 i0 11 fun v17 => isK 32 v17 fun i18 => aI 32 i18 ((96 : Int32) + u7) fun v20 => jo (σ := Int32) (fun u21 => r8 ((1 : Int32), u21 + (1 : Int32))) fun j23 => cnd ((5 : Int32) ≤ v20) (j23 u7) (gR 4 i0 14 fun v25 => isK 32 v25 fun i26 => aI 32 i26 ((96 : Int32) + u7) fun v28 => gR 4 i0 10 fun v29 => isK 32 v29 fun i30 => aI 32 i30 (8 : Int32) fun v32 => cnd (v32 ≤ v28) (r8 ((0 : Int32), u7 + (1 : Int32))) (gR 4 i0 15 fun v34 => isK 32 v34 fun i35 => aI 32 i35 ((96 : Int32) + u7) fun v37 => gR 4 i0 10 fun v38 => isK 32 v38 fun i39 => aI 32 i39 (8 : Int32) fun v41 => cnd (v41 ≤ v37) (r8 ((0 : Int32), u7 + (1 : Int32))) (j23 u7)))))) (u5, (0 : Int32))) (fun u9 => bnd (lp (σ := Int32 × Int32) (ρ := Int32) (fun r45 => un2 fun u43 u44 => gR 4 i0 10 fun v48 => isK 32 v48 fun i49 => aI 32 i49 (8 : Int32) fun v51 => cnd (v51 ≤ u44) (rt u43) (cnd (u43 = 0) (rt u43) (gR 4 i0 11 fun v54 => isK 32 v54 fun i55 => aI 32 i55 ((96 : Int32) + u44) fun v57 => bn0 (f_X5_isTest v57) fun v58 => jo (σ := Int32) (fun u59 => r45 ((1 : Int32), u59 + (1 : Int32))) fun j61 => cnd (v58 = 0) (j61 u44) (bn0 (f_X5_circles i0 u44) fun v63 => cnd (v63 = 0) (j61 u44) (r45 ((0 : Int32), u44 + (1 : Int32))))))) (u9, (0 : Int32))) (fun u46 => bn0 (f_X5_may i0 u46) fun v65 => cnd (v65 = 0) (rt (0 : Int32)) (bnd (lp (σ := Int32) (ρ := Unit) (fun r68 => fun u67 => gR 4 i0 10 fun v70 => isK 32 v70 fun i71 => aI 32 i71 (8 : Int32) fun v73 => cnd (v73 ≤ u67) (rt ()) (gI 4 i0 9 fun v75 => gR 4 i0 11 fun v76 => gR 4 i0 11 fun v77 => isK 32 v77 fun i78 => aI 32 i78 ((96 : Int32) + u67) fun v80 => isK 32 v76 fun i81 => bI 32 i81 (((12 : Int32) * v75) + u67) v80 <| gR 4 i0 12 fun v83 => gR 4 i0 12 fun v84 => isK 32 v84 fun i85 => aI 32 i85 ((96 : Int32) + u67) fun v87 => isK 32 v83 fun i88 => bI 32 i88 (((12 : Int32) * v75) + u67) v87 <| gR 4 i0 13 fun v90 => gR 4 i0 13 fun v91 => isK 32 v91 fun i92 => aI 32 i92 ((96 : Int32) + u67) fun v94 => isK 32 v90 fun i95 => bI 32 i95 (((12 : Int32) * v75) + u67) v94 <| gR 4 i0 14 fun v97 => gR 4 i0 14 fun v98 => isK 32 v98 fun i99 => aI 32 i99 ((96 : Int32) + u67) fun v101 => isK 32 v97 fun i102 => bI 32 i102 (((12 : Int32) * v75) + u67) v101 <| gR 4 i0 15 fun v104 => gR 4 i0 15 fun v105 => isK 32 v105 fun i106 => aI 32 i106 ((96 : Int32) + u67) fun v108 => isK 32 v104 fun i109 => bI 32 i109 (((12 : Int32) * v75) + u67) v108 <| r68 (u67 + (1 : Int32)))) (0 : Int32)) (fun _ => gR 4 i0 10 fun v111 => gI 4 i0 9 fun v112 => gR 4 i0 10 fun v113 => isK 32 v113 fun i114 => aI 32 i114 (8 : Int32) fun v116 => isK 32 v111 fun i117 => bI 32 i117 v112 v116 <| gR 4 i0 10 fun v119 => isK 32 v119 fun i120 => bI 32 i120 (8 : Int32) (0 : Int32) <| gI 4 i0 9 fun v122 => pI 4 i0 9 (v122 + (1 : Int32)) <| gI 4 i0 9 fun v123 => rt (v123 - (1 : Int32)))))))
theorem im_X5_publish {g : GP} {l : Launch} (hl : l.stackTraces = false) (i0 : Nat) : Im g l 2 yX5_publish cX5_publish 4 (some .int) eI [.ref (idc 4 i0)] (f_X5_publish i0) := by
  refine tx_start hl 2 _ _ _ _ (by decide) (Nat.le_of_ble_eq_true rfl) fun Γ Z hΓ hZ => ?_
  subst hΓ
  unfold f_X5_publish
  show TX g Γ _ Z _ 0 [(0, .ref (idc 4 i0))] [] _
  refine x_aload_n 0 0 dX5_publish_0 rfl ?_
  refine x_getR 1 fa_X5_35_4 dX5_publish_1 fun v1 => ?_
  refine x_bipush 4 8 (8 : Int32) dX5_publish_4 rfl ?_
  refine x_isK fun i2 h3 => ?_
  subst h3
  refine x_iald 6 dX5_publish_6 fun v4 => ?_
  refine x_bndj 24 (fun u5 => [(0, .ref (idc 4 i0))]) (fun u5 => [.int u5]) (fun u5 => ?_) (fun hj124 => ?_)
  · show TX g Γ _ Z _ 24 [(0, .ref (idc 4 i0))] [.int u5] _
    refine x_istore_n 24 [(1, .int u5), (0, .ref (idc 4 i0))] dX5_publish_24 (by decide) rfl ?_
    refine x_iconst 25 0 (0 : Int32) dX5_publish_25 rfl ?_
    refine x_istore_n 26 [(2, .int (0 : Int32)), (1, .int u5), (0, .ref (idc 4 i0))] dX5_publish_26 (by decide) rfl ?_
    refine x_sub [2, 1, 0] [(0, .ref (idc 4 i0)), (1, .int u5), (2, .int (0 : Int32))] rfl ?_
    refine x_bndj 101 (fun u9 => [(0, .ref (idc 4 i0)), (1, .int u9)]) (fun u9 => []) (fun u9 => ?_) (fun hj10 => ?_)
    · show TX g Γ _ Z _ 101 [(0, .ref (idc 4 i0)), (1, .int u9)] [] _
      refine x_iconst 101 0 (0 : Int32) dX5_publish_101 rfl ?_
      refine x_istore_n 102 [(2, .int (0 : Int32)), (0, .ref (idc 4 i0)), (1, .int u9)] dX5_publish_102 (by decide) rfl ?_
      refine x_sub [1, 2, 0] [(0, .ref (idc 4 i0)), (1, .int u9), (2, .int (0 : Int32))] rfl ?_
      refine x_bndj 153 (fun u46 => [(0, .ref (idc 4 i0)), (1, .int u46)]) (fun u46 => []) (fun u46 => ?_) (fun hj47 => ?_)
      · show TX g Γ _ Z _ 153 [(0, .ref (idc 4 i0)), (1, .int u46)] [] _
        refine x_aload_n 153 0 dX5_publish_153 rfl ?_
        refine x_iload_n 154 1 dX5_publish_154 rfl ?_
        refine x_cV 155 0 [.int u46] [] ⟨by decide, rfl⟩ cv_X5_251 (im_X5_may hl i0 u46) (by decide) rfl (Nat.le_of_ble_eq_true rfl) dX5_publish_155 fun v65 => x_stI ?_
        refine x_if_ne 158 163 dX5_publish_158 rfl (fun c66 => ?_) (fun c66 => ?_)
        · refine x_iconst 161 0 (0 : Int32) dX5_publish_161 rfl ?_
          exact x_iret 162 hZ rfl dX5_publish_162
        · refine x_iconst 163 0 (0 : Int32) dX5_publish_163 rfl ?_
          refine x_istore_n 164 [(2, .int (0 : Int32)), (0, .ref (idc 4 i0)), (1, .int u46)] dX5_publish_164 (by decide) rfl ?_
          refine x_sub [1, 0] [(0, .ref (idc 4 i0)), (2, .int (0 : Int32))] rfl ?_
          refine x_bndj 267 (fun _ => [(0, .ref (idc 4 i0))]) (fun _ => []) (fun _ => ?_) (fun hj69 => ?_)
          · show TX g Γ _ Z _ 267 [(0, .ref (idc 4 i0))] [] _
            refine x_aload_n 267 0 dX5_publish_267 rfl ?_
            refine x_getR 268 fa_X5_35_4 dX5_publish_268 fun v111 => ?_
            refine x_aload_n 271 0 dX5_publish_271 rfl ?_
            refine x_getI 272 fa_X5_303_4 dX5_publish_272 fun v112 => ?_
            refine x_aload_n 275 0 dX5_publish_275 rfl ?_
            refine x_getR 276 fa_X5_35_4 dX5_publish_276 fun v113 => ?_
            refine x_bipush 279 8 (8 : Int32) dX5_publish_279 rfl ?_
            refine x_isK fun i114 h115 => ?_
            subst h115
            refine x_iald 281 dX5_publish_281 fun v116 => ?_
            refine x_isK fun i117 h118 => ?_
            subst h118
            refine x_iast 282 dX5_publish_282 ?_
            refine x_aload_n 283 0 dX5_publish_283 rfl ?_
            refine x_getR 284 fa_X5_35_4 dX5_publish_284 fun v119 => ?_
            refine x_bipush 287 8 (8 : Int32) dX5_publish_287 rfl ?_
            refine x_iconst 289 0 (0 : Int32) dX5_publish_289 rfl ?_
            refine x_isK fun i120 h121 => ?_
            subst h121
            refine x_iast 290 dX5_publish_290 ?_
            refine x_aload_n 291 0 dX5_publish_291 rfl ?_
            refine x_dup 292 dX5_publish_292 rfl ?_
            refine x_getI 293 fa_X5_303_4 dX5_publish_293 fun v122 => ?_
            refine x_iconst 296 1 (1 : Int32) dX5_publish_296 rfl ?_
            refine x_iadd 297 dX5_publish_297 ?_
            refine x_putI 298 fa_X5_303_4 rfl (Or.inl rfl) dX5_publish_298 ?_
            refine x_aload_n 301 0 dX5_publish_301 rfl ?_
            refine x_getI 302 fa_X5_303_4 dX5_publish_302 fun v123 => ?_
            refine x_iconst 305 1 (1 : Int32) dX5_publish_305 rfl ?_
            refine x_isub 306 dX5_publish_306 ?_
            exact x_iret 307 hZ rfl dX5_publish_307
          · refine x_lp (Lf := fun u67 => [(0, .ref (idc 4 i0)), (2, .int u67)]) (sf := fun _ => []) (fun r68 hr68 u67 => ?_) (0 : Int32)
            show TX g Γ _ Z _ 165 [(0, .ref (idc 4 i0)), (2, .int u67)] [] _
            refine x_iload_n 165 1 dX5_publish_165 rfl ?_
            refine x_aload_n 166 0 dX5_publish_166 rfl ?_
            refine x_getR 167 fa_X5_35_4 dX5_publish_167 fun v70 => ?_
            refine x_bipush 170 8 (8 : Int32) dX5_publish_170 rfl ?_
            refine x_isK fun i71 h72 => ?_
            subst h72
            refine x_iald 172 dX5_publish_172 fun v73 => ?_
            refine x_icmp_ge 173 267 dX5_publish_173 rfl (fun c74 => ?_) (fun c74 => ?_)
            · refine x_sub [0] _ rfl ?_
              exact hj69 ()
            · refine x_bipush 176 12 (12 : Int32) dX5_publish_176 rfl ?_
              refine x_aload_n 178 0 dX5_publish_178 rfl ?_
              refine x_getI 179 fa_X5_303_4 dX5_publish_179 fun v75 => ?_
              refine x_imul 182 dX5_publish_182 ?_
              refine x_iload_n 183 1 dX5_publish_183 rfl ?_
              refine x_iadd 184 dX5_publish_184 ?_
              refine x_istore_n 185 [(3, .int (((12 : Int32) * v75) + u67)), (0, .ref (idc 4 i0)), (2, .int u67)] dX5_publish_185 (by decide) rfl ?_
              refine x_aload_n 186 1 dX5_publish_186 rfl ?_
              refine x_getR 187 fa_X5_38_4 dX5_publish_187 fun v76 => ?_
              refine x_iload_n 190 0 dX5_publish_190 rfl ?_
              refine x_aload_n 191 1 dX5_publish_191 rfl ?_
              refine x_getR 192 fa_X5_38_4 dX5_publish_192 fun v77 => ?_
              refine x_bipush 195 96 (96 : Int32) dX5_publish_195 rfl ?_
              refine x_iload_n 197 2 dX5_publish_197 rfl ?_
              refine x_iadd 198 dX5_publish_198 ?_
              refine x_isK fun i78 h79 => ?_
              subst h79
              refine x_iald 199 dX5_publish_199 fun v80 => ?_
              refine x_isK fun i81 h82 => ?_
              subst h82
              refine x_iast 200 dX5_publish_200 ?_
              refine x_aload_n 201 1 dX5_publish_201 rfl ?_
              refine x_getR 202 fa_X5_41_4 dX5_publish_202 fun v83 => ?_
              refine x_iload_n 205 0 dX5_publish_205 rfl ?_
              refine x_aload_n 206 1 dX5_publish_206 rfl ?_
              refine x_getR 207 fa_X5_41_4 dX5_publish_207 fun v84 => ?_
              refine x_bipush 210 96 (96 : Int32) dX5_publish_210 rfl ?_
              refine x_iload_n 212 2 dX5_publish_212 rfl ?_
              refine x_iadd 213 dX5_publish_213 ?_
              refine x_isK fun i85 h86 => ?_
              subst h86
              refine x_iald 214 dX5_publish_214 fun v87 => ?_
              refine x_isK fun i88 h89 => ?_
              subst h89
              refine x_iast 215 dX5_publish_215 ?_
              refine x_aload_n 216 1 dX5_publish_216 rfl ?_
              refine x_getR 217 fa_X5_44_4 dX5_publish_217 fun v90 => ?_
              refine x_iload_n 220 0 dX5_publish_220 rfl ?_
              refine x_aload_n 221 1 dX5_publish_221 rfl ?_
              refine x_getR 222 fa_X5_44_4 dX5_publish_222 fun v91 => ?_
              refine x_bipush 225 96 (96 : Int32) dX5_publish_225 rfl ?_
              refine x_iload_n 227 2 dX5_publish_227 rfl ?_
              refine x_iadd 228 dX5_publish_228 ?_
              refine x_isK fun i92 h93 => ?_
              subst h93
              refine x_iald 229 dX5_publish_229 fun v94 => ?_
              refine x_isK fun i95 h96 => ?_
              subst h96
              refine x_iast 230 dX5_publish_230 ?_
              refine x_aload_n 231 1 dX5_publish_231 rfl ?_
              refine x_getR 232 fa_X5_47_4 dX5_publish_232 fun v97 => ?_
              refine x_iload_n 235 0 dX5_publish_235 rfl ?_
              refine x_aload_n 236 1 dX5_publish_236 rfl ?_
              refine x_getR 237 fa_X5_47_4 dX5_publish_237 fun v98 => ?_
              refine x_bipush 240 96 (96 : Int32) dX5_publish_240 rfl ?_
              refine x_iload_n 242 2 dX5_publish_242 rfl ?_
              refine x_iadd 243 dX5_publish_243 ?_
              refine x_isK fun i99 h100 => ?_
              subst h100
              refine x_iald 244 dX5_publish_244 fun v101 => ?_
              refine x_isK fun i102 h103 => ?_
              subst h103
              refine x_iast 245 dX5_publish_245 ?_
              refine x_aload_n 246 1 dX5_publish_246 rfl ?_
              refine x_getR 247 fa_X5_50_4 dX5_publish_247 fun v104 => ?_
              refine x_iload_n 250 0 dX5_publish_250 rfl ?_
              refine x_aload_n 251 1 dX5_publish_251 rfl ?_
              refine x_getR 252 fa_X5_50_4 dX5_publish_252 fun v105 => ?_
              refine x_bipush 255 96 (96 : Int32) dX5_publish_255 rfl ?_
              refine x_iload_n 257 2 dX5_publish_257 rfl ?_
              refine x_iadd 258 dX5_publish_258 ?_
              refine x_isK fun i106 h107 => ?_
              subst h107
              refine x_iald 259 dX5_publish_259 fun v108 => ?_
              refine x_isK fun i109 h110 => ?_
              subst h110
              refine x_iast 260 dX5_publish_260 ?_
              refine x_iinc 261 2 [(2, .int (u67 + (1 : Int32))), (3, .int (((12 : Int32) * v75) + u67)), (0, .ref (idc 4 i0))] dX5_publish_261 rfl rfl (by decide) rfl ?_
              refine x_goto 264 165 dX5_publish_264 rfl ?_
              refine x_sub [2, 0] _ rfl ?_
              exact hr68 (u67 + (1 : Int32))
      · refine x_lp (Lf := fun u => [(0, .ref (idc 4 i0)), (1, .int u.1), (2, .int u.2)]) (sf := fun _ => []) (fun r45 hr45 u => ?_) (u9, (0 : Int32))
        obtain ⟨u43, u44⟩ := u
        show TX g Γ _ Z _ 103 [(0, .ref (idc 4 i0)), (1, .int u43), (2, .int u44)] [] _
        refine x_un2 ?_
        refine x_iload_n 103 2 dX5_publish_103 rfl ?_
        refine x_aload_n 104 0 dX5_publish_104 rfl ?_
        refine x_getR 105 fa_X5_35_4 dX5_publish_105 fun v48 => ?_
        refine x_bipush 108 8 (8 : Int32) dX5_publish_108 rfl ?_
        refine x_isK fun i49 h50 => ?_
        subst h50
        refine x_iald 110 dX5_publish_110 fun v51 => ?_
        refine x_icmp_ge 111 153 dX5_publish_111 rfl (fun c52 => ?_) (fun c52 => ?_)
        · refine x_sub [0, 1] _ rfl ?_
          exact hj47 u43
        · refine x_iload_n 114 1 dX5_publish_114 rfl ?_
          refine x_if_eq 115 153 dX5_publish_115 rfl (fun c53 => ?_) (fun c53 => ?_)
          · refine x_sub [0, 1] _ rfl ?_
            exact hj47 u43
          · refine x_aload_n 118 0 dX5_publish_118 rfl ?_
            refine x_getR 119 fa_X5_38_4 dX5_publish_119 fun v54 => ?_
            refine x_bipush 122 96 (96 : Int32) dX5_publish_122 rfl ?_
            refine x_iload_n 124 2 dX5_publish_124 rfl ?_
            refine x_iadd 125 dX5_publish_125 ?_
            refine x_isK fun i55 h56 => ?_
            subst h56
            refine x_iald 126 dX5_publish_126 fun v57 => ?_
            refine x_cS 127 0 [.int v57] [] cs_X5_300 (im_X5_isTest hl v57) (by decide) rfl (Nat.le_of_ble_eq_true rfl) dX5_publish_127 fun v58 => x_stI ?_
            refine x_jo 141 (Lf := fun u59 => [(0, .ref (idc 4 i0)), (2, .int u59)]) (sf := fun u59 => []) (fun u59 => ?_) (fun j61 hj60 => ?_)
            · show TX g Γ _ Z _ 141 [(0, .ref (idc 4 i0)), (2, .int u59)] [] _
              refine x_iconst 141 1 (1 : Int32) dX5_publish_141 rfl ?_
              refine x_goto 142 146 dX5_publish_142 rfl ?_
              refine x_istore_n 146 [(1, .int (1 : Int32)), (0, .ref (idc 4 i0)), (2, .int u59)] dX5_publish_146 (by decide) rfl ?_
              refine x_iinc 147 2 [(2, .int (u59 + (1 : Int32))), (1, .int (1 : Int32)), (0, .ref (idc 4 i0))] dX5_publish_147 rfl rfl (by decide) rfl ?_
              refine x_goto 150 103 dX5_publish_150 rfl ?_
              refine x_sub [2, 1, 0] _ rfl ?_
              exact hr45 ((1 : Int32), u59 + (1 : Int32))
            · refine x_if_eq 130 141 dX5_publish_130 rfl (fun c62 => ?_) (fun c62 => ?_)
              · refine x_sub [0, 2] _ rfl ?_
                exact hj60 u44
              · refine x_aload_n 133 0 dX5_publish_133 rfl ?_
                refine x_iload_n 134 2 dX5_publish_134 rfl ?_
                refine x_cV 135 1 [.int u44] [] ⟨by decide, rfl⟩ cv_X5_306 (im_X5_circles hl i0 u44) (by decide) rfl (Nat.le_of_ble_eq_true rfl) dX5_publish_135 fun v63 => x_stI ?_
                refine x_if_ne 138 145 dX5_publish_138 rfl (fun c64 => ?_) (fun c64 => ?_)
                · refine x_sub [0, 2] _ rfl ?_
                  exact hj60 u44
                · refine x_iconst 145 0 (0 : Int32) dX5_publish_145 rfl ?_
                  refine x_istore_n 146 [(1, .int (0 : Int32)), (0, .ref (idc 4 i0)), (2, .int u44)] dX5_publish_146 (by decide) rfl ?_
                  refine x_iinc 147 2 [(2, .int (u44 + (1 : Int32))), (1, .int (0 : Int32)), (0, .ref (idc 4 i0))] dX5_publish_147 rfl rfl (by decide) rfl ?_
                  refine x_goto 150 103 dX5_publish_150 rfl ?_
                  refine x_sub [2, 1, 0] _ rfl ?_
                  exact hr45 ((0 : Int32), u44 + (1 : Int32))
    · refine x_lp (Lf := fun u => [(0, .ref (idc 4 i0)), (1, .int u.1), (2, .int u.2)]) (sf := fun _ => []) (fun r8 hr8 u => ?_) (u5, (0 : Int32))
      obtain ⟨u6, u7⟩ := u
      show TX g Γ _ Z _ 27 [(0, .ref (idc 4 i0)), (1, .int u6), (2, .int u7)] [] _
      refine x_un2 ?_
      refine x_iload_n 27 2 dX5_publish_27 rfl ?_
      refine x_aload_n 28 0 dX5_publish_28 rfl ?_
      refine x_getR 29 fa_X5_35_4 dX5_publish_29 fun v11 => ?_
      refine x_bipush 32 8 (8 : Int32) dX5_publish_32 rfl ?_
      refine x_isK fun i12 h13 => ?_
      subst h13
      refine x_iald 34 dX5_publish_34 fun v14 => ?_
      refine x_icmp_ge 35 101 dX5_publish_35 rfl (fun c15 => ?_) (fun c15 => ?_)
      · refine x_sub [0, 1] _ rfl ?_
        exact hj10 u6
      · refine x_bipush 38 96 (96 : Int32) dX5_publish_38 rfl ?_
        refine x_iload_n 40 2 dX5_publish_40 rfl ?_
        refine x_iadd 41 dX5_publish_41 ?_
        refine x_istore_n 42 [(3, .int ((96 : Int32) + u7)), (0, .ref (idc 4 i0)), (1, .int u6), (2, .int u7)] dX5_publish_42 (by decide) rfl ?_
        refine x_iload_n 43 2 dX5_publish_43 rfl ?_
        refine x_if_eq 44 93 dX5_publish_44 rfl (fun c16 => ?_) (fun c16 => ?_)
        · refine x_iconst 93 0 (0 : Int32) dX5_publish_93 rfl ?_
          refine x_istore_n 94 [(1, .int (0 : Int32)), (3, .int ((96 : Int32) + u7)), (0, .ref (idc 4 i0)), (2, .int u7)] dX5_publish_94 (by decide) rfl ?_
          refine x_iinc 95 3 [(2, .int (u7 + (1 : Int32))), (1, .int (0 : Int32)), (3, .int ((96 : Int32) + u7)), (0, .ref (idc 4 i0))] dX5_publish_95 rfl rfl (by decide) rfl ?_
          refine x_goto 98 27 dX5_publish_98 rfl ?_
          refine x_sub [3, 1, 0] _ rfl ?_
          exact hr8 ((0 : Int32), u7 + (1 : Int32))
        · refine x_aload_n 47 1 dX5_publish_47 rfl ?_
          refine x_getR 48 fa_X5_38_4 dX5_publish_48 fun v17 => ?_
          refine x_iload_n 51 0 dX5_publish_51 rfl ?_
          refine x_isK fun i18 h19 => ?_
          subst h19
          refine x_iald 52 dX5_publish_52 fun v20 => ?_
          refine x_iconst 53 5 (5 : Int32) dX5_publish_53 rfl ?_
          refine x_jo 89 (Lf := fun u21 => [(0, .ref (idc 4 i0)), (2, .int u21)]) (sf := fun u21 => []) (fun u21 => ?_) (fun j23 hj22 => ?_)
          · show TX g Γ _ Z _ 89 [(0, .ref (idc 4 i0)), (2, .int u21)] [] _
            refine x_iconst 89 1 (1 : Int32) dX5_publish_89 rfl ?_
            refine x_goto 90 94 dX5_publish_90 rfl ?_
            refine x_istore_n 94 [(1, .int (1 : Int32)), (0, .ref (idc 4 i0)), (2, .int u21)] dX5_publish_94 (by decide) rfl ?_
            refine x_iinc 95 2 [(2, .int (u21 + (1 : Int32))), (1, .int (1 : Int32)), (0, .ref (idc 4 i0))] dX5_publish_95 rfl rfl (by decide) rfl ?_
            refine x_goto 98 27 dX5_publish_98 rfl ?_
            refine x_sub [2, 1, 0] _ rfl ?_
            exact hr8 ((1 : Int32), u21 + (1 : Int32))
          · refine x_icmp_ge 54 89 dX5_publish_54 rfl (fun c24 => ?_) (fun c24 => ?_)
            · refine x_sub [1, 3] _ rfl ?_
              exact hj22 u7
            · refine x_aload_n 57 1 dX5_publish_57 rfl ?_
              refine x_getR 58 fa_X5_47_4 dX5_publish_58 fun v25 => ?_
              refine x_iload_n 61 0 dX5_publish_61 rfl ?_
              refine x_isK fun i26 h27 => ?_
              subst h27
              refine x_iald 62 dX5_publish_62 fun v28 => ?_
              refine x_aload_n 63 1 dX5_publish_63 rfl ?_
              refine x_getR 64 fa_X5_35_4 dX5_publish_64 fun v29 => ?_
              refine x_bipush 67 8 (8 : Int32) dX5_publish_67 rfl ?_
              refine x_isK fun i30 h31 => ?_
              subst h31
              refine x_iald 69 dX5_publish_69 fun v32 => ?_
              refine x_icmp_ge 70 93 dX5_publish_70 rfl (fun c33 => ?_) (fun c33 => ?_)
              · refine x_iconst 93 0 (0 : Int32) dX5_publish_93 rfl ?_
                refine x_istore_n 94 [(1, .int (0 : Int32)), (3, .int ((96 : Int32) + u7)), (0, .ref (idc 4 i0)), (2, .int u7)] dX5_publish_94 (by decide) rfl ?_
                refine x_iinc 95 3 [(2, .int (u7 + (1 : Int32))), (1, .int (0 : Int32)), (3, .int ((96 : Int32) + u7)), (0, .ref (idc 4 i0))] dX5_publish_95 rfl rfl (by decide) rfl ?_
                refine x_goto 98 27 dX5_publish_98 rfl ?_
                refine x_sub [3, 1, 0] _ rfl ?_
                exact hr8 ((0 : Int32), u7 + (1 : Int32))
              · refine x_aload_n 73 1 dX5_publish_73 rfl ?_
                refine x_getR 74 fa_X5_50_4 dX5_publish_74 fun v34 => ?_
                refine x_iload_n 77 0 dX5_publish_77 rfl ?_
                refine x_isK fun i35 h36 => ?_
                subst h36
                refine x_iald 78 dX5_publish_78 fun v37 => ?_
                refine x_aload_n 79 1 dX5_publish_79 rfl ?_
                refine x_getR 80 fa_X5_35_4 dX5_publish_80 fun v38 => ?_
                refine x_bipush 83 8 (8 : Int32) dX5_publish_83 rfl ?_
                refine x_isK fun i39 h40 => ?_
                subst h40
                refine x_iald 85 dX5_publish_85 fun v41 => ?_
                refine x_icmp_ge 86 93 dX5_publish_86 rfl (fun c42 => ?_) (fun c42 => ?_)
                · refine x_iconst 93 0 (0 : Int32) dX5_publish_93 rfl ?_
                  refine x_istore_n 94 [(1, .int (0 : Int32)), (3, .int ((96 : Int32) + u7)), (0, .ref (idc 4 i0)), (2, .int u7)] dX5_publish_94 (by decide) rfl ?_
                  refine x_iinc 95 3 [(2, .int (u7 + (1 : Int32))), (1, .int (0 : Int32)), (3, .int ((96 : Int32) + u7)), (0, .ref (idc 4 i0))] dX5_publish_95 rfl rfl (by decide) rfl ?_
                  refine x_goto 98 27 dX5_publish_98 rfl ?_
                  refine x_sub [3, 1, 0] _ rfl ?_
                  exact hr8 ((0 : Int32), u7 + (1 : Int32))
                · refine x_sub [1, 3] _ rfl ?_
                  exact hj22 u7
  · refine x_jo 23 (Lf := fun _ => [(0, .ref (idc 4 i0))]) (sf := fun _ => []) (fun _ => ?_) (fun j126 hj125 => ?_)
    · show TX g Γ _ Z _ 23 [(0, .ref (idc 4 i0))] [] _
      refine x_iconst 23 0 (0 : Int32) dX5_publish_23 rfl ?_
      exact hj124 (0 : Int32)
    · refine x_if_le 7 23 dX5_publish_7 rfl (fun c127 => ?_) (fun c127 => ?_)
      · exact hj125 ()
      · refine x_aload_n 10 0 dX5_publish_10 rfl ?_
        refine x_getI 11 fa_X5_303_4 dX5_publish_11 fun v128 => ?_
        refine x_bipush 14 8 (8 : Int32) dX5_publish_14 rfl ?_
        refine x_icmp_ge 16 23 dX5_publish_16 rfl (fun c129 => ?_) (fun c129 => ?_)
        · exact hj125 ()
        · refine x_iconst 19 1 (1 : Int32) dX5_publish_19 rfl ?_
          refine x_goto 20 24 dX5_publish_20 rfl ?_
          exact hj124 (1 : Int32)
def f_X5_levelOf (a1 : Int32) : PT Int32 := rt (((a1 &&& (1 : Int32)) + (a1 &&& (2 : Int32))) + ((3 : Int32) * ((a1 >>> ((2 : Int32) &&& 31)) &&& (1 : Int32))))
theorem im_X5_levelOf {g : GP} {l : Launch} (hl : l.stackTraces = false) (a1 : Int32) : Im g l 0 yX5_levelOf cX5_levelOf 1 (some .int) eI [.int a1] (f_X5_levelOf a1) := by
  refine tx_start hl 0 _ _ _ _ (by decide) (Nat.le_of_ble_eq_true rfl) fun Γ Z hΓ hZ => ?_
  subst hΓ
  unfold f_X5_levelOf
  show TX g Γ _ Z _ 0 [(0, .int a1)] [] _
  refine x_iload_n 0 0 dX5_levelOf_0 rfl ?_
  refine x_iconst 1 1 (1 : Int32) dX5_levelOf_1 rfl ?_
  refine x_iand 2 dX5_levelOf_2 ?_
  refine x_iload_n 3 0 dX5_levelOf_3 rfl ?_
  refine x_iconst 4 2 (2 : Int32) dX5_levelOf_4 rfl ?_
  refine x_iand 5 dX5_levelOf_5 ?_
  refine x_iadd 6 dX5_levelOf_6 ?_
  refine x_iconst 7 3 (3 : Int32) dX5_levelOf_7 rfl ?_
  refine x_iload_n 8 0 dX5_levelOf_8 rfl ?_
  refine x_iconst 9 2 (2 : Int32) dX5_levelOf_9 rfl ?_
  refine x_ishr 10 dX5_levelOf_10 ?_
  refine x_iconst 11 1 (1 : Int32) dX5_levelOf_11 rfl ?_
  refine x_iand 12 dX5_levelOf_12 ?_
  refine x_imul 13 dX5_levelOf_13 ?_
  refine x_iadd 14 dX5_levelOf_14 ?_
  exact x_iret 15 hZ rfl dX5_levelOf_15
def f_X5_meet (i0 : Nat) (a1 : Int32) (a2 : Int32) : PT Unit := cnd (a1 < 0) (rt ()) (gR 4 i0 16 fun v2 => isK 33 v2 fun i3 => bZ 33 i3 (((8 : Int32) * a1) + a2) (1 : Int32) <| rt ())
theorem im_X5_meet {g : GP} {l : Launch} (hl : l.stackTraces = false) (i0 : Nat) (a1 : Int32) (a2 : Int32) : Im g l 0 yX5_meet cX5_meet 3 none eV [.ref (idc 4 i0), .int a1, .int a2] (f_X5_meet i0 a1 a2) := by
  refine tx_start hl 0 _ _ _ _ (by decide) (Nat.le_of_ble_eq_true rfl) fun Γ Z hΓ hZ => ?_
  subst hΓ
  unfold f_X5_meet
  show TX g Γ _ Z _ 0 [(0, .ref (idc 4 i0)), (1, .int a1), (2, .int a2)] [] _
  refine x_iload_n 0 1 dX5_meet_0 rfl ?_
  refine x_if_lt 1 16 dX5_meet_1 rfl (fun c1 => ?_) (fun c1 => ?_)
  · exact x_vret 16 hZ rfl dX5_meet_16
  · refine x_aload_n 4 0 dX5_meet_4 rfl ?_
    refine x_getR 5 fa_X5_53_4 dX5_meet_5 fun v2 => ?_
    refine x_bipush 8 8 (8 : Int32) dX5_meet_8 rfl ?_
    refine x_iload_n 10 1 dX5_meet_10 rfl ?_
    refine x_imul 11 dX5_meet_11 ?_
    refine x_iload_n 12 2 dX5_meet_12 rfl ?_
    refine x_iadd 13 dX5_meet_13 ?_
    refine x_iconst 14 1 (1 : Int32) dX5_meet_14 rfl ?_
    refine x_isK fun i3 h4 => ?_
    subst h4
    refine x_zast 15 dX5_meet_15 ?_
    exact x_vret 16 hZ rfl dX5_meet_16
def f_X5_weakest (i0 : Nat) (a1 : Int32) : PT Int32 := gI 4 i0 9 fun v1 => bn0 (f_X5_isIn a1 (0 : Int32) (v1 - (1 : Int32))) fun v2 => bn0 (f_X5_may i0 v2) fun v3 => cnd (v3 = 0) (rt (0 : Int32)) (bnd (lp (σ := Int32) (ρ := Unit) (fun r6 => fun u5 => cnd ((96 : Int32) ≤ u5) (rt ()) (gR 4 i0 16 fun v9 => isK 33 v9 fun i10 => bZ 33 i10 u5 (0 : Int32) <| r6 (u5 + (1 : Int32)))) (0 : Int32)) (fun _ => gR 4 i0 16 fun v12 => isK 33 v12 fun i13 => bZ 33 i13 (0 : Int32) (1 : Int32) <| bnd (lp (σ := Int32) (ρ := Unit) (fun r16 => fun u15 => cnd ((96 : Int32) ≤ u15) (rt ()) (lp (σ := Int32) (fun r20 => fun u19 => cnd ((96 : Int32) ≤ u19) (r16 (u15 + (1 : Int32))) (bnd (rt (((12 : Int32) * a1) + (u19 / (8 : Int32)))) fun v22 => gR 4 i0 16 fun v23 => isK 33 v23 fun i24 => aI 33 i24 u19 fun v26 => cnd (v26 = 0) (r20 (u19 + (1 : Int32))) (gR 4 i0 11 fun v28 => isK 32 v28 fun i29 => aI 32 i29 v22 fun v31 => cnd ((5 : Int32) ≤ v31) (r20 (u19 + (1 : Int32))) (gR 4 i0 11 fun v33 => isK 32 v33 fun i34 => aI 32 i34 v22 fun v36 => bnd (ρ := _) (α := Int32) (cnd (v36 = (4 : Int32)) (rt (1 : Int32)) (rt (0 : Int32))) (fun u37 => bn0 (f_X5_levelOf (u19 - u19 / (8 : Int32) * (8 : Int32))) fun v38 => gR 4 i0 12 fun v39 => isK 32 v39 fun i40 => aI 32 i40 v22 fun v42 => bnd (ρ := _) (α := Int32) (cnd (v38 < v42) (rt (0 : Int32)) (rt (1 : Int32))) (fun u43 => bnd (ρ := _) (α := Unit) (jo (σ := Unit) (fun _ => gR 4 i0 14 fun v55 => isK 32 v55 fun i56 => aI 32 i56 v22 fun v58 => gR 4 i0 11 fun v59 => isK 32 v59 fun i60 => aI 32 i60 v22 fun v62 => bnd (ρ := _) (α := Int32) (cnd (v62 = 0) (gR 4 i0 12 fun v67 => isK 32 v67 fun i68 => aI 32 i68 v22 fun v70 => rt ((u19 - u19 / (8 : Int32) * (8 : Int32)) ||| ((1 : Int32) <<< (v70 &&& 31)))) (rt (u19 - u19 / (8 : Int32) * (8 : Int32)))) (fun u63 => bn0 (f_X5_meet i0 v58 u63) fun _ => rt ())) fun j72 => cnd (u37 = 0) (j72 ()) (cnd (u43 = 0) (rt ()) (j72 ()))) (fun _ => jo (σ := Int32) (fun u44 => gR 4 i0 15 fun v45 => isK 32 v45 fun i46 => aI 32 i46 v22 fun v48 => bn0 (f_X5_meet i0 v48 (u19 - u19 / (8 : Int32) * (8 : Int32))) fun _ => r20 (u44 + (1 : Int32))) fun j51 => cnd (u37 = 0) (j51 u19) (cnd (u43 = 0) (j51 u19) (r20 (u19 + (1 : Int32))))))))))) (0 : Int32))) (0 : Int32)) (fun _ => lp (σ := Int32 × Int32) (fun r81 => un2 fun u79 u80 => cnd ((96 : Int32) ≤ u80) (rt u79) (gR 4 i0 16 fun v83 => isK 33 v83 fun i84 => aI 33 i84 u80 fun v86 => bnd (ρ := _) (α := Int32) (jo (σ := Unit) (fun _ => rt (0 : Int32)) fun j98 => cnd (v86 = 0) (j98 ()) (gR 4 i0 11 fun v100 => isK 32 v100 fun i101 => aI 32 i101 (((12 : Int32) * a1) + (u80 / (8 : Int32))) fun v103 => cnd (v103 = (5 : Int32)) (rt (1 : Int32)) (j98 ()))) (fun u87 => cnd (u87 = 0) (r81 (u79, u80 + (1 : Int32))) (jo (σ := Int32) (fun u89 => bn0 (f_X5_levelOf (u89 - u89 / (8 : Int32) * (8 : Int32))) fun v90 => r81 (v90, u89 + (1 : Int32))) fun j92 => cnd (u79 = (-1 : Int32)) (j92 u80) (bn0 (f_X5_levelOf (u80 - u80 / (8 : Int32) * (8 : Int32))) fun v94 => cnd (u79 ≤ v94) (r81 (u79, u80 + (1 : Int32))) (j92 u80)))))) ((-1 : Int32), (0 : Int32)))))
theorem im_X5_weakest {g : GP} {l : Launch} (hl : l.stackTraces = false) (i0 : Nat) (a1 : Int32) : Im g l 1 yX5_weakest cX5_weakest 8 (some .int) eI [.ref (idc 4 i0), .int a1] (f_X5_weakest i0 a1) := by
  refine tx_start hl 1 _ _ _ _ (by decide) (Nat.le_of_ble_eq_true rfl) fun Γ Z hΓ hZ => ?_
  subst hΓ
  unfold f_X5_weakest
  show TX g Γ _ Z _ 0 [(0, .ref (idc 4 i0)), (1, .int a1)] [] _
  refine x_aload_n 0 0 dX5_weakest_0 rfl ?_
  refine x_iload_n 1 1 dX5_weakest_1 rfl ?_
  refine x_iconst 2 0 (0 : Int32) dX5_weakest_2 rfl ?_
  refine x_aload_n 3 0 dX5_weakest_3 rfl ?_
  refine x_getI 4 fa_X5_303_4 dX5_weakest_4 fun v1 => ?_
  refine x_iconst 7 1 (1 : Int32) dX5_weakest_7 rfl ?_
  refine x_isub 8 dX5_weakest_8 ?_
  refine x_cS 9 0 [.int a1, .int (0 : Int32), .int (v1 - (1 : Int32))] [.ref (idc 4 i0)] cs_X5_228 (im_X5_isIn hl a1 (0 : Int32) (v1 - (1 : Int32))) (by decide) rfl (Nat.le_of_ble_eq_true rfl) dX5_weakest_9 fun v2 => x_stI ?_
  refine x_cV 12 0 [.int v2] [] ⟨by decide, rfl⟩ cv_X5_251 (im_X5_may hl i0 v2) (by decide) rfl (Nat.le_of_ble_eq_true rfl) dX5_weakest_12 fun v3 => x_stI ?_
  refine x_if_ne 15 20 dX5_weakest_15 rfl (fun c4 => ?_) (fun c4 => ?_)
  · refine x_iconst 18 0 (0 : Int32) dX5_weakest_18 rfl ?_
    exact x_iret 19 hZ rfl dX5_weakest_19
  · refine x_iconst 20 0 (0 : Int32) dX5_weakest_20 rfl ?_
    refine x_istore_n 21 [(2, .int (0 : Int32)), (0, .ref (idc 4 i0)), (1, .int a1)] dX5_weakest_21 (by decide) rfl ?_
    refine x_sub [1, 2, 0] [(0, .ref (idc 4 i0)), (1, .int a1), (2, .int (0 : Int32))] rfl ?_
    refine x_bndj 41 (fun _ => [(0, .ref (idc 4 i0)), (1, .int a1)]) (fun _ => []) (fun _ => ?_) (fun hj7 => ?_)
    · show TX g Γ _ Z _ 41 [(0, .ref (idc 4 i0)), (1, .int a1)] [] _
      refine x_aload_n 41 0 dX5_weakest_41 rfl ?_
      refine x_getR 42 fa_X5_53_4 dX5_weakest_42 fun v12 => ?_
      refine x_iconst 45 0 (0 : Int32) dX5_weakest_45 rfl ?_
      refine x_iconst 46 1 (1 : Int32) dX5_weakest_46 rfl ?_
      refine x_isK fun i13 h14 => ?_
      subst h14
      refine x_zast 47 dX5_weakest_47 ?_
      refine x_iconst 48 0 (0 : Int32) dX5_weakest_48 rfl ?_
      refine x_istore_n 49 [(2, .int (0 : Int32)), (0, .ref (idc 4 i0)), (1, .int a1)] dX5_weakest_49 (by decide) rfl ?_
      refine x_sub [1, 2, 0] [(0, .ref (idc 4 i0)), (1, .int a1), (2, .int (0 : Int32))] rfl ?_
      refine x_bndj 224 (fun _ => [(0, .ref (idc 4 i0)), (1, .int a1)]) (fun _ => []) (fun _ => ?_) (fun hj17 => ?_)
      · show TX g Γ _ Z _ 224 [(0, .ref (idc 4 i0)), (1, .int a1)] [] _
        refine x_iconst 224 (-1) (-1 : Int32) dX5_weakest_224 rfl ?_
        refine x_istore_n 225 [(2, .int (-1 : Int32)), (0, .ref (idc 4 i0)), (1, .int a1)] dX5_weakest_225 (by decide) rfl ?_
        refine x_iconst 226 0 (0 : Int32) dX5_weakest_226 rfl ?_
        refine x_istore_n 227 [(3, .int (0 : Int32)), (2, .int (-1 : Int32)), (0, .ref (idc 4 i0)), (1, .int a1)] dX5_weakest_227 (by decide) rfl ?_
        refine x_sub [2, 3, 1, 0] [(0, .ref (idc 4 i0)), (1, .int a1), (2, .int (-1 : Int32)), (3, .int (0 : Int32))] rfl ?_
        refine x_lp (Lf := fun u => [(0, .ref (idc 4 i0)), (1, .int a1), (2, .int u.1), (3, .int u.2)]) (sf := fun _ => []) (fun r81 hr81 u => ?_) ((-1 : Int32), (0 : Int32))
        obtain ⟨u79, u80⟩ := u
        show TX g Γ _ Z _ 228 [(0, .ref (idc 4 i0)), (1, .int a1), (2, .int u79), (3, .int u80)] [] _
        refine x_un2 ?_
        refine x_iload_n 228 3 dX5_weakest_228 rfl ?_
        refine x_bipush 229 96 (96 : Int32) dX5_weakest_229 rfl ?_
        refine x_icmp_ge 231 307 dX5_weakest_231 rfl (fun c82 => ?_) (fun c82 => ?_)
        · refine x_iload_n 307 2 dX5_weakest_307 rfl ?_
          exact x_iret 308 hZ rfl dX5_weakest_308
        · refine x_aload_n 234 0 dX5_weakest_234 rfl ?_
          refine x_getR 235 fa_X5_53_4 dX5_weakest_235 fun v83 => ?_
          refine x_iload_n 238 3 dX5_weakest_238 rfl ?_
          refine x_isK fun i84 h85 => ?_
          subst h85
          refine x_zald 239 dX5_weakest_239 fun v86 => ?_
          refine x_bndj 266 (fun u87 => [(0, .ref (idc 4 i0)), (1, .int a1), (2, .int u79), (3, .int u80)]) (fun u87 => [.int u87]) (fun u87 => ?_) (fun hj96 => ?_)
          · show TX g Γ _ Z _ 266 [(0, .ref (idc 4 i0)), (1, .int a1), (2, .int u79), (3, .int u80)] [.int u87] _
            refine x_istore 266 [(4, .int u87), (0, .ref (idc 4 i0)), (1, .int a1), (2, .int u79), (3, .int u80)] dX5_weakest_266 (by decide) rfl ?_
            refine x_iload 268 0 dX5_weakest_268 rfl ?_
            refine x_if_eq 270 299 dX5_weakest_270 rfl (fun c88 => ?_) (fun c88 => ?_)
            · refine x_iload_n 299 3 dX5_weakest_299 rfl ?_
              refine x_istore_n 300 [(2, .int u79), (4, .int u87), (0, .ref (idc 4 i0)), (1, .int a1), (3, .int u80)] dX5_weakest_300 (by decide) rfl ?_
              refine x_iinc 301 4 [(3, .int (u80 + (1 : Int32))), (2, .int u79), (4, .int u87), (0, .ref (idc 4 i0)), (1, .int a1)] dX5_weakest_301 rfl rfl (by decide) rfl ?_
              refine x_goto 304 228 dX5_weakest_304 rfl ?_
              refine x_sub [3, 4, 1, 0] _ rfl ?_
              exact hr81 (u79, u80 + (1 : Int32))
            · refine x_iload_n 273 3 dX5_weakest_273 rfl ?_
              refine x_iconst 274 (-1) (-1 : Int32) dX5_weakest_274 rfl ?_
              refine x_jo 289 (Lf := fun u89 => [(0, .ref (idc 4 i0)), (1, .int a1), (3, .int u89)]) (sf := fun u89 => []) (fun u89 => ?_) (fun j92 hj91 => ?_)
              · show TX g Γ _ Z _ 289 [(0, .ref (idc 4 i0)), (1, .int a1), (3, .int u89)] [] _
                refine x_iload_n 289 2 dX5_weakest_289 rfl ?_
                refine x_bipush 290 8 (8 : Int32) dX5_weakest_290 rfl ?_
                refine x_irem 292 dX5_weakest_292 (by decide) ?_
                refine x_cS 293 0 [.int (u89 - u89 / (8 : Int32) * (8 : Int32))] [] cs_X5_309 (im_X5_levelOf hl (u89 - u89 / (8 : Int32) * (8 : Int32))) (by decide) rfl (Nat.le_of_ble_eq_true rfl) dX5_weakest_293 fun v90 => x_stI ?_
                refine x_goto 296 300 dX5_weakest_296 rfl ?_
                refine x_istore_n 300 [(2, .int v90), (0, .ref (idc 4 i0)), (1, .int a1), (3, .int u89)] dX5_weakest_300 (by decide) rfl ?_
                refine x_iinc 301 3 [(3, .int (u89 + (1 : Int32))), (2, .int v90), (0, .ref (idc 4 i0)), (1, .int a1)] dX5_weakest_301 rfl rfl (by decide) rfl ?_
                refine x_goto 304 228 dX5_weakest_304 rfl ?_
                refine x_sub [2, 3, 1, 0] _ rfl ?_
                exact hr81 (v90, u89 + (1 : Int32))
              · refine x_icmp_eq 275 289 dX5_weakest_275 rfl (fun c93 => ?_) (fun c93 => ?_)
                · refine x_sub [1, 2, 4] _ rfl ?_
                  exact hj91 u80
                · refine x_iload_n 278 4 dX5_weakest_278 rfl ?_
                  refine x_bipush 279 8 (8 : Int32) dX5_weakest_279 rfl ?_
                  refine x_irem 281 dX5_weakest_281 (by decide) ?_
                  refine x_cS 282 0 [.int (u80 - u80 / (8 : Int32) * (8 : Int32))] [] cs_X5_309 (im_X5_levelOf hl (u80 - u80 / (8 : Int32) * (8 : Int32))) (by decide) rfl (Nat.le_of_ble_eq_true rfl) dX5_weakest_282 fun v94 => x_stI ?_
                  refine x_iload_n 285 3 dX5_weakest_285 rfl ?_
                  refine x_icmp_ge 286 299 dX5_weakest_286 rfl (fun c95 => ?_) (fun c95 => ?_)
                  · refine x_iload_n 299 3 dX5_weakest_299 rfl ?_
                    refine x_istore_n 300 [(2, .int u79), (4, .int u87), (0, .ref (idc 4 i0)), (1, .int a1), (3, .int u80)] dX5_weakest_300 (by decide) rfl ?_
                    refine x_iinc 301 4 [(3, .int (u80 + (1 : Int32))), (2, .int u79), (4, .int u87), (0, .ref (idc 4 i0)), (1, .int a1)] dX5_weakest_301 rfl rfl (by decide) rfl ?_
                    refine x_goto 304 228 dX5_weakest_304 rfl ?_
                    refine x_sub [3, 4, 1, 0] _ rfl ?_
                    exact hr81 (u79, u80 + (1 : Int32))
                  · refine x_sub [1, 2, 4] _ rfl ?_
                    exact hj91 u80
          · refine x_jo 265 (Lf := fun _ => [(0, .ref (idc 4 i0)), (1, .int a1), (2, .int u79), (3, .int u80)]) (sf := fun _ => []) (fun _ => ?_) (fun j98 hj97 => ?_)
            · show TX g Γ _ Z _ 265 [(0, .ref (idc 4 i0)), (1, .int a1), (2, .int u79), (3, .int u80)] [] _
              refine x_iconst 265 0 (0 : Int32) dX5_weakest_265 rfl ?_
              exact hj96 (0 : Int32)
            · refine x_if_eq 240 265 dX5_weakest_240 rfl (fun c99 => ?_) (fun c99 => ?_)
              · exact hj97 ()
              · refine x_aload_n 243 0 dX5_weakest_243 rfl ?_
                refine x_getR 244 fa_X5_38_4 dX5_weakest_244 fun v100 => ?_
                refine x_bipush 247 12 (12 : Int32) dX5_weakest_247 rfl ?_
                refine x_iload_n 249 1 dX5_weakest_249 rfl ?_
                refine x_imul 250 dX5_weakest_250 ?_
                refine x_iload_n 251 3 dX5_weakest_251 rfl ?_
                refine x_bipush 252 8 (8 : Int32) dX5_weakest_252 rfl ?_
                refine x_idiv 254 dX5_weakest_254 (by decide) ?_
                refine x_iadd 255 dX5_weakest_255 ?_
                refine x_isK fun i101 h102 => ?_
                subst h102
                refine x_iald 256 dX5_weakest_256 fun v103 => ?_
                refine x_iconst 257 5 (5 : Int32) dX5_weakest_257 rfl ?_
                refine x_icmp_ne 258 265 dX5_weakest_258 rfl (fun c104 => ?_) (fun c104 => ?_)
                · refine x_iconst 261 1 (1 : Int32) dX5_weakest_261 rfl ?_
                  refine x_goto 262 266 dX5_weakest_262 rfl ?_
                  exact hj96 (1 : Int32)
                · exact hj97 ()
      · refine x_lp (Lf := fun u15 => [(0, .ref (idc 4 i0)), (1, .int a1), (2, .int u15)]) (sf := fun _ => []) (fun r16 hr16 u15 => ?_) (0 : Int32)
        show TX g Γ _ Z _ 50 [(0, .ref (idc 4 i0)), (1, .int a1), (2, .int u15)] [] _
        refine x_iload_n 50 2 dX5_weakest_50 rfl ?_
        refine x_bipush 51 96 (96 : Int32) dX5_weakest_51 rfl ?_
        refine x_icmp_ge 53 224 dX5_weakest_53 rfl (fun c18 => ?_) (fun c18 => ?_)
        · refine x_sub [0, 1] _ rfl ?_
          exact hj17 ()
        · refine x_iconst 56 0 (0 : Int32) dX5_weakest_56 rfl ?_
          refine x_istore_n 57 [(3, .int (0 : Int32)), (0, .ref (idc 4 i0)), (1, .int a1), (2, .int u15)] dX5_weakest_57 (by decide) rfl ?_
          refine x_sub [1, 2, 3, 0] [(0, .ref (idc 4 i0)), (1, .int a1), (2, .int u15), (3, .int (0 : Int32))] rfl ?_
          refine x_lp (Lf := fun u19 => [(0, .ref (idc 4 i0)), (1, .int a1), (2, .int u15), (3, .int u19)]) (sf := fun _ => []) (fun r20 hr20 u19 => ?_) (0 : Int32)
          show TX g Γ _ Z _ 58 [(0, .ref (idc 4 i0)), (1, .int a1), (2, .int u15), (3, .int u19)] [] _
          refine x_iload_n 58 3 dX5_weakest_58 rfl ?_
          refine x_bipush 59 96 (96 : Int32) dX5_weakest_59 rfl ?_
          refine x_icmp_ge 61 218 dX5_weakest_61 rfl (fun c21 => ?_) (fun c21 => ?_)
          · refine x_iinc 218 2 [(2, .int (u15 + (1 : Int32))), (0, .ref (idc 4 i0)), (1, .int a1), (3, .int u19)] dX5_weakest_218 rfl rfl (by decide) rfl ?_
            refine x_goto 221 50 dX5_weakest_221 rfl ?_
            refine x_sub [1, 2, 0] _ rfl ?_
            exact hr16 (u15 + (1 : Int32))
          · refine x_bipush 64 12 (12 : Int32) dX5_weakest_64 rfl ?_
            refine x_iload_n 66 1 dX5_weakest_66 rfl ?_
            refine x_imul 67 dX5_weakest_67 ?_
            refine x_iload_n 68 3 dX5_weakest_68 rfl ?_
            refine x_bipush 69 8 (8 : Int32) dX5_weakest_69 rfl ?_
            refine x_idiv 71 dX5_weakest_71 (by decide) ?_
            refine x_iadd 72 dX5_weakest_72 ?_
            refine x_genI fun v22 _ => ?_
            refine x_istore 73 [(4, .int v22), (0, .ref (idc 4 i0)), (1, .int a1), (2, .int u15), (3, .int u19)] dX5_weakest_73 (by decide) rfl ?_
            refine x_iload_n 75 4 dX5_weakest_75 rfl ?_
            refine x_bipush 76 8 (8 : Int32) dX5_weakest_76 rfl ?_
            refine x_irem 78 dX5_weakest_78 (by decide) ?_
            refine x_istore 79 [(5, .int (u19 - u19 / (8 : Int32) * (8 : Int32))), (4, .int v22), (0, .ref (idc 4 i0)), (1, .int a1), (2, .int u15), (3, .int u19)] dX5_weakest_79 (by decide) rfl ?_
            refine x_aload_n 81 2 dX5_weakest_81 rfl ?_
            refine x_getR 82 fa_X5_53_4 dX5_weakest_82 fun v23 => ?_
            refine x_iload_n 85 5 dX5_weakest_85 rfl ?_
            refine x_isK fun i24 h25 => ?_
            subst h25
            refine x_zald 86 dX5_weakest_86 fun v26 => ?_
            refine x_if_eq 87 212 dX5_weakest_87 rfl (fun c27 => ?_) (fun c27 => ?_)
            · refine x_iinc 212 5 [(3, .int (u19 + (1 : Int32))), (5, .int (u19 - u19 / (8 : Int32) * (8 : Int32))), (4, .int v22), (0, .ref (idc 4 i0)), (1, .int a1), (2, .int u15)] dX5_weakest_212 rfl rfl (by decide) rfl ?_
              refine x_goto 215 58 dX5_weakest_215 rfl ?_
              refine x_sub [3, 4, 5, 0] _ rfl ?_
              exact hr20 (u19 + (1 : Int32))
            · refine x_aload_n 90 2 dX5_weakest_90 rfl ?_
              refine x_getR 91 fa_X5_38_4 dX5_weakest_91 fun v28 => ?_
              refine x_iload 94 1 dX5_weakest_94 rfl ?_
              refine x_isK fun i29 h30 => ?_
              subst h30
              refine x_iald 96 dX5_weakest_96 fun v31 => ?_
              refine x_iconst 97 5 (5 : Int32) dX5_weakest_97 rfl ?_
              refine x_icmp_ge 98 212 dX5_weakest_98 rfl (fun c32 => ?_) (fun c32 => ?_)
              · refine x_iinc 212 5 [(3, .int (u19 + (1 : Int32))), (5, .int (u19 - u19 / (8 : Int32) * (8 : Int32))), (4, .int v22), (0, .ref (idc 4 i0)), (1, .int a1), (2, .int u15)] dX5_weakest_212 rfl rfl (by decide) rfl ?_
                refine x_goto 215 58 dX5_weakest_215 rfl ?_
                refine x_sub [3, 4, 5, 0] _ rfl ?_
                exact hr20 (u19 + (1 : Int32))
              · refine x_aload_n 101 2 dX5_weakest_101 rfl ?_
                refine x_getR 102 fa_X5_38_4 dX5_weakest_102 fun v33 => ?_
                refine x_iload 105 1 dX5_weakest_105 rfl ?_
                refine x_isK fun i34 h35 => ?_
                subst h35
                refine x_iald 107 dX5_weakest_107 fun v36 => ?_
                refine x_iconst 108 4 (4 : Int32) dX5_weakest_108 rfl ?_
                refine x_bndj 117 (fun u37 => [(0, .ref (idc 4 i0)), (1, .int a1), (2, .int u15), (3, .int u19), (4, .int v22), (5, .int (u19 - u19 / (8 : Int32) * (8 : Int32)))]) (fun u37 => [.int u37]) (fun u37 => ?_) (fun hj77 => ?_)
                · show TX g Γ _ Z _ 117 [(0, .ref (idc 4 i0)), (1, .int a1), (2, .int u15), (3, .int u19), (4, .int v22), (5, .int (u19 - u19 / (8 : Int32) * (8 : Int32)))] [.int u37] _
                  refine x_istore 117 [(6, .int u37), (0, .ref (idc 4 i0)), (1, .int a1), (2, .int u15), (3, .int u19), (4, .int v22), (5, .int (u19 - u19 / (8 : Int32) * (8 : Int32)))] dX5_weakest_117 (by decide) rfl ?_
                  refine x_iload 119 6 dX5_weakest_119 rfl ?_
                  refine x_cS 121 0 [.int (u19 - u19 / (8 : Int32) * (8 : Int32))] [] cs_X5_309 (im_X5_levelOf hl (u19 - u19 / (8 : Int32) * (8 : Int32))) (by decide) rfl (Nat.le_of_ble_eq_true rfl) dX5_weakest_121 fun v38 => x_stI ?_
                  refine x_aload_n 124 1 dX5_weakest_124 rfl ?_
                  refine x_getR 125 fa_X5_41_4 dX5_weakest_125 fun v39 => ?_
                  refine x_iload 128 5 dX5_weakest_128 rfl ?_
                  refine x_isK fun i40 h41 => ?_
                  subst h41
                  refine x_iald 130 dX5_weakest_130 fun v42 => ?_
                  refine x_bndj 139 (fun u43 => [(0, .ref (idc 4 i0)), (1, .int a1), (2, .int u15), (3, .int u19), (4, .int v22), (5, .int (u19 - u19 / (8 : Int32) * (8 : Int32))), (6, .int u37)]) (fun u43 => [.int u43]) (fun u43 => ?_) (fun hj75 => ?_)
                  · show TX g Γ _ Z _ 139 [(0, .ref (idc 4 i0)), (1, .int a1), (2, .int u15), (3, .int u19), (4, .int v22), (5, .int (u19 - u19 / (8 : Int32) * (8 : Int32))), (6, .int u37)] [.int u43] _
                    refine x_istore 139 [(7, .int u43), (0, .ref (idc 4 i0)), (1, .int a1), (2, .int u15), (3, .int u19), (4, .int v22), (5, .int (u19 - u19 / (8 : Int32) * (8 : Int32))), (6, .int u37)] dX5_weakest_139 (by decide) rfl ?_
                    refine x_iload 141 7 dX5_weakest_141 rfl ?_
                    refine x_bndj 189 (fun _ => [(0, .ref (idc 4 i0)), (1, .int a1), (2, .int u15), (3, .int u19), (4, .int v22), (5, .int (u19 - u19 / (8 : Int32) * (8 : Int32))), (6, .int u37), (7, .int u43)]) (fun _ => []) (fun _ => ?_) (fun hj54 => ?_)
                    · show TX g Γ _ Z _ 189 [(0, .ref (idc 4 i0)), (1, .int a1), (2, .int u15), (3, .int u19), (4, .int v22), (5, .int (u19 - u19 / (8 : Int32) * (8 : Int32))), (6, .int u37), (7, .int u43)] [] _
                      refine x_iload 189 6 dX5_weakest_189 rfl ?_
                      refine x_jo 199 (Lf := fun u44 => [(0, .ref (idc 4 i0)), (1, .int a1), (2, .int u15), (3, .int u44), (4, .int v22), (5, .int (u19 - u19 / (8 : Int32) * (8 : Int32)))]) (sf := fun u44 => []) (fun u44 => ?_) (fun j51 hj50 => ?_)
                      · show TX g Γ _ Z _ 199 [(0, .ref (idc 4 i0)), (1, .int a1), (2, .int u15), (3, .int u44), (4, .int v22), (5, .int (u19 - u19 / (8 : Int32) * (8 : Int32)))] [] _
                        refine x_aload_n 199 0 dX5_weakest_199 rfl ?_
                        refine x_aload_n 200 0 dX5_weakest_200 rfl ?_
                        refine x_getR 201 fa_X5_50_4 dX5_weakest_201 fun v45 => ?_
                        refine x_iload 204 4 dX5_weakest_204 rfl ?_
                        refine x_isK fun i46 h47 => ?_
                        subst h47
                        refine x_iald 206 dX5_weakest_206 fun v48 => ?_
                        refine x_iload 207 5 dX5_weakest_207 rfl ?_
                        refine x_cV 209 0 [.int v48, .int (u19 - u19 / (8 : Int32) * (8 : Int32))] [] ⟨by decide, rfl⟩ cv_X5_312 (im_X5_meet hl i0 v48 (u19 - u19 / (8 : Int32) * (8 : Int32))) (by decide) rfl (Nat.le_of_ble_eq_true rfl) dX5_weakest_209 fun v49 => x_stV ?_
                        refine x_iinc 212 3 [(3, .int (u44 + (1 : Int32))), (0, .ref (idc 4 i0)), (1, .int a1), (2, .int u15), (4, .int v22), (5, .int (u19 - u19 / (8 : Int32) * (8 : Int32)))] dX5_weakest_212 rfl rfl (by decide) rfl ?_
                        refine x_goto 215 58 dX5_weakest_215 rfl ?_
                        refine x_sub [1, 2, 3, 0] _ rfl ?_
                        exact hr20 (u44 + (1 : Int32))
                      · refine x_if_eq 191 199 dX5_weakest_191 rfl (fun c52 => ?_) (fun c52 => ?_)
                        · refine x_sub [0, 1, 2, 3, 4, 5] _ rfl ?_
                          exact hj50 u19
                        · refine x_iload 194 7 dX5_weakest_194 rfl ?_
                          refine x_if_ne 196 212 dX5_weakest_196 rfl (fun c53 => ?_) (fun c53 => ?_)
                          · refine x_sub [0, 1, 2, 3, 4, 5] _ rfl ?_
                            exact hj50 u19
                          · refine x_iinc 212 3 [(3, .int (u19 + (1 : Int32))), (0, .ref (idc 4 i0)), (1, .int a1), (2, .int u15), (4, .int v22), (5, .int (u19 - u19 / (8 : Int32) * (8 : Int32))), (6, .int u37), (7, .int u43)] dX5_weakest_212 rfl rfl (by decide) rfl ?_
                            refine x_goto 215 58 dX5_weakest_215 rfl ?_
                            refine x_sub [1, 2, 3, 0] _ rfl ?_
                            exact hr20 (u19 + (1 : Int32))
                    · refine x_jo 151 (Lf := fun _ => [(0, .ref (idc 4 i0)), (1, .int a1), (2, .int u15), (3, .int u19), (4, .int v22), (5, .int (u19 - u19 / (8 : Int32) * (8 : Int32))), (6, .int u37), (7, .int u43)]) (sf := fun _ => []) (fun _ => ?_) (fun j72 hj71 => ?_)
                      · show TX g Γ _ Z _ 151 [(0, .ref (idc 4 i0)), (1, .int a1), (2, .int u15), (3, .int u19), (4, .int v22), (5, .int (u19 - u19 / (8 : Int32) * (8 : Int32))), (6, .int u37), (7, .int u43)] [] _
                        refine x_aload_n 151 0 dX5_weakest_151 rfl ?_
                        refine x_aload_n 152 0 dX5_weakest_152 rfl ?_
                        refine x_getR 153 fa_X5_47_4 dX5_weakest_153 fun v55 => ?_
                        refine x_iload 156 4 dX5_weakest_156 rfl ?_
                        refine x_isK fun i56 h57 => ?_
                        subst h57
                        refine x_iald 158 dX5_weakest_158 fun v58 => ?_
                        refine x_aload_n 159 0 dX5_weakest_159 rfl ?_
                        refine x_getR 160 fa_X5_38_4 dX5_weakest_160 fun v59 => ?_
                        refine x_iload 163 4 dX5_weakest_163 rfl ?_
                        refine x_isK fun i60 h61 => ?_
                        subst h61
                        refine x_iald 165 dX5_weakest_165 fun v62 => ?_
                        refine x_bndj 186 (fun u63 => [(0, .ref (idc 4 i0)), (1, .int a1), (2, .int u15), (3, .int u19), (4, .int v22), (5, .int (u19 - u19 / (8 : Int32) * (8 : Int32))), (6, .int u37), (7, .int u43)]) (fun u63 => [.int u63, .int v58, .ref (idc 4 i0)]) (fun u63 => ?_) (fun hj65 => ?_)
                        · show TX g Γ _ Z _ 186 [(0, .ref (idc 4 i0)), (1, .int a1), (2, .int u15), (3, .int u19), (4, .int v22), (5, .int (u19 - u19 / (8 : Int32) * (8 : Int32))), (6, .int u37), (7, .int u43)] [.int u63, .int v58, .ref (idc 4 i0)] _
                          refine x_cV 186 0 [.int v58, .int u63] [] ⟨by decide, rfl⟩ cv_X5_312 (im_X5_meet hl i0 v58 u63) (by decide) rfl (Nat.le_of_ble_eq_true rfl) dX5_weakest_186 fun v64 => x_stV ?_
                          exact hj54 ()
                        · refine x_if_ne 166 184 dX5_weakest_166 rfl (fun c66 => ?_) (fun c66 => ?_)
                          · refine x_iload 169 5 dX5_weakest_169 rfl ?_
                            refine x_iconst 171 1 (1 : Int32) dX5_weakest_171 rfl ?_
                            refine x_aload_n 172 0 dX5_weakest_172 rfl ?_
                            refine x_getR 173 fa_X5_41_4 dX5_weakest_173 fun v67 => ?_
                            refine x_iload 176 4 dX5_weakest_176 rfl ?_
                            refine x_isK fun i68 h69 => ?_
                            subst h69
                            refine x_iald 178 dX5_weakest_178 fun v70 => ?_
                            refine x_ishl 179 dX5_weakest_179 ?_
                            refine x_ior 180 dX5_weakest_180 ?_
                            refine x_goto 181 186 dX5_weakest_181 rfl ?_
                            exact hj65 ((u19 - u19 / (8 : Int32) * (8 : Int32)) ||| ((1 : Int32) <<< (v70 &&& 31)))
                          · refine x_iload 184 5 dX5_weakest_184 rfl ?_
                            exact hj65 (u19 - u19 / (8 : Int32) * (8 : Int32))
                      · refine x_if_eq 143 151 dX5_weakest_143 rfl (fun c73 => ?_) (fun c73 => ?_)
                        · refine x_sub [1, 2, 3, 4, 5, 6, 7, 0] _ rfl ?_
                          exact hj71 ()
                        · refine x_iload 146 0 dX5_weakest_146 rfl ?_
                          refine x_if_eq 148 189 dX5_weakest_148 rfl (fun c74 => ?_) (fun c74 => ?_)
                          · refine x_sub [1, 2, 3, 4, 5, 6, 7, 0] _ rfl ?_
                            exact hj54 ()
                          · refine x_sub [1, 2, 3, 4, 5, 6, 7, 0] _ rfl ?_
                            exact hj71 ()
                  · refine x_icmp_lt 131 138 dX5_weakest_131 rfl (fun c76 => ?_) (fun c76 => ?_)
                    · refine x_iconst 138 0 (0 : Int32) dX5_weakest_138 rfl ?_
                      refine x_sub [1, 2, 3, 4, 5, 6, 0] _ rfl ?_
                      exact hj75 (0 : Int32)
                    · refine x_iconst 134 1 (1 : Int32) dX5_weakest_134 rfl ?_
                      refine x_goto 135 139 dX5_weakest_135 rfl ?_
                      refine x_sub [1, 2, 3, 4, 5, 6, 0] _ rfl ?_
                      exact hj75 (1 : Int32)
                · refine x_icmp_ne 109 116 dX5_weakest_109 rfl (fun c78 => ?_) (fun c78 => ?_)
                  · refine x_iconst 112 1 (1 : Int32) dX5_weakest_112 rfl ?_
                    refine x_goto 113 117 dX5_weakest_113 rfl ?_
                    refine x_sub [2, 3, 4, 5, 1, 0] _ rfl ?_
                    exact hj77 (1 : Int32)
                  · refine x_iconst 116 0 (0 : Int32) dX5_weakest_116 rfl ?_
                    refine x_sub [2, 3, 4, 5, 1, 0] _ rfl ?_
                    exact hj77 (0 : Int32)
    · refine x_lp (Lf := fun u5 => [(0, .ref (idc 4 i0)), (1, .int a1), (2, .int u5)]) (sf := fun _ => []) (fun r6 hr6 u5 => ?_) (0 : Int32)
      show TX g Γ _ Z _ 22 [(0, .ref (idc 4 i0)), (1, .int a1), (2, .int u5)] [] _
      refine x_iload_n 22 2 dX5_weakest_22 rfl ?_
      refine x_bipush 23 96 (96 : Int32) dX5_weakest_23 rfl ?_
      refine x_icmp_ge 25 41 dX5_weakest_25 rfl (fun c8 => ?_) (fun c8 => ?_)
      · refine x_sub [0, 1] _ rfl ?_
        exact hj7 ()
      · refine x_aload_n 28 0 dX5_weakest_28 rfl ?_
        refine x_getR 29 fa_X5_53_4 dX5_weakest_29 fun v9 => ?_
        refine x_iload_n 32 2 dX5_weakest_32 rfl ?_
        refine x_iconst 33 0 (0 : Int32) dX5_weakest_33 rfl ?_
        refine x_isK fun i10 h11 => ?_
        subst h11
        refine x_zast 34 dX5_weakest_34 ?_
        refine x_iinc 35 2 [(2, .int (u5 + (1 : Int32))), (0, .ref (idc 4 i0)), (1, .int a1)] dX5_weakest_35 rfl rfl (by decide) rfl ?_
        refine x_goto 38 22 dX5_weakest_38 rfl ?_
        refine x_sub [1, 2, 0] _ rfl ?_
        exact hr6 (u5 + (1 : Int32))
def f_X5_points (i0 : Nat) (a1 : Int32) (a2 : Int32) (a3 : Int32) : PT Int32 := bn0 (f_X5_isIn a1 (0 : Int32) (2 : Int32)) fun v1 => bnd (ρ := _) (α := Int32) (jo (σ := Unit) (fun _ => rt (0 : Int32)) fun j25 => cnd (v1 = 0) (j25 ()) (bnd (ρ := _) (α := Int32) (cnd (a3 = 0) (rt (0 : Int32)) (rt (-1 : Int32))) (fun u27 => bn0 (f_X5_isIn a2 u27 (5 : Int32)) fun v28 => cnd (v28 = 0) (j25 ()) (rt (1 : Int32))))) (fun u2 => bn0 (f_X5_may i0 u2) fun v3 => cnd (v3 = 0) (rt (0 : Int32)) (bnd (ρ := _) (α := Int32) (cnd (a3 = 0) (gR 4 i0 17 fun v15 => isK 32 v15 fun i16 => aI 32 i16 a1 fun v18 => rt v18) (gR 4 i0 18 fun v19 => isK 32 v19 fun i20 => aI 32 i20 a1 fun v22 => rt v22)) (fun u5 => cnd (a3 = 0) (gR 4 i0 17 fun v7 => isK 32 v7 fun i8 => bI 32 i8 a1 a2 <| rt u5) (gR 4 i0 18 fun v10 => isK 32 v10 fun i11 => bI 32 i11 a1 a2 <| rt u5))))
theorem im_X5_points {g : GP} {l : Launch} (hl : l.stackTraces = false) (i0 : Nat) (a1 : Int32) (a2 : Int32) (a3 : Int32) : Im g l 1 yX5_points cX5_points 5 (some .int) eI [.ref (idc 4 i0), .int a1, .int a2, .int a3] (f_X5_points i0 a1 a2 a3) := by
  refine tx_start hl 1 _ _ _ _ (by decide) (Nat.le_of_ble_eq_true rfl) fun Γ Z hΓ hZ => ?_
  subst hΓ
  unfold f_X5_points
  show TX g Γ _ Z _ 0 [(0, .ref (idc 4 i0)), (1, .int a1), (2, .int a2), (3, .int a3)] [] _
  refine x_aload_n 0 0 dX5_points_0 rfl ?_
  refine x_iload_n 1 1 dX5_points_1 rfl ?_
  refine x_iconst 2 0 (0 : Int32) dX5_points_2 rfl ?_
  refine x_iconst 3 2 (2 : Int32) dX5_points_3 rfl ?_
  refine x_cS 4 0 [.int a1, .int (0 : Int32), .int (2 : Int32)] [.ref (idc 4 i0)] cs_X5_228 (im_X5_isIn hl a1 (0 : Int32) (2 : Int32)) (by decide) rfl (Nat.le_of_ble_eq_true rfl) dX5_points_4 fun v1 => x_stI ?_
  refine x_bndj 32 (fun u2 => [(0, .ref (idc 4 i0)), (1, .int a1), (2, .int a2), (3, .int a3)]) (fun u2 => [.int u2, .ref (idc 4 i0)]) (fun u2 => ?_) (fun hj23 => ?_)
  · show TX g Γ _ Z _ 32 [(0, .ref (idc 4 i0)), (1, .int a1), (2, .int a2), (3, .int a3)] [.int u2, .ref (idc 4 i0)] _
    refine x_cV 32 0 [.int u2] [] ⟨by decide, rfl⟩ cv_X5_251 (im_X5_may hl i0 u2) (by decide) rfl (Nat.le_of_ble_eq_true rfl) dX5_points_32 fun v3 => x_stI ?_
    refine x_if_ne 35 40 dX5_points_35 rfl (fun c4 => ?_) (fun c4 => ?_)
    · refine x_iconst 38 0 (0 : Int32) dX5_points_38 rfl ?_
      exact x_iret 39 hZ rfl dX5_points_39
    · refine x_iload_n 40 3 dX5_points_40 rfl ?_
      refine x_bndj 59 (fun u5 => [(0, .ref (idc 4 i0)), (1, .int a1), (2, .int a2), (3, .int a3)]) (fun u5 => [.int u5]) (fun u5 => ?_) (fun hj13 => ?_)
      · show TX g Γ _ Z _ 59 [(0, .ref (idc 4 i0)), (1, .int a1), (2, .int a2), (3, .int a3)] [.int u5] _
        refine x_istore 59 [(4, .int u5), (0, .ref (idc 4 i0)), (1, .int a1), (2, .int a2), (3, .int a3)] dX5_points_59 (by decide) rfl ?_
        refine x_iload_n 61 4 dX5_points_61 rfl ?_
        refine x_if_eq 62 75 dX5_points_62 rfl (fun c6 => ?_) (fun c6 => ?_)
        · refine x_aload_n 75 1 dX5_points_75 rfl ?_
          refine x_getR 76 fa_X5_56_4 dX5_points_76 fun v7 => ?_
          refine x_iload_n 79 2 dX5_points_79 rfl ?_
          refine x_iload_n 80 3 dX5_points_80 rfl ?_
          refine x_isK fun i8 h9 => ?_
          subst h9
          refine x_iast 81 dX5_points_81 ?_
          refine x_iload 82 0 dX5_points_82 rfl ?_
          exact x_iret 84 hZ rfl dX5_points_84
        · refine x_aload_n 65 1 dX5_points_65 rfl ?_
          refine x_getR 66 fa_X5_59_4 dX5_points_66 fun v10 => ?_
          refine x_iload_n 69 2 dX5_points_69 rfl ?_
          refine x_iload_n 70 3 dX5_points_70 rfl ?_
          refine x_isK fun i11 h12 => ?_
          subst h12
          refine x_iast 71 dX5_points_71 ?_
          refine x_goto 72 82 dX5_points_72 rfl ?_
          refine x_iload 82 0 dX5_points_82 rfl ?_
          exact x_iret 84 hZ rfl dX5_points_84
      · refine x_if_eq 41 53 dX5_points_41 rfl (fun c14 => ?_) (fun c14 => ?_)
        · refine x_aload_n 53 0 dX5_points_53 rfl ?_
          refine x_getR 54 fa_X5_56_4 dX5_points_54 fun v15 => ?_
          refine x_iload_n 57 1 dX5_points_57 rfl ?_
          refine x_isK fun i16 h17 => ?_
          subst h17
          refine x_iald 58 dX5_points_58 fun v18 => ?_
          exact hj13 v18
        · refine x_aload_n 44 0 dX5_points_44 rfl ?_
          refine x_getR 45 fa_X5_59_4 dX5_points_45 fun v19 => ?_
          refine x_iload_n 48 1 dX5_points_48 rfl ?_
          refine x_isK fun i20 h21 => ?_
          subst h21
          refine x_iald 49 dX5_points_49 fun v22 => ?_
          refine x_goto 50 59 dX5_points_50 rfl ?_
          exact hj13 v22
  · refine x_jo 31 (Lf := fun _ => [(0, .ref (idc 4 i0)), (1, .int a1), (2, .int a2), (3, .int a3)]) (sf := fun _ => [.ref (idc 4 i0)]) (fun _ => ?_) (fun j25 hj24 => ?_)
    · show TX g Γ _ Z _ 31 [(0, .ref (idc 4 i0)), (1, .int a1), (2, .int a2), (3, .int a3)] [.ref (idc 4 i0)] _
      refine x_iconst 31 0 (0 : Int32) dX5_points_31 rfl ?_
      exact hj23 (0 : Int32)
    · refine x_if_eq 7 31 dX5_points_7 rfl (fun c26 => ?_) (fun c26 => ?_)
      · exact hj24 ()
      · refine x_iload_n 10 2 dX5_points_10 rfl ?_
        refine x_iload_n 11 3 dX5_points_11 rfl ?_
        refine x_bndj 20 (fun u27 => [(0, .ref (idc 4 i0)), (1, .int a1), (2, .int a2), (3, .int a3)]) (fun u27 => [.int u27, .int a2, .ref (idc 4 i0)]) (fun u27 => ?_) (fun hj30 => ?_)
        · show TX g Γ _ Z _ 20 [(0, .ref (idc 4 i0)), (1, .int a1), (2, .int a2), (3, .int a3)] [.int u27, .int a2, .ref (idc 4 i0)] _
          refine x_iconst 20 5 (5 : Int32) dX5_points_20 rfl ?_
          refine x_cS 21 0 [.int a2, .int u27, .int (5 : Int32)] [.ref (idc 4 i0)] cs_X5_228 (im_X5_isIn hl a2 u27 (5 : Int32)) (by decide) rfl (Nat.le_of_ble_eq_true rfl) dX5_points_21 fun v28 => x_stI ?_
          refine x_if_eq 24 31 dX5_points_24 rfl (fun c29 => ?_) (fun c29 => ?_)
          · exact hj24 ()
          · refine x_iconst 27 1 (1 : Int32) dX5_points_27 rfl ?_
            refine x_goto 28 32 dX5_points_28 rfl ?_
            exact hj23 (1 : Int32)
        · refine x_if_eq 12 19 dX5_points_12 rfl (fun c31 => ?_) (fun c31 => ?_)
          · refine x_iconst 19 0 (0 : Int32) dX5_points_19 rfl ?_
            exact hj30 (0 : Int32)
          · refine x_iconst 15 (-1) (-1 : Int32) dX5_points_15 rfl ?_
            refine x_goto 16 20 dX5_points_16 rfl ?_
            exact hj30 (-1 : Int32)
def f_X5_wrongs (i0 : Nat) (a1 : Int32) : PT Int32 := lp (σ := Int32 × Int32) (fun r3 => un2 fun u1 u2 => cnd ((3 : Int32) ≤ u2) (rt u1) (gI 4 i0 0 fun v5 => gR 4 i0 4 fun v6 => isK 32 v6 fun i7 => aI 32 i7 (((3 : Int32) * a1) + u2) fun v9 => cnd ((60 : Int32) ≤ (v5 - v9)) (r3 (u1 + (0 : Int32), u2 + (1 : Int32))) (r3 (u1 + (1 : Int32), u2 + (1 : Int32))))) ((0 : Int32), (0 : Int32))
theorem im_X5_wrongs {g : GP} {l : Launch} (hl : l.stackTraces = false) (i0 : Nat) (a1 : Int32) : Im g l 0 yX5_wrongs cX5_wrongs 4 (some .int) eI [.ref (idc 4 i0), .int a1] (f_X5_wrongs i0 a1) := by
  refine tx_start hl 0 _ _ _ _ (by decide) (Nat.le_of_ble_eq_true rfl) fun Γ Z hΓ hZ => ?_
  subst hΓ
  unfold f_X5_wrongs
  show TX g Γ _ Z _ 0 [(0, .ref (idc 4 i0)), (1, .int a1)] [] _
  refine x_iconst 0 0 (0 : Int32) dX5_wrongs_0 rfl ?_
  refine x_istore_n 1 [(2, .int (0 : Int32)), (0, .ref (idc 4 i0)), (1, .int a1)] dX5_wrongs_1 (by decide) rfl ?_
  refine x_iconst 2 0 (0 : Int32) dX5_wrongs_2 rfl ?_
  refine x_istore_n 3 [(3, .int (0 : Int32)), (2, .int (0 : Int32)), (0, .ref (idc 4 i0)), (1, .int a1)] dX5_wrongs_3 (by decide) rfl ?_
  refine x_sub [2, 3, 1, 0] [(0, .ref (idc 4 i0)), (1, .int a1), (2, .int (0 : Int32)), (3, .int (0 : Int32))] rfl ?_
  refine x_lp (Lf := fun u => [(0, .ref (idc 4 i0)), (1, .int a1), (2, .int u.1), (3, .int u.2)]) (sf := fun _ => []) (fun r3 hr3 u => ?_) ((0 : Int32), (0 : Int32))
  obtain ⟨u1, u2⟩ := u
  show TX g Γ _ Z _ 4 [(0, .ref (idc 4 i0)), (1, .int a1), (2, .int u1), (3, .int u2)] [] _
  refine x_un2 ?_
  refine x_iload_n 4 3 dX5_wrongs_4 rfl ?_
  refine x_iconst 5 3 (3 : Int32) dX5_wrongs_5 rfl ?_
  refine x_icmp_ge 6 43 dX5_wrongs_6 rfl (fun c4 => ?_) (fun c4 => ?_)
  · refine x_iload_n 43 2 dX5_wrongs_43 rfl ?_
    exact x_iret 44 hZ rfl dX5_wrongs_44
  · refine x_iload_n 9 2 dX5_wrongs_9 rfl ?_
    refine x_aload_n 10 0 dX5_wrongs_10 rfl ?_
    refine x_getI 11 fa_X5_247_4 dX5_wrongs_11 fun v5 => ?_
    refine x_aload_n 14 0 dX5_wrongs_14 rfl ?_
    refine x_getR 15 fa_X5_19_4 dX5_wrongs_15 fun v6 => ?_
    refine x_iconst 18 3 (3 : Int32) dX5_wrongs_18 rfl ?_
    refine x_iload_n 19 1 dX5_wrongs_19 rfl ?_
    refine x_imul 20 dX5_wrongs_20 ?_
    refine x_iload_n 21 3 dX5_wrongs_21 rfl ?_
    refine x_iadd 22 dX5_wrongs_22 ?_
    refine x_isK fun i7 h8 => ?_
    subst h8
    refine x_iald 23 dX5_wrongs_23 fun v9 => ?_
    refine x_isub 24 dX5_wrongs_24 ?_
    refine x_bipush 25 60 (60 : Int32) dX5_wrongs_25 rfl ?_
    refine x_icmp_ge 27 34 dX5_wrongs_27 rfl (fun c10 => ?_) (fun c10 => ?_)
    · refine x_iconst 34 0 (0 : Int32) dX5_wrongs_34 rfl ?_
      refine x_iadd 35 dX5_wrongs_35 ?_
      refine x_istore_n 36 [(2, .int (u1 + (0 : Int32))), (0, .ref (idc 4 i0)), (1, .int a1), (3, .int u2)] dX5_wrongs_36 (by decide) rfl ?_
      refine x_iinc 37 3 [(3, .int (u2 + (1 : Int32))), (2, .int (u1 + (0 : Int32))), (0, .ref (idc 4 i0)), (1, .int a1)] dX5_wrongs_37 rfl rfl (by decide) rfl ?_
      refine x_goto 40 4 dX5_wrongs_40 rfl ?_
      refine x_sub [2, 3, 1, 0] _ rfl ?_
      exact hr3 (u1 + (0 : Int32), u2 + (1 : Int32))
    · refine x_iconst 30 1 (1 : Int32) dX5_wrongs_30 rfl ?_
      refine x_goto 31 35 dX5_wrongs_31 rfl ?_
      refine x_iadd 35 dX5_wrongs_35 ?_
      refine x_istore_n 36 [(2, .int (u1 + (1 : Int32))), (0, .ref (idc 4 i0)), (1, .int a1), (3, .int u2)] dX5_wrongs_36 (by decide) rfl ?_
      refine x_iinc 37 3 [(3, .int (u2 + (1 : Int32))), (2, .int (u1 + (1 : Int32))), (0, .ref (idc 4 i0)), (1, .int a1)] dX5_wrongs_37 rfl rfl (by decide) rfl ?_
      refine x_goto 40 4 dX5_wrongs_40 rfl ?_
      refine x_sub [2, 3, 1, 0] _ rfl ?_
      exact hr3 (u1 + (1 : Int32), u2 + (1 : Int32))
def f_X5_pointsOf (i0 : Nat) (a1 : Int32) (a2 : Int32) : PT Int32 := cnd (a2 = 0) (gR 4 i0 17 fun v2 => isK 32 v2 fun i3 => aI 32 i3 a1 fun v5 => rt v5) (gR 4 i0 18 fun v6 => isK 32 v6 fun i7 => aI 32 i7 a1 fun v9 => cnd (v9 = (-1 : Int32)) (gR 4 i0 17 fun v11 => isK 32 v11 fun i12 => aI 32 i12 a1 fun v14 => rt v14) (gR 4 i0 18 fun v15 => isK 32 v15 fun i16 => aI 32 i16 a1 fun v18 => rt v18))
theorem im_X5_pointsOf {g : GP} {l : Launch} (hl : l.stackTraces = false) (i0 : Nat) (a1 : Int32) (a2 : Int32) : Im g l 0 yX5_pointsOf cX5_pointsOf 3 (some .int) eI [.ref (idc 4 i0), .int a1, .int a2] (f_X5_pointsOf i0 a1 a2) := by
  refine tx_start hl 0 _ _ _ _ (by decide) (Nat.le_of_ble_eq_true rfl) fun Γ Z hΓ hZ => ?_
  subst hΓ
  unfold f_X5_pointsOf
  show TX g Γ _ Z _ 0 [(0, .ref (idc 4 i0)), (1, .int a1), (2, .int a2)] [] _
  refine x_iload_n 0 2 dX5_pointsOf_0 rfl ?_
  refine x_if_eq 1 23 dX5_pointsOf_1 rfl (fun c1 => ?_) (fun c1 => ?_)
  · refine x_aload_n 23 0 dX5_pointsOf_23 rfl ?_
    refine x_getR 24 fa_X5_56_4 dX5_pointsOf_24 fun v2 => ?_
    refine x_iload_n 27 1 dX5_pointsOf_27 rfl ?_
    refine x_isK fun i3 h4 => ?_
    subst h4
    refine x_iald 28 dX5_pointsOf_28 fun v5 => ?_
    exact x_iret 29 hZ rfl dX5_pointsOf_29
  · refine x_aload_n 4 0 dX5_pointsOf_4 rfl ?_
    refine x_getR 5 fa_X5_59_4 dX5_pointsOf_5 fun v6 => ?_
    refine x_iload_n 8 1 dX5_pointsOf_8 rfl ?_
    refine x_isK fun i7 h8 => ?_
    subst h8
    refine x_iald 9 dX5_pointsOf_9 fun v9 => ?_
    refine x_iconst 10 (-1) (-1 : Int32) dX5_pointsOf_10 rfl ?_
    refine x_icmp_eq 11 23 dX5_pointsOf_11 rfl (fun c10 => ?_) (fun c10 => ?_)
    · refine x_aload_n 23 0 dX5_pointsOf_23 rfl ?_
      refine x_getR 24 fa_X5_56_4 dX5_pointsOf_24 fun v11 => ?_
      refine x_iload_n 27 1 dX5_pointsOf_27 rfl ?_
      refine x_isK fun i12 h13 => ?_
      subst h13
      refine x_iald 28 dX5_pointsOf_28 fun v14 => ?_
      exact x_iret 29 hZ rfl dX5_pointsOf_29
    · refine x_aload_n 14 0 dX5_pointsOf_14 rfl ?_
      refine x_getR 15 fa_X5_59_4 dX5_pointsOf_15 fun v15 => ?_
      refine x_iload_n 18 1 dX5_pointsOf_18 rfl ?_
      refine x_isK fun i16 h17 => ?_
      subst h17
      refine x_iald 19 dX5_pointsOf_19 fun v18 => ?_
      refine x_goto 20 29 dX5_pointsOf_20 rfl ?_
      exact x_iret 29 hZ rfl dX5_pointsOf_29
def f_X5_riskOf (i0 : Nat) (a1 : Int32) (a2 : Int32) : PT Int32 := gR 4 i0 20 fun v1 => isK 32 v1 fun i2 => aI 32 i2 a1 fun v4 => bn0 (f_X5_wrongs i0 v4) fun v5 => bn0 (f_X5_pointsOf i0 (2 : Int32) a2) fun v6 => gR 4 i0 5 fun v7 => gR 4 i0 21 fun v8 => isK 32 v8 fun i9 => aI 32 i9 a1 fun v11 => isK 33 v7 fun i12 => aI 33 i12 (((6 : Int32) * v4) + v11) fun v14 => bnd (ρ := _) (α := Int32) (cnd (v14 = 0) (bn0 (f_X5_pointsOf i0 (0 : Int32) a2) fun v28 => rt v28) (rt (0 : Int32))) (fun u15 => gR 4 i0 6 fun v16 => gR 4 i0 22 fun v17 => isK 32 v17 fun i18 => aI 32 i18 a1 fun v20 => isK 33 v16 fun i21 => aI 33 i21 (((6 : Int32) * v4) + v20) fun v23 => cnd (v23 = 0) (bn0 (f_X5_pointsOf i0 (1 : Int32) a2) fun v25 => rt (((v5 * v6) + u15) + v25)) (rt (((v5 * v6) + u15) + (0 : Int32))))
theorem im_X5_riskOf {g : GP} {l : Launch} (hl : l.stackTraces = false) (i0 : Nat) (a1 : Int32) (a2 : Int32) : Im g l 1 yX5_riskOf cX5_riskOf 5 (some .int) eI [.ref (idc 4 i0), .int a1, .int a2] (f_X5_riskOf i0 a1 a2) := by
  refine tx_start hl 1 _ _ _ _ (by decide) (Nat.le_of_ble_eq_true rfl) fun Γ Z hΓ hZ => ?_
  subst hΓ
  unfold f_X5_riskOf
  show TX g Γ _ Z _ 0 [(0, .ref (idc 4 i0)), (1, .int a1), (2, .int a2)] [] _
  refine x_aload_n 0 0 dX5_riskOf_0 rfl ?_
  refine x_getR 1 fa_X5_62_4 dX5_riskOf_1 fun v1 => ?_
  refine x_iload_n 4 1 dX5_riskOf_4 rfl ?_
  refine x_isK fun i2 h3 => ?_
  subst h3
  refine x_iald 5 dX5_riskOf_5 fun v4 => ?_
  refine x_istore_n 6 [(3, .int v4), (0, .ref (idc 4 i0)), (1, .int a1), (2, .int a2)] dX5_riskOf_6 (by decide) rfl ?_
  refine x_aload_n 7 1 dX5_riskOf_7 rfl ?_
  refine x_iload_n 8 0 dX5_riskOf_8 rfl ?_
  refine x_cV 9 0 [.int v4] [] ⟨by decide, rfl⟩ cv_X5_315 (im_X5_wrongs hl i0 v4) (by decide) rfl (Nat.le_of_ble_eq_true rfl) dX5_riskOf_9 fun v5 => x_stI ?_
  refine x_aload_n 12 1 dX5_riskOf_12 rfl ?_
  refine x_iconst 13 2 (2 : Int32) dX5_riskOf_13 rfl ?_
  refine x_iload_n 14 3 dX5_riskOf_14 rfl ?_
  refine x_cV 15 0 [.int (2 : Int32), .int a2] [.int v5] ⟨by decide, rfl⟩ cv_X5_318 (im_X5_pointsOf hl i0 (2 : Int32) a2) (by decide) rfl (Nat.le_of_ble_eq_true rfl) dX5_riskOf_15 fun v6 => x_stI ?_
  refine x_imul 18 dX5_riskOf_18 ?_
  refine x_istore 19 [(4, .int (v5 * v6)), (3, .int v4), (0, .ref (idc 4 i0)), (1, .int a1), (2, .int a2)] dX5_riskOf_19 (by decide) rfl ?_
  refine x_iload 21 0 dX5_riskOf_21 rfl ?_
  refine x_aload_n 23 2 dX5_riskOf_23 rfl ?_
  refine x_getR 24 fa_X5_22_4 dX5_riskOf_24 fun v7 => ?_
  refine x_bipush 27 6 (6 : Int32) dX5_riskOf_27 rfl ?_
  refine x_iload_n 29 1 dX5_riskOf_29 rfl ?_
  refine x_imul 30 dX5_riskOf_30 ?_
  refine x_aload_n 31 2 dX5_riskOf_31 rfl ?_
  refine x_getR 32 fa_X5_65_4 dX5_riskOf_32 fun v8 => ?_
  refine x_iload_n 35 3 dX5_riskOf_35 rfl ?_
  refine x_isK fun i9 h10 => ?_
  subst h10
  refine x_iald 36 dX5_riskOf_36 fun v11 => ?_
  refine x_iadd 37 dX5_riskOf_37 ?_
  refine x_isK fun i12 h13 => ?_
  subst h13
  refine x_zald 38 dX5_riskOf_38 fun v14 => ?_
  refine x_bndj 52 (fun u15 => [(0, .ref (idc 4 i0)), (1, .int a1), (2, .int a2), (3, .int v4)]) (fun u15 => [.int u15, .int (v5 * v6)]) (fun u15 => ?_) (fun hj26 => ?_)
  · show TX g Γ _ Z _ 52 [(0, .ref (idc 4 i0)), (1, .int a1), (2, .int a2), (3, .int v4)] [.int u15, .int (v5 * v6)] _
    refine x_iadd 52 dX5_riskOf_52 ?_
    refine x_istore 53 [(4, .int ((v5 * v6) + u15)), (0, .ref (idc 4 i0)), (1, .int a1), (2, .int a2), (3, .int v4)] dX5_riskOf_53 (by decide) rfl ?_
    refine x_iload 55 0 dX5_riskOf_55 rfl ?_
    refine x_aload_n 57 1 dX5_riskOf_57 rfl ?_
    refine x_getR 58 fa_X5_26_4 dX5_riskOf_58 fun v16 => ?_
    refine x_bipush 61 6 (6 : Int32) dX5_riskOf_61 rfl ?_
    refine x_iload_n 63 4 dX5_riskOf_63 rfl ?_
    refine x_imul 64 dX5_riskOf_64 ?_
    refine x_aload_n 65 1 dX5_riskOf_65 rfl ?_
    refine x_getR 66 fa_X5_68_4 dX5_riskOf_66 fun v17 => ?_
    refine x_iload_n 69 2 dX5_riskOf_69 rfl ?_
    refine x_isK fun i18 h19 => ?_
    subst h19
    refine x_iald 70 dX5_riskOf_70 fun v20 => ?_
    refine x_iadd 71 dX5_riskOf_71 ?_
    refine x_isK fun i21 h22 => ?_
    subst h22
    refine x_zald 72 dX5_riskOf_72 fun v23 => ?_
    refine x_if_eq 73 80 dX5_riskOf_73 rfl (fun c24 => ?_) (fun c24 => ?_)
    · refine x_aload_n 80 1 dX5_riskOf_80 rfl ?_
      refine x_iconst 81 1 (1 : Int32) dX5_riskOf_81 rfl ?_
      refine x_iload_n 82 3 dX5_riskOf_82 rfl ?_
      refine x_cV 83 0 [.int (1 : Int32), .int a2] [.int ((v5 * v6) + u15)] ⟨by decide, rfl⟩ cv_X5_318 (im_X5_pointsOf hl i0 (1 : Int32) a2) (by decide) rfl (Nat.le_of_ble_eq_true rfl) dX5_riskOf_83 fun v25 => x_stI ?_
      refine x_iadd 86 dX5_riskOf_86 ?_
      exact x_iret 87 hZ rfl dX5_riskOf_87
    · refine x_iconst 76 0 (0 : Int32) dX5_riskOf_76 rfl ?_
      refine x_goto 77 86 dX5_riskOf_77 rfl ?_
      refine x_iadd 86 dX5_riskOf_86 ?_
      exact x_iret 87 hZ rfl dX5_riskOf_87
  · refine x_if_eq 39 46 dX5_riskOf_39 rfl (fun c27 => ?_) (fun c27 => ?_)
    · refine x_aload_n 46 2 dX5_riskOf_46 rfl ?_
      refine x_iconst 47 0 (0 : Int32) dX5_riskOf_47 rfl ?_
      refine x_iload_n 48 4 dX5_riskOf_48 rfl ?_
      refine x_cV 49 0 [.int (0 : Int32), .int a2] [.int (v5 * v6)] ⟨by decide, rfl⟩ cv_X5_318 (im_X5_pointsOf hl i0 (0 : Int32) a2) (by decide) rfl (Nat.le_of_ble_eq_true rfl) dX5_riskOf_49 fun v28 => x_stI ?_
      refine x_sub [2, 3, 4, 1] _ rfl ?_
      exact hj26 v28
    · refine x_iconst 42 0 (0 : Int32) dX5_riskOf_42 rfl ?_
      refine x_goto 43 52 dX5_riskOf_43 rfl ?_
      refine x_sub [2, 3, 4, 1] _ rfl ?_
      exact hj26 (0 : Int32)
def f_X5_shownIn (i0 : Nat) (a1 : Int32) : PT Int32 := lp (σ := Int32 × Int32) (fun r3 => un2 fun u1 u2 => cnd ((3 : Int32) ≤ u2) (rt u1) (gR 4 i0 29 fun v5 => isK 32 v5 fun i6 => aI 32 i6 (((3 : Int32) * a1) + u2) fun v8 => cnd (v8 = (-1 : Int32)) (r3 (u1 ||| (0 : Int32), u2 + (1 : Int32))) (r3 (u1 ||| ((1 : Int32) <<< (u2 &&& 31)), u2 + (1 : Int32))))) ((0 : Int32), (0 : Int32))
theorem im_X5_shownIn {g : GP} {l : Launch} (hl : l.stackTraces = false) (i0 : Nat) (a1 : Int32) : Im g l 0 yX5_shownIn cX5_shownIn 4 (some .int) eI [.ref (idc 4 i0), .int a1] (f_X5_shownIn i0 a1) := by
  refine tx_start hl 0 _ _ _ _ (by decide) (Nat.le_of_ble_eq_true rfl) fun Γ Z hΓ hZ => ?_
  subst hΓ
  unfold f_X5_shownIn
  show TX g Γ _ Z _ 0 [(0, .ref (idc 4 i0)), (1, .int a1)] [] _
  refine x_iconst 0 0 (0 : Int32) dX5_shownIn_0 rfl ?_
  refine x_istore_n 1 [(2, .int (0 : Int32)), (0, .ref (idc 4 i0)), (1, .int a1)] dX5_shownIn_1 (by decide) rfl ?_
  refine x_iconst 2 0 (0 : Int32) dX5_shownIn_2 rfl ?_
  refine x_istore_n 3 [(3, .int (0 : Int32)), (2, .int (0 : Int32)), (0, .ref (idc 4 i0)), (1, .int a1)] dX5_shownIn_3 (by decide) rfl ?_
  refine x_sub [2, 3, 1, 0] [(0, .ref (idc 4 i0)), (1, .int a1), (2, .int (0 : Int32)), (3, .int (0 : Int32))] rfl ?_
  refine x_lp (Lf := fun u => [(0, .ref (idc 4 i0)), (1, .int a1), (2, .int u.1), (3, .int u.2)]) (sf := fun _ => []) (fun r3 hr3 u => ?_) ((0 : Int32), (0 : Int32))
  obtain ⟨u1, u2⟩ := u
  show TX g Γ _ Z _ 4 [(0, .ref (idc 4 i0)), (1, .int a1), (2, .int u1), (3, .int u2)] [] _
  refine x_un2 ?_
  refine x_iload_n 4 3 dX5_shownIn_4 rfl ?_
  refine x_iconst 5 3 (3 : Int32) dX5_shownIn_5 rfl ?_
  refine x_icmp_ge 6 39 dX5_shownIn_6 rfl (fun c4 => ?_) (fun c4 => ?_)
  · refine x_iload_n 39 2 dX5_shownIn_39 rfl ?_
    exact x_iret 40 hZ rfl dX5_shownIn_40
  · refine x_iload_n 9 2 dX5_shownIn_9 rfl ?_
    refine x_aload_n 10 0 dX5_shownIn_10 rfl ?_
    refine x_getR 11 fa_X5_89_4 dX5_shownIn_11 fun v5 => ?_
    refine x_iconst 14 3 (3 : Int32) dX5_shownIn_14 rfl ?_
    refine x_iload_n 15 1 dX5_shownIn_15 rfl ?_
    refine x_imul 16 dX5_shownIn_16 ?_
    refine x_iload_n 17 3 dX5_shownIn_17 rfl ?_
    refine x_iadd 18 dX5_shownIn_18 ?_
    refine x_isK fun i6 h7 => ?_
    subst h7
    refine x_iald 19 dX5_shownIn_19 fun v8 => ?_
    refine x_iconst 20 (-1) (-1 : Int32) dX5_shownIn_20 rfl ?_
    refine x_icmp_eq 21 30 dX5_shownIn_21 rfl (fun c9 => ?_) (fun c9 => ?_)
    · refine x_iconst 30 0 (0 : Int32) dX5_shownIn_30 rfl ?_
      refine x_ior 31 dX5_shownIn_31 ?_
      refine x_istore_n 32 [(2, .int (u1 ||| (0 : Int32))), (0, .ref (idc 4 i0)), (1, .int a1), (3, .int u2)] dX5_shownIn_32 (by decide) rfl ?_
      refine x_iinc 33 3 [(3, .int (u2 + (1 : Int32))), (2, .int (u1 ||| (0 : Int32))), (0, .ref (idc 4 i0)), (1, .int a1)] dX5_shownIn_33 rfl rfl (by decide) rfl ?_
      refine x_goto 36 4 dX5_shownIn_36 rfl ?_
      refine x_sub [2, 3, 1, 0] _ rfl ?_
      exact hr3 (u1 ||| (0 : Int32), u2 + (1 : Int32))
    · refine x_iconst 24 1 (1 : Int32) dX5_shownIn_24 rfl ?_
      refine x_iload_n 25 3 dX5_shownIn_25 rfl ?_
      refine x_ishl 26 dX5_shownIn_26 ?_
      refine x_goto 27 31 dX5_shownIn_27 rfl ?_
      refine x_ior 31 dX5_shownIn_31 ?_
      refine x_istore_n 32 [(2, .int (u1 ||| ((1 : Int32) <<< (u2 &&& 31)))), (0, .ref (idc 4 i0)), (1, .int a1), (3, .int u2)] dX5_shownIn_32 (by decide) rfl ?_
      refine x_iinc 33 3 [(3, .int (u2 + (1 : Int32))), (2, .int (u1 ||| ((1 : Int32) <<< (u2 &&& 31)))), (0, .ref (idc 4 i0)), (1, .int a1)] dX5_shownIn_33 rfl rfl (by decide) rfl ?_
      refine x_goto 36 4 dX5_shownIn_36 rfl ?_
      refine x_sub [2, 3, 1, 0] _ rfl ?_
      exact hr3 (u1 ||| ((1 : Int32) <<< (u2 &&& 31)), u2 + (1 : Int32))
def f_X5_holds (i0 : Nat) (a1 : Int32) (a2 : Int32) : PT Int32 := gR 4 i0 20 fun v1 => isK 32 v1 fun i2 => aI 32 i2 a1 fun v4 => gR 4 i0 11 fun v5 => isK 32 v5 fun i6 => aI 32 i6 a2 fun v8 => cnd (v8 = (1 : Int32)) (gR 4 i0 5 fun v10 => gR 4 i0 21 fun v11 => isK 32 v11 fun i12 => aI 32 i12 a1 fun v14 => isK 33 v10 fun i15 => aI 33 i15 (((6 : Int32) * v4) + v14) fun v17 => asr (v17 = 0 ∨ v17 = 1) (rt v17)) (gR 4 i0 11 fun v18 => isK 32 v18 fun i19 => aI 32 i19 a2 fun v21 => cnd (v21 = (2 : Int32)) (bn0 (f_X5_riskOf i0 a1 (0 : Int32)) fun v23 => gR 4 i0 12 fun v24 => isK 32 v24 fun i25 => aI 32 i25 a2 fun v27 => cnd (v23 < v27) (asr ((0 : Int32) = 0 ∨ (0 : Int32) = 1) (rt (0 : Int32))) (asr ((1 : Int32) = 0 ∨ (1 : Int32) = 1) (rt (1 : Int32)))) (gR 4 i0 11 fun v29 => isK 32 v29 fun i30 => aI 32 i30 a2 fun v32 => cnd (v32 = (3 : Int32)) (gR 4 i0 1 fun v34 => gR 4 i0 12 fun v35 => isK 32 v35 fun i36 => aI 32 i36 a2 fun v38 => isK 32 v34 fun i39 => aI 32 i39 (((3 : Int32) * v4) + v38) fun v41 => cnd (v41 = (1 : Int32)) (asr ((1 : Int32) = 0 ∨ (1 : Int32) = 1) (rt (1 : Int32))) (asr ((0 : Int32) = 0 ∨ (0 : Int32) = 1) (rt (0 : Int32)))) (bn0 (f_X5_shownIn i0 a1) fun v43 => bn0 (f_X5_levelOf v43) fun v44 => gR 4 i0 12 fun v45 => isK 32 v45 fun i46 => aI 32 i46 a2 fun v48 => cnd (v44 < v48) (asr ((0 : Int32) = 0 ∨ (0 : Int32) = 1) (rt (0 : Int32))) (asr ((1 : Int32) = 0 ∨ (1 : Int32) = 1) (rt (1 : Int32))))))
theorem im_X5_holds {g : GP} {l : Launch} (hl : l.stackTraces = false) (i0 : Nat) (a1 : Int32) (a2 : Int32) : Im g l 2 yX5_holds cX5_holds 4 (some .boolean) eI [.ref (idc 4 i0), .int a1, .int a2] (f_X5_holds i0 a1 a2) := by
  refine tx_start hl 2 _ _ _ _ (by decide) (Nat.le_of_ble_eq_true rfl) fun Γ Z hΓ hZ => ?_
  subst hΓ
  unfold f_X5_holds
  show TX g Γ _ Z _ 0 [(0, .ref (idc 4 i0)), (1, .int a1), (2, .int a2)] [] _
  refine x_aload_n 0 0 dX5_holds_0 rfl ?_
  refine x_getR 1 fa_X5_62_4 dX5_holds_1 fun v1 => ?_
  refine x_iload_n 4 1 dX5_holds_4 rfl ?_
  refine x_isK fun i2 h3 => ?_
  subst h3
  refine x_iald 5 dX5_holds_5 fun v4 => ?_
  refine x_istore_n 6 [(3, .int v4), (0, .ref (idc 4 i0)), (1, .int a1), (2, .int a2)] dX5_holds_6 (by decide) rfl ?_
  refine x_aload_n 7 1 dX5_holds_7 rfl ?_
  refine x_getR 8 fa_X5_38_4 dX5_holds_8 fun v5 => ?_
  refine x_iload_n 11 3 dX5_holds_11 rfl ?_
  refine x_isK fun i6 h7 => ?_
  subst h7
  refine x_iald 12 dX5_holds_12 fun v8 => ?_
  refine x_iconst 13 1 (1 : Int32) dX5_holds_13 rfl ?_
  refine x_icmp_ne 14 34 dX5_holds_14 rfl (fun c9 => ?_) (fun c9 => ?_)
  · refine x_aload_n 17 1 dX5_holds_17 rfl ?_
    refine x_getR 18 fa_X5_22_4 dX5_holds_18 fun v10 => ?_
    refine x_bipush 21 6 (6 : Int32) dX5_holds_21 rfl ?_
    refine x_iload_n 23 0 dX5_holds_23 rfl ?_
    refine x_imul 24 dX5_holds_24 ?_
    refine x_aload_n 25 1 dX5_holds_25 rfl ?_
    refine x_getR 26 fa_X5_65_4 dX5_holds_26 fun v11 => ?_
    refine x_iload_n 29 2 dX5_holds_29 rfl ?_
    refine x_isK fun i12 h13 => ?_
    subst h13
    refine x_iald 30 dX5_holds_30 fun v14 => ?_
    refine x_iadd 31 dX5_holds_31 ?_
    refine x_isK fun i15 h16 => ?_
    subst h16
    refine x_zald 32 dX5_holds_32 fun v17 => ?_
    exact x_zret 33 hZ rfl dX5_holds_33
  · refine x_aload_n 34 1 dX5_holds_34 rfl ?_
    refine x_getR 35 fa_X5_38_4 dX5_holds_35 fun v18 => ?_
    refine x_iload_n 38 3 dX5_holds_38 rfl ?_
    refine x_isK fun i19 h20 => ?_
    subst h20
    refine x_iald 39 dX5_holds_39 fun v21 => ?_
    refine x_iconst 40 2 (2 : Int32) dX5_holds_40 rfl ?_
    refine x_icmp_ne 41 65 dX5_holds_41 rfl (fun c22 => ?_) (fun c22 => ?_)
    · refine x_aload_n 44 1 dX5_holds_44 rfl ?_
      refine x_iload_n 45 2 dX5_holds_45 rfl ?_
      refine x_iconst 46 0 (0 : Int32) dX5_holds_46 rfl ?_
      refine x_cV 47 1 [.int a1, .int (0 : Int32)] [] ⟨by decide, rfl⟩ cv_X5_322 (im_X5_riskOf hl i0 a1 (0 : Int32)) (by decide) rfl (Nat.le_of_ble_eq_true rfl) dX5_holds_47 fun v23 => x_stI ?_
      refine x_aload_n 50 1 dX5_holds_50 rfl ?_
      refine x_getR 51 fa_X5_41_4 dX5_holds_51 fun v24 => ?_
      refine x_iload_n 54 3 dX5_holds_54 rfl ?_
      refine x_isK fun i25 h26 => ?_
      subst h26
      refine x_iald 55 dX5_holds_55 fun v27 => ?_
      refine x_icmp_lt 56 63 dX5_holds_56 rfl (fun c28 => ?_) (fun c28 => ?_)
      · refine x_iconst 63 0 (0 : Int32) dX5_holds_63 rfl ?_
        exact x_zret 64 hZ rfl dX5_holds_64
      · refine x_iconst 59 1 (1 : Int32) dX5_holds_59 rfl ?_
        refine x_goto 60 64 dX5_holds_60 rfl ?_
        exact x_zret 64 hZ rfl dX5_holds_64
    · refine x_aload_n 65 1 dX5_holds_65 rfl ?_
      refine x_getR 66 fa_X5_38_4 dX5_holds_66 fun v29 => ?_
      refine x_iload_n 69 3 dX5_holds_69 rfl ?_
      refine x_isK fun i30 h31 => ?_
      subst h31
      refine x_iald 70 dX5_holds_70 fun v32 => ?_
      refine x_iconst 71 3 (3 : Int32) dX5_holds_71 rfl ?_
      refine x_icmp_ne 72 102 dX5_holds_72 rfl (fun c33 => ?_) (fun c33 => ?_)
      · refine x_aload_n 75 1 dX5_holds_75 rfl ?_
        refine x_getR 76 fa_X5_7_4 dX5_holds_76 fun v34 => ?_
        refine x_iconst 79 3 (3 : Int32) dX5_holds_79 rfl ?_
        refine x_iload_n 80 0 dX5_holds_80 rfl ?_
        refine x_imul 81 dX5_holds_81 ?_
        refine x_aload_n 82 1 dX5_holds_82 rfl ?_
        refine x_getR 83 fa_X5_41_4 dX5_holds_83 fun v35 => ?_
        refine x_iload_n 86 3 dX5_holds_86 rfl ?_
        refine x_isK fun i36 h37 => ?_
        subst h37
        refine x_iald 87 dX5_holds_87 fun v38 => ?_
        refine x_iadd 88 dX5_holds_88 ?_
        refine x_isK fun i39 h40 => ?_
        subst h40
        refine x_iald 89 dX5_holds_89 fun v41 => ?_
        refine x_iconst 90 1 (1 : Int32) dX5_holds_90 rfl ?_
        refine x_icmp_ne 91 98 dX5_holds_91 rfl (fun c42 => ?_) (fun c42 => ?_)
        · refine x_iconst 94 1 (1 : Int32) dX5_holds_94 rfl ?_
          refine x_goto 95 124 dX5_holds_95 rfl ?_
          exact x_zret 124 hZ rfl dX5_holds_124
        · refine x_iconst 98 0 (0 : Int32) dX5_holds_98 rfl ?_
          refine x_goto 99 124 dX5_holds_99 rfl ?_
          exact x_zret 124 hZ rfl dX5_holds_124
      · refine x_aload_n 102 1 dX5_holds_102 rfl ?_
        refine x_iload_n 103 2 dX5_holds_103 rfl ?_
        refine x_cV 104 0 [.int a1] [] ⟨by decide, rfl⟩ cv_X5_325 (im_X5_shownIn hl i0 a1) (by decide) rfl (Nat.le_of_ble_eq_true rfl) dX5_holds_104 fun v43 => x_stI ?_
        refine x_cS 107 0 [.int v43] [] cs_X5_309 (im_X5_levelOf hl v43) (by decide) rfl (Nat.le_of_ble_eq_true rfl) dX5_holds_107 fun v44 => x_stI ?_
        refine x_aload_n 110 1 dX5_holds_110 rfl ?_
        refine x_getR 111 fa_X5_41_4 dX5_holds_111 fun v45 => ?_
        refine x_iload_n 114 3 dX5_holds_114 rfl ?_
        refine x_isK fun i46 h47 => ?_
        subst h47
        refine x_iald 115 dX5_holds_115 fun v48 => ?_
        refine x_icmp_lt 116 123 dX5_holds_116 rfl (fun c49 => ?_) (fun c49 => ?_)
        · refine x_iconst 123 0 (0 : Int32) dX5_holds_123 rfl ?_
          exact x_zret 124 hZ rfl dX5_holds_124
        · refine x_iconst 119 1 (1 : Int32) dX5_holds_119 rfl ?_
          refine x_goto 120 124 dX5_holds_120 rfl ?_
          exact x_zret 124 hZ rfl dX5_holds_124
def f_X5_newSession (i0 : Nat) (a1 : Int32) (a2 : Int32) : PT Int32 := gI 4 i0 30 fun v1 => gR 4 i0 31 fun v2 => isK 32 v2 fun i3 => bI 32 i3 v1 a1 <| gR 4 i0 32 fun v5 => gI 4 i0 0 fun v6 => isK 32 v5 fun i7 => bI 32 i7 v1 v6 <| gR 4 i0 33 fun v9 => gI 4 i0 0 fun v10 => isK 32 v9 fun i11 => bI 32 i11 v1 v10 <| gR 4 i0 34 fun v13 => isK 32 v13 fun i14 => bI 32 i14 v1 a2 <| gR 4 i0 35 fun v16 => isK 33 v16 fun i17 => bZ 33 i17 v1 (1 : Int32) <| bnd (lp (σ := Int32) (ρ := Unit) (fun r20 => fun u19 => cnd ((3 : Int32) ≤ u19) (rt ()) (gR 4 i0 36 fun v23 => isK 32 v23 fun i24 => bI 32 i24 (((3 : Int32) * v1) + u19) (-1 : Int32) <| r20 (u19 + (1 : Int32)))) (0 : Int32)) (fun _ => gI 4 i0 30 fun v26 => pI 4 i0 30 (v26 + (1 : Int32)) <| bn0 (f_X5_write i0 (0 : Int32) v1) fun _ => rt v1)
theorem im_X5_newSession {g : GP} {l : Launch} (hl : l.stackTraces = false) (i0 : Nat) (a1 : Int32) (a2 : Int32) : Im g l 1 yX5_newSession cX5_newSession 5 (some .int) eI [.ref (idc 4 i0), .int a1, .int a2] (f_X5_newSession i0 a1 a2) := by
  refine tx_start hl 1 _ _ _ _ (by decide) (Nat.le_of_ble_eq_true rfl) fun Γ Z hΓ hZ => ?_
  subst hΓ
  unfold f_X5_newSession
  show TX g Γ _ Z _ 0 [(0, .ref (idc 4 i0)), (1, .int a1), (2, .int a2)] [] _
  refine x_aload_n 0 0 dX5_newSession_0 rfl ?_
  refine x_getI 1 fa_X5_235_4 dX5_newSession_1 fun v1 => ?_
  refine x_istore_n 4 [(3, .int v1), (0, .ref (idc 4 i0)), (1, .int a1), (2, .int a2)] dX5_newSession_4 (by decide) rfl ?_
  refine x_aload_n 5 1 dX5_newSession_5 rfl ?_
  refine x_getR 6 fa_X5_92_4 dX5_newSession_6 fun v2 => ?_
  refine x_iload_n 9 0 dX5_newSession_9 rfl ?_
  refine x_iload_n 10 2 dX5_newSession_10 rfl ?_
  refine x_isK fun i3 h4 => ?_
  subst h4
  refine x_iast 11 dX5_newSession_11 ?_
  refine x_aload_n 12 1 dX5_newSession_12 rfl ?_
  refine x_getR 13 fa_X5_95_4 dX5_newSession_13 fun v5 => ?_
  refine x_iload_n 16 0 dX5_newSession_16 rfl ?_
  refine x_aload_n 17 1 dX5_newSession_17 rfl ?_
  refine x_getI 18 fa_X5_247_4 dX5_newSession_18 fun v6 => ?_
  refine x_isK fun i7 h8 => ?_
  subst h8
  refine x_iast 21 dX5_newSession_21 ?_
  refine x_aload_n 22 1 dX5_newSession_22 rfl ?_
  refine x_getR 23 fa_X5_98_4 dX5_newSession_23 fun v9 => ?_
  refine x_iload_n 26 0 dX5_newSession_26 rfl ?_
  refine x_aload_n 27 1 dX5_newSession_27 rfl ?_
  refine x_getI 28 fa_X5_247_4 dX5_newSession_28 fun v10 => ?_
  refine x_isK fun i11 h12 => ?_
  subst h12
  refine x_iast 31 dX5_newSession_31 ?_
  refine x_aload_n 32 1 dX5_newSession_32 rfl ?_
  refine x_getR 33 fa_X5_101_4 dX5_newSession_33 fun v13 => ?_
  refine x_iload_n 36 0 dX5_newSession_36 rfl ?_
  refine x_iload_n 37 3 dX5_newSession_37 rfl ?_
  refine x_isK fun i14 h15 => ?_
  subst h15
  refine x_iast 38 dX5_newSession_38 ?_
  refine x_aload_n 39 1 dX5_newSession_39 rfl ?_
  refine x_getR 40 fa_X5_104_4 dX5_newSession_40 fun v16 => ?_
  refine x_iload_n 43 0 dX5_newSession_43 rfl ?_
  refine x_iconst 44 1 (1 : Int32) dX5_newSession_44 rfl ?_
  refine x_isK fun i17 h18 => ?_
  subst h18
  refine x_zast 45 dX5_newSession_45 ?_
  refine x_iconst 46 0 (0 : Int32) dX5_newSession_46 rfl ?_
  refine x_istore 47 [(4, .int (0 : Int32)), (3, .int v1), (0, .ref (idc 4 i0)), (1, .int a1), (2, .int a2)] dX5_newSession_47 (by decide) rfl ?_
  refine x_sub [2, 1, 0] [(0, .ref (idc 4 i0)), (3, .int v1), (4, .int (0 : Int32))] rfl ?_
  refine x_bndj 73 (fun _ => [(0, .ref (idc 4 i0)), (3, .int v1)]) (fun _ => []) (fun _ => ?_) (fun hj21 => ?_)
  · show TX g Γ _ Z _ 73 [(0, .ref (idc 4 i0)), (3, .int v1)] [] _
    refine x_aload_n 73 0 dX5_newSession_73 rfl ?_
    refine x_dup 74 dX5_newSession_74 rfl ?_
    refine x_getI 75 fa_X5_235_4 dX5_newSession_75 fun v26 => ?_
    refine x_iconst 78 1 (1 : Int32) dX5_newSession_78 rfl ?_
    refine x_iadd 79 dX5_newSession_79 ?_
    refine x_putI 80 fa_X5_235_4 rfl (Or.inl rfl) dX5_newSession_80 ?_
    refine x_aload_n 83 0 dX5_newSession_83 rfl ?_
    refine x_iconst 84 0 (0 : Int32) dX5_newSession_84 rfl ?_
    refine x_iload_n 85 1 dX5_newSession_85 rfl ?_
    refine x_cV 86 0 [.int (0 : Int32), .int v1] [] ⟨by decide, rfl⟩ cv_X5_255 (im_X5_write hl i0 (0 : Int32) v1) (by decide) rfl (Nat.le_of_ble_eq_true rfl) dX5_newSession_86 fun v27 => x_stV ?_
    refine x_iload_n 89 1 dX5_newSession_89 rfl ?_
    exact x_iret 90 hZ rfl dX5_newSession_90
  · refine x_lp (Lf := fun u19 => [(0, .ref (idc 4 i0)), (3, .int v1), (4, .int u19)]) (sf := fun _ => []) (fun r20 hr20 u19 => ?_) (0 : Int32)
    show TX g Γ _ Z _ 49 [(0, .ref (idc 4 i0)), (3, .int v1), (4, .int u19)] [] _
    refine x_iload 49 2 dX5_newSession_49 rfl ?_
    refine x_iconst 51 3 (3 : Int32) dX5_newSession_51 rfl ?_
    refine x_icmp_ge 52 73 dX5_newSession_52 rfl (fun c22 => ?_) (fun c22 => ?_)
    · refine x_sub [0, 1] _ rfl ?_
      exact hj21 ()
    · refine x_aload_n 55 0 dX5_newSession_55 rfl ?_
      refine x_getR 56 fa_X5_107_4 dX5_newSession_56 fun v23 => ?_
      refine x_iconst 59 3 (3 : Int32) dX5_newSession_59 rfl ?_
      refine x_iload_n 60 1 dX5_newSession_60 rfl ?_
      refine x_imul 61 dX5_newSession_61 ?_
      refine x_iload 62 2 dX5_newSession_62 rfl ?_
      refine x_iadd 64 dX5_newSession_64 ?_
      refine x_iconst 65 (-1) (-1 : Int32) dX5_newSession_65 rfl ?_
      refine x_isK fun i24 h25 => ?_
      subst h25
      refine x_iast 66 dX5_newSession_66 ?_
      refine x_iinc 67 2 [(4, .int (u19 + (1 : Int32))), (0, .ref (idc 4 i0)), (3, .int v1)] dX5_newSession_67 rfl rfl (by decide) rfl ?_
      refine x_goto 70 49 dX5_newSession_70 rfl ?_
      refine x_sub [1, 2, 0] _ rfl ?_
      exact hr20 (u19 + (1 : Int32))
def f_X5_grant (i0 : Nat) (a1 : Int32) : PT Unit := gI 4 i0 30 fun v1 => cnd (v1 = (60 : Int32)) (gR 4 i0 25 fun v3 => isK 32 v3 fun i4 => bI 32 i4 a1 (2 : Int32) <| rt ()) (gR 4 i0 20 fun v6 => isK 32 v6 fun i7 => aI 32 i7 a1 fun v9 => gR 4 i0 25 fun v10 => isK 32 v10 fun i11 => bI 32 i11 a1 (1 : Int32) <| gR 4 i0 28 fun v13 => bn0 (f_X5_newSession i0 v9 (-1 : Int32)) fun v14 => isK 32 v13 fun i15 => bI 32 i15 a1 v14 <| bnd (lp (σ := Int32) (ρ := Unit) (fun r18 => fun u17 => cnd ((3 : Int32) ≤ u17) (rt ()) (gR 4 i0 36 fun v21 => gR 4 i0 28 fun v22 => isK 32 v22 fun i23 => aI 32 i23 a1 fun v25 => gR 4 i0 29 fun v26 => isK 32 v26 fun i27 => aI 32 i27 (((3 : Int32) * a1) + u17) fun v29 => isK 32 v21 fun i30 => bI 32 i30 (((3 : Int32) * v25) + u17) v29 <| r18 (u17 + (1 : Int32)))) (0 : Int32)) (fun _ => gR 4 i0 5 fun v32 => gR 4 i0 21 fun v33 => isK 32 v33 fun i34 => aI 32 i34 a1 fun v36 => isK 33 v32 fun i37 => bZ 33 i37 (((6 : Int32) * v9) + v36) (1 : Int32) <| gR 4 i0 6 fun v39 => gR 4 i0 22 fun v40 => isK 32 v40 fun i41 => aI 32 i41 a1 fun v43 => isK 33 v39 fun i44 => bZ 33 i44 (((6 : Int32) * v9) + v43) (1 : Int32) <| rt ()))
theorem im_X5_grant {g : GP} {l : Launch} (hl : l.stackTraces = false) (i0 : Nat) (a1 : Int32) : Im g l 2 yX5_grant cX5_grant 4 none eV [.ref (idc 4 i0), .int a1] (f_X5_grant i0 a1) := by
  refine tx_start hl 2 _ _ _ _ (by decide) (Nat.le_of_ble_eq_true rfl) fun Γ Z hΓ hZ => ?_
  subst hΓ
  unfold f_X5_grant
  show TX g Γ _ Z _ 0 [(0, .ref (idc 4 i0)), (1, .int a1)] [] _
  refine x_aload_n 0 0 dX5_grant_0 rfl ?_
  refine x_getI 1 fa_X5_235_4 dX5_grant_1 fun v1 => ?_
  refine x_bipush 4 60 (60 : Int32) dX5_grant_4 rfl ?_
  refine x_icmp_ne 6 17 dX5_grant_6 rfl (fun c2 => ?_) (fun c2 => ?_)
  · refine x_aload_n 9 0 dX5_grant_9 rfl ?_
    refine x_getR 10 fa_X5_77_4 dX5_grant_10 fun v3 => ?_
    refine x_iload_n 13 1 dX5_grant_13 rfl ?_
    refine x_iconst 14 2 (2 : Int32) dX5_grant_14 rfl ?_
    refine x_isK fun i4 h5 => ?_
    subst h5
    refine x_iast 15 dX5_grant_15 ?_
    exact x_vret 16 hZ rfl dX5_grant_16
  · refine x_aload_n 17 0 dX5_grant_17 rfl ?_
    refine x_getR 18 fa_X5_62_4 dX5_grant_18 fun v6 => ?_
    refine x_iload_n 21 1 dX5_grant_21 rfl ?_
    refine x_isK fun i7 h8 => ?_
    subst h8
    refine x_iald 22 dX5_grant_22 fun v9 => ?_
    refine x_istore_n 23 [(2, .int v9), (0, .ref (idc 4 i0)), (1, .int a1)] dX5_grant_23 (by decide) rfl ?_
    refine x_aload_n 24 1 dX5_grant_24 rfl ?_
    refine x_getR 25 fa_X5_77_4 dX5_grant_25 fun v10 => ?_
    refine x_iload_n 28 2 dX5_grant_28 rfl ?_
    refine x_iconst 29 1 (1 : Int32) dX5_grant_29 rfl ?_
    refine x_isK fun i11 h12 => ?_
    subst h12
    refine x_iast 30 dX5_grant_30 ?_
    refine x_aload_n 31 1 dX5_grant_31 rfl ?_
    refine x_getR 32 fa_X5_86_4 dX5_grant_32 fun v13 => ?_
    refine x_iload_n 35 2 dX5_grant_35 rfl ?_
    refine x_aload_n 36 1 dX5_grant_36 rfl ?_
    refine x_iload_n 37 0 dX5_grant_37 rfl ?_
    refine x_iconst 38 (-1) (-1 : Int32) dX5_grant_38 rfl ?_
    refine x_cV 39 1 [.int v9, .int (-1 : Int32)] [.int a1, .ref v13] ⟨by decide, rfl⟩ cv_X5_328 (im_X5_newSession hl i0 v9 (-1 : Int32)) (by decide) rfl (Nat.le_of_ble_eq_true rfl) dX5_grant_39 fun v14 => x_stI ?_
    refine x_isK fun i15 h16 => ?_
    subst h16
    refine x_iast 42 dX5_grant_42 ?_
    refine x_iconst 43 0 (0 : Int32) dX5_grant_43 rfl ?_
    refine x_istore_n 44 [(3, .int (0 : Int32)), (2, .int v9), (0, .ref (idc 4 i0)), (1, .int a1)] dX5_grant_44 (by decide) rfl ?_
    refine x_sub [2, 3, 1, 0] [(0, .ref (idc 4 i0)), (1, .int a1), (2, .int v9), (3, .int (0 : Int32))] rfl ?_
    refine x_bndj 81 (fun _ => [(0, .ref (idc 4 i0)), (1, .int a1), (2, .int v9)]) (fun _ => []) (fun _ => ?_) (fun hj19 => ?_)
    · show TX g Γ _ Z _ 81 [(0, .ref (idc 4 i0)), (1, .int a1), (2, .int v9)] [] _
      refine x_aload_n 81 0 dX5_grant_81 rfl ?_
      refine x_getR 82 fa_X5_22_4 dX5_grant_82 fun v32 => ?_
      refine x_bipush 85 6 (6 : Int32) dX5_grant_85 rfl ?_
      refine x_iload_n 87 2 dX5_grant_87 rfl ?_
      refine x_imul 88 dX5_grant_88 ?_
      refine x_aload_n 89 0 dX5_grant_89 rfl ?_
      refine x_getR 90 fa_X5_65_4 dX5_grant_90 fun v33 => ?_
      refine x_iload_n 93 1 dX5_grant_93 rfl ?_
      refine x_isK fun i34 h35 => ?_
      subst h35
      refine x_iald 94 dX5_grant_94 fun v36 => ?_
      refine x_iadd 95 dX5_grant_95 ?_
      refine x_iconst 96 1 (1 : Int32) dX5_grant_96 rfl ?_
      refine x_isK fun i37 h38 => ?_
      subst h38
      refine x_zast 97 dX5_grant_97 ?_
      refine x_aload_n 98 0 dX5_grant_98 rfl ?_
      refine x_getR 99 fa_X5_26_4 dX5_grant_99 fun v39 => ?_
      refine x_bipush 102 6 (6 : Int32) dX5_grant_102 rfl ?_
      refine x_iload_n 104 2 dX5_grant_104 rfl ?_
      refine x_imul 105 dX5_grant_105 ?_
      refine x_aload_n 106 0 dX5_grant_106 rfl ?_
      refine x_getR 107 fa_X5_68_4 dX5_grant_107 fun v40 => ?_
      refine x_iload_n 110 1 dX5_grant_110 rfl ?_
      refine x_isK fun i41 h42 => ?_
      subst h42
      refine x_iald 111 dX5_grant_111 fun v43 => ?_
      refine x_iadd 112 dX5_grant_112 ?_
      refine x_iconst 113 1 (1 : Int32) dX5_grant_113 rfl ?_
      refine x_isK fun i44 h45 => ?_
      subst h45
      refine x_zast 114 dX5_grant_114 ?_
      exact x_vret 115 hZ rfl dX5_grant_115
    · refine x_lp (Lf := fun u17 => [(0, .ref (idc 4 i0)), (1, .int a1), (2, .int v9), (3, .int u17)]) (sf := fun _ => []) (fun r18 hr18 u17 => ?_) (0 : Int32)
      show TX g Γ _ Z _ 45 [(0, .ref (idc 4 i0)), (1, .int a1), (2, .int v9), (3, .int u17)] [] _
      refine x_iload_n 45 3 dX5_grant_45 rfl ?_
      refine x_iconst 46 3 (3 : Int32) dX5_grant_46 rfl ?_
      refine x_icmp_ge 47 81 dX5_grant_47 rfl (fun c20 => ?_) (fun c20 => ?_)
      · refine x_sub [0, 1, 2] _ rfl ?_
        exact hj19 ()
      · refine x_aload_n 50 0 dX5_grant_50 rfl ?_
        refine x_getR 51 fa_X5_107_4 dX5_grant_51 fun v21 => ?_
        refine x_iconst 54 3 (3 : Int32) dX5_grant_54 rfl ?_
        refine x_aload_n 55 0 dX5_grant_55 rfl ?_
        refine x_getR 56 fa_X5_86_4 dX5_grant_56 fun v22 => ?_
        refine x_iload_n 59 1 dX5_grant_59 rfl ?_
        refine x_isK fun i23 h24 => ?_
        subst h24
        refine x_iald 60 dX5_grant_60 fun v25 => ?_
        refine x_imul 61 dX5_grant_61 ?_
        refine x_iload_n 62 3 dX5_grant_62 rfl ?_
        refine x_iadd 63 dX5_grant_63 ?_
        refine x_aload_n 64 0 dX5_grant_64 rfl ?_
        refine x_getR 65 fa_X5_89_4 dX5_grant_65 fun v26 => ?_
        refine x_iconst 68 3 (3 : Int32) dX5_grant_68 rfl ?_
        refine x_iload_n 69 1 dX5_grant_69 rfl ?_
        refine x_imul 70 dX5_grant_70 ?_
        refine x_iload_n 71 3 dX5_grant_71 rfl ?_
        refine x_iadd 72 dX5_grant_72 ?_
        refine x_isK fun i27 h28 => ?_
        subst h28
        refine x_iald 73 dX5_grant_73 fun v29 => ?_
        refine x_isK fun i30 h31 => ?_
        subst h31
        refine x_iast 74 dX5_grant_74 ?_
        refine x_iinc 75 3 [(3, .int (u17 + (1 : Int32))), (0, .ref (idc 4 i0)), (1, .int a1), (2, .int v9)] dX5_grant_75 rfl rfl (by decide) rfl ?_
        refine x_goto 78 45 dX5_grant_78 rfl ?_
        refine x_sub [1, 2, 3, 0] _ rfl ?_
        exact hr18 (u17 + (1 : Int32))
def f_X5_go (i0 : Nat) (a1 : Int32) (a2 : Int32) : PT Unit := gR 4 i0 23 fun v1 => isK 32 v1 fun i2 => aI 32 i2 a1 fun v4 => bnd (lp (σ := Int32 × Int32) (ρ := Int32 × Int32) (fun r7 => un2 fun u5 u6 => cnd (u5 = (-1 : Int32)) (rt (u5, u6)) (gR 4 i0 11 fun v12 => isK 32 v12 fun i13 => aI 32 i13 u6 fun v15 => bn0 (f_X5_isTest v15) fun v16 => cnd (v16 = 0) (rt (u5, u6)) (bn0 (f_X5_holds i0 a1 u6) fun v18 => bnd (ρ := _) (α := Int32) (cnd (v18 = 0) (gR 4 i0 15 fun v26 => isK 32 v26 fun i27 => aI 32 i27 u6 fun v29 => rt v29) (gR 4 i0 14 fun v30 => isK 32 v30 fun i31 => aI 32 i31 u6 fun v33 => rt v33)) (fun u19 => gR 4 i0 23 fun v20 => isK 32 v20 fun i21 => aI 32 i21 a1 fun v23 => r7 (u19, ((12 : Int32) * v23) + u19))))) (a2, ((12 : Int32) * v4) + a2)) (un2 fun u8 u9 => gR 4 i0 24 fun v34 => isK 32 v34 fun i35 => bI 32 i35 a1 u8 <| gR 4 i0 26 fun v37 => isK 32 v37 fun i38 => bI 32 i38 a1 (0 : Int32) <| jo (σ := Unit) (fun _ => gR 4 i0 25 fun v40 => isK 32 v40 fun i41 => bI 32 i41 a1 (2 : Int32) <| rt ()) fun j44 => cnd (u8 = (-1 : Int32)) (j44 ()) (gR 4 i0 11 fun v46 => isK 32 v46 fun i47 => aI 32 i47 u9 fun v49 => cnd (v49 = (6 : Int32)) (j44 ()) (gR 4 i0 11 fun v51 => isK 32 v51 fun i52 => aI 32 i52 u9 fun v54 => cnd (v54 = (5 : Int32)) (bn0 (f_X5_grant i0 a1) fun _ => rt ()) (rt ()))))
theorem im_X5_go {g : GP} {l : Launch} (hl : l.stackTraces = false) (i0 : Nat) (a1 : Int32) (a2 : Int32) : Im g l 3 yX5_go cX5_go 5 none eV [.ref (idc 4 i0), .int a1, .int a2] (f_X5_go i0 a1 a2) := by
  refine tx_start hl 3 _ _ _ _ (by decide) (Nat.le_of_ble_eq_true rfl) fun Γ Z hΓ hZ => ?_
  subst hΓ
  unfold f_X5_go
  show TX g Γ _ Z _ 0 [(0, .ref (idc 4 i0)), (1, .int a1), (2, .int a2)] [] _
  refine x_iload_n 0 2 dX5_go_0 rfl ?_
  refine x_istore_n 1 [(3, .int a2), (0, .ref (idc 4 i0)), (1, .int a1), (2, .int a2)] dX5_go_1 (by decide) rfl ?_
  refine x_bipush 2 12 (12 : Int32) dX5_go_2 rfl ?_
  refine x_aload_n 4 1 dX5_go_4 rfl ?_
  refine x_getR 5 fa_X5_71_4 dX5_go_5 fun v1 => ?_
  refine x_iload_n 8 2 dX5_go_8 rfl ?_
  refine x_isK fun i2 h3 => ?_
  subst h3
  refine x_iald 9 dX5_go_9 fun v4 => ?_
  refine x_imul 10 dX5_go_10 ?_
  refine x_iload_n 11 0 dX5_go_11 rfl ?_
  refine x_iadd 12 dX5_go_12 ?_
  refine x_istore 13 [(4, .int (((12 : Int32) * v4) + a2)), (3, .int a2), (0, .ref (idc 4 i0)), (1, .int a1), (2, .int a2)] dX5_go_13 (by decide) rfl ?_
  refine x_sub [2, 3, 1, 0] [(0, .ref (idc 4 i0)), (1, .int a1), (3, .int a2), (4, .int (((12 : Int32) * v4) + a2))] rfl ?_
  refine x_bndj 77 (fun u => [(0, .ref (idc 4 i0)), (1, .int a1), (3, .int u.1), (4, .int u.2)]) (fun u => []) (fun u => ?_) (fun hj10 => ?_)
  · obtain ⟨u8, u9⟩ := u
    show TX g Γ _ Z _ 77 [(0, .ref (idc 4 i0)), (1, .int a1), (3, .int u8), (4, .int u9)] [] _
    refine x_un2 ?_
    refine x_aload_n 77 0 dX5_go_77 rfl ?_
    refine x_getR 78 fa_X5_74_4 dX5_go_78 fun v34 => ?_
    refine x_iload_n 81 1 dX5_go_81 rfl ?_
    refine x_iload_n 82 2 dX5_go_82 rfl ?_
    refine x_isK fun i35 h36 => ?_
    subst h36
    refine x_iast 83 dX5_go_83 ?_
    refine x_aload_n 84 0 dX5_go_84 rfl ?_
    refine x_getR 85 fa_X5_80_4 dX5_go_85 fun v37 => ?_
    refine x_iload_n 88 1 dX5_go_88 rfl ?_
    refine x_iconst 89 0 (0 : Int32) dX5_go_89 rfl ?_
    refine x_isK fun i38 h39 => ?_
    subst h39
    refine x_iast 90 dX5_go_90 ?_
    refine x_iload_n 91 2 dX5_go_91 rfl ?_
    refine x_iconst 92 (-1) (-1 : Int32) dX5_go_92 rfl ?_
    refine x_jo 108 (Lf := fun _ => [(0, .ref (idc 4 i0)), (1, .int a1)]) (sf := fun _ => []) (fun _ => ?_) (fun j44 hj43 => ?_)
    · show TX g Γ _ Z _ 108 [(0, .ref (idc 4 i0)), (1, .int a1)] [] _
      refine x_aload_n 108 0 dX5_go_108 rfl ?_
      refine x_getR 109 fa_X5_77_4 dX5_go_109 fun v40 => ?_
      refine x_iload_n 112 1 dX5_go_112 rfl ?_
      refine x_iconst 113 2 (2 : Int32) dX5_go_113 rfl ?_
      refine x_isK fun i41 h42 => ?_
      subst h42
      refine x_iast 114 dX5_go_114 ?_
      refine x_goto 115 134 dX5_go_115 rfl ?_
      exact x_vret 134 hZ rfl dX5_go_134
    · refine x_icmp_eq 93 108 dX5_go_93 rfl (fun c45 => ?_) (fun c45 => ?_)
      · refine x_sub [0, 1] _ rfl ?_
        exact hj43 ()
      · refine x_aload_n 96 0 dX5_go_96 rfl ?_
        refine x_getR 97 fa_X5_38_4 dX5_go_97 fun v46 => ?_
        refine x_iload 100 3 dX5_go_100 rfl ?_
        refine x_isK fun i47 h48 => ?_
        subst h48
        refine x_iald 102 dX5_go_102 fun v49 => ?_
        refine x_bipush 103 6 (6 : Int32) dX5_go_103 rfl ?_
        refine x_icmp_ne 105 118 dX5_go_105 rfl (fun c50 => ?_) (fun c50 => ?_)
        · refine x_sub [0, 1] _ rfl ?_
          exact hj43 ()
        · refine x_aload_n 118 0 dX5_go_118 rfl ?_
          refine x_getR 119 fa_X5_38_4 dX5_go_119 fun v51 => ?_
          refine x_iload 122 3 dX5_go_122 rfl ?_
          refine x_isK fun i52 h53 => ?_
          subst h53
          refine x_iald 124 dX5_go_124 fun v54 => ?_
          refine x_iconst 125 5 (5 : Int32) dX5_go_125 rfl ?_
          refine x_icmp_ne 126 134 dX5_go_126 rfl (fun c55 => ?_) (fun c55 => ?_)
          · refine x_aload_n 129 0 dX5_go_129 rfl ?_
            refine x_iload_n 130 1 dX5_go_130 rfl ?_
            refine x_cV 131 2 [.int a1] [] ⟨by decide, rfl⟩ cv_X5_335 (im_X5_grant hl i0 a1) (by decide) rfl (Nat.le_of_ble_eq_true rfl) dX5_go_131 fun v56 => x_stV ?_
            exact x_vret 134 hZ rfl dX5_go_134
          · exact x_vret 134 hZ rfl dX5_go_134
  · refine x_lp (Lf := fun u => [(0, .ref (idc 4 i0)), (1, .int a1), (3, .int u.1), (4, .int u.2)]) (sf := fun _ => []) (fun r7 hr7 u => ?_) (a2, ((12 : Int32) * v4) + a2)
    obtain ⟨u5, u6⟩ := u
    show TX g Γ _ Z _ 15 [(0, .ref (idc 4 i0)), (1, .int a1), (3, .int u5), (4, .int u6)] [] _
    refine x_un2 ?_
    refine x_iload_n 15 2 dX5_go_15 rfl ?_
    refine x_iconst 16 (-1) (-1 : Int32) dX5_go_16 rfl ?_
    refine x_icmp_eq 17 77 dX5_go_17 rfl (fun c11 => ?_) (fun c11 => ?_)
    · exact hj10 (u5, u6)
    · refine x_aload_n 20 0 dX5_go_20 rfl ?_
      refine x_getR 21 fa_X5_38_4 dX5_go_21 fun v12 => ?_
      refine x_iload 24 3 dX5_go_24 rfl ?_
      refine x_isK fun i13 h14 => ?_
      subst h14
      refine x_iald 26 dX5_go_26 fun v15 => ?_
      refine x_cS 27 0 [.int v15] [] cs_X5_300 (im_X5_isTest hl v15) (by decide) rfl (Nat.le_of_ble_eq_true rfl) dX5_go_27 fun v16 => x_stI ?_
      refine x_if_eq 30 77 dX5_go_30 rfl (fun c17 => ?_) (fun c17 => ?_)
      · exact hj10 (u5, u6)
      · refine x_aload_n 33 0 dX5_go_33 rfl ?_
        refine x_iload_n 34 1 dX5_go_34 rfl ?_
        refine x_iload 35 3 dX5_go_35 rfl ?_
        refine x_cV 37 2 [.int a1, .int u6] [] ⟨by decide, rfl⟩ cv_X5_332 (im_X5_holds hl i0 a1 u6) (by decide) rfl (Nat.le_of_ble_eq_true rfl) dX5_go_37 fun v18 => x_stI ?_
        refine x_bndj 60 (fun u19 => [(0, .ref (idc 4 i0)), (1, .int a1)]) (fun u19 => [.int u19]) (fun u19 => ?_) (fun hj24 => ?_)
        · show TX g Γ _ Z _ 60 [(0, .ref (idc 4 i0)), (1, .int a1)] [.int u19] _
          refine x_istore_n 60 [(3, .int u19), (0, .ref (idc 4 i0)), (1, .int a1)] dX5_go_60 (by decide) rfl ?_
          refine x_bipush 61 12 (12 : Int32) dX5_go_61 rfl ?_
          refine x_aload_n 63 1 dX5_go_63 rfl ?_
          refine x_getR 64 fa_X5_71_4 dX5_go_64 fun v20 => ?_
          refine x_iload_n 67 2 dX5_go_67 rfl ?_
          refine x_isK fun i21 h22 => ?_
          subst h22
          refine x_iald 68 dX5_go_68 fun v23 => ?_
          refine x_imul 69 dX5_go_69 ?_
          refine x_iload_n 70 0 dX5_go_70 rfl ?_
          refine x_iadd 71 dX5_go_71 ?_
          refine x_istore 72 [(4, .int (((12 : Int32) * v23) + u19)), (3, .int u19), (0, .ref (idc 4 i0)), (1, .int a1)] dX5_go_72 (by decide) rfl ?_
          refine x_goto 74 15 dX5_go_74 rfl ?_
          refine x_sub [2, 3, 1, 0] _ rfl ?_
          exact hr7 (u19, ((12 : Int32) * v23) + u19)
        · refine x_if_eq 40 53 dX5_go_40 rfl (fun c25 => ?_) (fun c25 => ?_)
          · refine x_aload_n 53 0 dX5_go_53 rfl ?_
            refine x_getR 54 fa_X5_50_4 dX5_go_54 fun v26 => ?_
            refine x_iload 57 3 dX5_go_57 rfl ?_
            refine x_isK fun i27 h28 => ?_
            subst h28
            refine x_iald 59 dX5_go_59 fun v29 => ?_
            refine x_sub [0, 1] _ rfl ?_
            exact hj24 v29
          · refine x_aload_n 43 0 dX5_go_43 rfl ?_
            refine x_getR 44 fa_X5_47_4 dX5_go_44 fun v30 => ?_
            refine x_iload 47 3 dX5_go_47 rfl ?_
            refine x_isK fun i31 h32 => ?_
            subst h32
            refine x_iald 49 dX5_go_49 fun v33 => ?_
            refine x_goto 50 60 dX5_go_50 rfl ?_
            refine x_sub [0, 1] _ rfl ?_
            exact hj24 v33
def f_X5_begin (i0 : Nat) (a1 : Int32) (a2 : Int32) (a3 : Int32) : PT Int32 := bn0 (f_X5_isSix a1) fun v1 => bnd (ρ := _) (α := Int32) (jo (σ := Unit) (fun _ => rt (0 : Int32)) fun j50 => cnd (v1 = 0) (j50 ()) (bn0 (f_X5_isSix a2) fun v52 => cnd (v52 = 0) (j50 ()) (bn0 (f_X5_isSix a3) fun v54 => cnd (v54 = 0) (j50 ()) (rt (1 : Int32))))) (fun u2 => bnd (ρ := _) (α := Int32) (jo (σ := Unit) (fun _ => rt (0 : Int32)) fun j37 => cnd (u2 = 0) (j37 ()) (gI 4 i0 9 fun v39 => cnd (v39 ≤ 0) (j37 ()) (gR 4 i0 7 fun v41 => isK 33 v41 fun i42 => aI 33 i42 a1 fun v44 => cnd (v44 = 0) (gI 4 i0 19 fun v46 => cnd ((60 : Int32) ≤ v46) (j37 ()) (rt (1 : Int32))) (j37 ())))) (fun u3 => bn0 (f_X5_mayBoth i0 u2 u3) fun v4 => cnd (v4 = 0) (rt (0 : Int32)) (gI 4 i0 19 fun v6 => gR 4 i0 20 fun v7 => isK 32 v7 fun i8 => bI 32 i8 v6 a1 <| gR 4 i0 21 fun v10 => isK 32 v10 fun i11 => bI 32 i11 v6 a2 <| gR 4 i0 22 fun v13 => isK 32 v13 fun i14 => bI 32 i14 v6 a3 <| gR 4 i0 23 fun v16 => gI 4 i0 9 fun v17 => isK 32 v16 fun i18 => bI 32 i18 v6 (v17 - (1 : Int32)) <| gR 4 i0 25 fun v20 => isK 32 v20 fun i21 => bI 32 i21 v6 (0 : Int32) <| gR 4 i0 28 fun v23 => isK 32 v23 fun i24 => bI 32 i24 v6 (-1 : Int32) <| bnd (lp (σ := Int32) (ρ := Unit) (fun r27 => fun u26 => cnd ((3 : Int32) ≤ u26) (rt ()) (gR 4 i0 29 fun v30 => isK 32 v30 fun i31 => bI 32 i31 (((3 : Int32) * v6) + u26) (-1 : Int32) <| r27 (u26 + (1 : Int32)))) (0 : Int32)) (fun _ => gI 4 i0 19 fun v33 => pI 4 i0 19 (v33 + (1 : Int32)) <| bn0 (f_X5_go i0 v6 (0 : Int32)) fun _ => rt v6))))
theorem im_X5_begin {g : GP} {l : Launch} (hl : l.stackTraces = false) (i0 : Nat) (a1 : Int32) (a2 : Int32) (a3 : Int32) : Im g l 4 yX5_begin cX5_begin 7 (some .int) eI [.ref (idc 4 i0), .int a1, .int a2, .int a3] (f_X5_begin i0 a1 a2 a3) := by
  refine tx_start hl 4 _ _ _ _ (by decide) (Nat.le_of_ble_eq_true rfl) fun Γ Z hΓ hZ => ?_
  subst hΓ
  unfold f_X5_begin
  show TX g Γ _ Z _ 0 [(0, .ref (idc 4 i0)), (1, .int a1), (2, .int a2), (3, .int a3)] [] _
  refine x_iload_n 0 1 dX5_begin_0 rfl ?_
  refine x_cS 1 1 [.int a1] [] cs_X5_284 (im_X5_isSix hl a1) (by decide) rfl (Nat.le_of_ble_eq_true rfl) dX5_begin_1 fun v1 => x_stI ?_
  refine x_bndj 26 (fun u2 => [(0, .ref (idc 4 i0)), (1, .int a1), (2, .int a2), (3, .int a3)]) (fun u2 => [.int u2]) (fun u2 => ?_) (fun hj48 => ?_)
  · show TX g Γ _ Z _ 26 [(0, .ref (idc 4 i0)), (1, .int a1), (2, .int a2), (3, .int a3)] [.int u2] _
    refine x_istore 26 [(4, .int u2), (0, .ref (idc 4 i0)), (1, .int a1), (2, .int a2), (3, .int a3)] dX5_begin_26 (by decide) rfl ?_
    refine x_aload_n 28 1 dX5_begin_28 rfl ?_
    refine x_iload 29 0 dX5_begin_29 rfl ?_
    refine x_iload 31 0 dX5_begin_31 rfl ?_
    refine x_bndj 66 (fun u3 => [(0, .ref (idc 4 i0)), (1, .int a1), (2, .int a2), (3, .int a3)]) (fun u3 => [.int u3, .int u2, .ref (idc 4 i0)]) (fun u3 => ?_) (fun hj35 => ?_)
    · show TX g Γ _ Z _ 66 [(0, .ref (idc 4 i0)), (1, .int a1), (2, .int a2), (3, .int a3)] [.int u3, .int u2, .ref (idc 4 i0)] _
      refine x_cV 66 0 [.int u2, .int u3] [] ⟨by decide, rfl⟩ cv_X5_274 (im_X5_mayBoth hl i0 u2 u3) (by decide) rfl (Nat.le_of_ble_eq_true rfl) dX5_begin_66 fun v4 => x_stI ?_
      refine x_if_ne 69 74 dX5_begin_69 rfl (fun c5 => ?_) (fun c5 => ?_)
      · refine x_iconst 72 0 (0 : Int32) dX5_begin_72 rfl ?_
        exact x_iret 73 hZ rfl dX5_begin_73
      · refine x_aload_n 74 0 dX5_begin_74 rfl ?_
        refine x_getI 75 fa_X5_232_4 dX5_begin_75 fun v6 => ?_
        refine x_istore 78 [(5, .int v6), (0, .ref (idc 4 i0)), (1, .int a1), (2, .int a2), (3, .int a3)] dX5_begin_78 (by decide) rfl ?_
        refine x_aload_n 80 1 dX5_begin_80 rfl ?_
        refine x_getR 81 fa_X5_62_4 dX5_begin_81 fun v7 => ?_
        refine x_iload 84 0 dX5_begin_84 rfl ?_
        refine x_iload_n 86 2 dX5_begin_86 rfl ?_
        refine x_isK fun i8 h9 => ?_
        subst h9
        refine x_iast 87 dX5_begin_87 ?_
        refine x_aload_n 88 1 dX5_begin_88 rfl ?_
        refine x_getR 89 fa_X5_65_4 dX5_begin_89 fun v10 => ?_
        refine x_iload 92 0 dX5_begin_92 rfl ?_
        refine x_iload_n 94 3 dX5_begin_94 rfl ?_
        refine x_isK fun i11 h12 => ?_
        subst h12
        refine x_iast 95 dX5_begin_95 ?_
        refine x_aload_n 96 1 dX5_begin_96 rfl ?_
        refine x_getR 97 fa_X5_68_4 dX5_begin_97 fun v13 => ?_
        refine x_iload 100 0 dX5_begin_100 rfl ?_
        refine x_iload_n 102 4 dX5_begin_102 rfl ?_
        refine x_isK fun i14 h15 => ?_
        subst h15
        refine x_iast 103 dX5_begin_103 ?_
        refine x_aload_n 104 1 dX5_begin_104 rfl ?_
        refine x_getR 105 fa_X5_71_4 dX5_begin_105 fun v16 => ?_
        refine x_iload 108 0 dX5_begin_108 rfl ?_
        refine x_aload_n 110 1 dX5_begin_110 rfl ?_
        refine x_getI 111 fa_X5_303_4 dX5_begin_111 fun v17 => ?_
        refine x_iconst 114 1 (1 : Int32) dX5_begin_114 rfl ?_
        refine x_isub 115 dX5_begin_115 ?_
        refine x_isK fun i18 h19 => ?_
        subst h19
        refine x_iast 116 dX5_begin_116 ?_
        refine x_aload_n 117 1 dX5_begin_117 rfl ?_
        refine x_getR 118 fa_X5_77_4 dX5_begin_118 fun v20 => ?_
        refine x_iload 121 0 dX5_begin_121 rfl ?_
        refine x_iconst 123 0 (0 : Int32) dX5_begin_123 rfl ?_
        refine x_isK fun i21 h22 => ?_
        subst h22
        refine x_iast 124 dX5_begin_124 ?_
        refine x_aload_n 125 1 dX5_begin_125 rfl ?_
        refine x_getR 126 fa_X5_86_4 dX5_begin_126 fun v23 => ?_
        refine x_iload 129 0 dX5_begin_129 rfl ?_
        refine x_iconst 131 (-1) (-1 : Int32) dX5_begin_131 rfl ?_
        refine x_isK fun i24 h25 => ?_
        subst h25
        refine x_iast 132 dX5_begin_132 ?_
        refine x_iconst 133 0 (0 : Int32) dX5_begin_133 rfl ?_
        refine x_istore 134 [(6, .int (0 : Int32)), (5, .int v6), (0, .ref (idc 4 i0)), (1, .int a1), (2, .int a2), (3, .int a3)] dX5_begin_134 (by decide) rfl ?_
        refine x_sub [2, 1, 0] [(0, .ref (idc 4 i0)), (5, .int v6), (6, .int (0 : Int32))] rfl ?_
        refine x_bndj 161 (fun _ => [(0, .ref (idc 4 i0)), (5, .int v6)]) (fun _ => []) (fun _ => ?_) (fun hj28 => ?_)
        · show TX g Γ _ Z _ 161 [(0, .ref (idc 4 i0)), (5, .int v6)] [] _
          refine x_aload_n 161 0 dX5_begin_161 rfl ?_
          refine x_dup 162 dX5_begin_162 rfl ?_
          refine x_getI 163 fa_X5_232_4 dX5_begin_163 fun v33 => ?_
          refine x_iconst 166 1 (1 : Int32) dX5_begin_166 rfl ?_
          refine x_iadd 167 dX5_begin_167 ?_
          refine x_putI 168 fa_X5_232_4 rfl (Or.inl rfl) dX5_begin_168 ?_
          refine x_aload_n 171 0 dX5_begin_171 rfl ?_
          refine x_iload 172 1 dX5_begin_172 rfl ?_
          refine x_iconst 174 0 (0 : Int32) dX5_begin_174 rfl ?_
          refine x_cV 175 3 [.int v6, .int (0 : Int32)] [] ⟨by decide, rfl⟩ cv_X5_338 (im_X5_go hl i0 v6 (0 : Int32)) (by decide) rfl (Nat.le_of_ble_eq_true rfl) dX5_begin_175 fun v34 => x_stV ?_
          refine x_iload 178 1 dX5_begin_178 rfl ?_
          exact x_iret 180 hZ rfl dX5_begin_180
        · refine x_lp (Lf := fun u26 => [(0, .ref (idc 4 i0)), (5, .int v6), (6, .int u26)]) (sf := fun _ => []) (fun r27 hr27 u26 => ?_) (0 : Int32)
          show TX g Γ _ Z _ 136 [(0, .ref (idc 4 i0)), (5, .int v6), (6, .int u26)] [] _
          refine x_iload 136 2 dX5_begin_136 rfl ?_
          refine x_iconst 138 3 (3 : Int32) dX5_begin_138 rfl ?_
          refine x_icmp_ge 139 161 dX5_begin_139 rfl (fun c29 => ?_) (fun c29 => ?_)
          · refine x_sub [0, 1] _ rfl ?_
            exact hj28 ()
          · refine x_aload_n 142 0 dX5_begin_142 rfl ?_
            refine x_getR 143 fa_X5_89_4 dX5_begin_143 fun v30 => ?_
            refine x_iconst 146 3 (3 : Int32) dX5_begin_146 rfl ?_
            refine x_iload 147 1 dX5_begin_147 rfl ?_
            refine x_imul 149 dX5_begin_149 ?_
            refine x_iload 150 2 dX5_begin_150 rfl ?_
            refine x_iadd 152 dX5_begin_152 ?_
            refine x_iconst 153 (-1) (-1 : Int32) dX5_begin_153 rfl ?_
            refine x_isK fun i31 h32 => ?_
            subst h32
            refine x_iast 154 dX5_begin_154 ?_
            refine x_iinc 155 2 [(6, .int (u26 + (1 : Int32))), (0, .ref (idc 4 i0)), (5, .int v6)] dX5_begin_155 rfl rfl (by decide) rfl ?_
            refine x_goto 158 136 dX5_begin_158 rfl ?_
            refine x_sub [1, 2, 0] _ rfl ?_
            exact hr27 (u26 + (1 : Int32))
    · refine x_jo 65 (Lf := fun _ => [(0, .ref (idc 4 i0)), (1, .int a1), (2, .int a2), (3, .int a3)]) (sf := fun _ => [.int u2, .ref (idc 4 i0)]) (fun _ => ?_) (fun j37 hj36 => ?_)
      · show TX g Γ _ Z _ 65 [(0, .ref (idc 4 i0)), (1, .int a1), (2, .int a2), (3, .int a3)] [.int u2, .ref (idc 4 i0)] _
        refine x_iconst 65 0 (0 : Int32) dX5_begin_65 rfl ?_
        exact hj35 (0 : Int32)
      · refine x_if_eq 33 65 dX5_begin_33 rfl (fun c38 => ?_) (fun c38 => ?_)
        · refine x_sub [1, 2, 3, 4] _ rfl ?_
          exact hj36 ()
        · refine x_aload_n 36 1 dX5_begin_36 rfl ?_
          refine x_getI 37 fa_X5_303_4 dX5_begin_37 fun v39 => ?_
          refine x_if_le 40 65 dX5_begin_40 rfl (fun c40 => ?_) (fun c40 => ?_)
          · refine x_sub [1, 2, 3, 4] _ rfl ?_
            exact hj36 ()
          · refine x_aload_n 43 1 dX5_begin_43 rfl ?_
            refine x_getR 44 fa_X5_29_4 dX5_begin_44 fun v41 => ?_
            refine x_iload_n 47 2 dX5_begin_47 rfl ?_
            refine x_isK fun i42 h43 => ?_
            subst h43
            refine x_zald 48 dX5_begin_48 fun v44 => ?_
            refine x_if_ne 49 65 dX5_begin_49 rfl (fun c45 => ?_) (fun c45 => ?_)
            · refine x_aload_n 52 1 dX5_begin_52 rfl ?_
              refine x_getI 53 fa_X5_232_4 dX5_begin_53 fun v46 => ?_
              refine x_bipush 56 60 (60 : Int32) dX5_begin_56 rfl ?_
              refine x_icmp_ge 58 65 dX5_begin_58 rfl (fun c47 => ?_) (fun c47 => ?_)
              · refine x_sub [1, 2, 3, 4] _ rfl ?_
                exact hj36 ()
              · refine x_iconst 61 1 (1 : Int32) dX5_begin_61 rfl ?_
                refine x_goto 62 66 dX5_begin_62 rfl ?_
                refine x_sub [1, 2, 3, 4] _ rfl ?_
                exact hj35 (1 : Int32)
            · refine x_sub [1, 2, 3, 4] _ rfl ?_
              exact hj36 ()
  · refine x_jo 25 (Lf := fun _ => [(0, .ref (idc 4 i0)), (1, .int a1), (2, .int a2), (3, .int a3)]) (sf := fun _ => []) (fun _ => ?_) (fun j50 hj49 => ?_)
    · show TX g Γ _ Z _ 25 [(0, .ref (idc 4 i0)), (1, .int a1), (2, .int a2), (3, .int a3)] [] _
      refine x_iconst 25 0 (0 : Int32) dX5_begin_25 rfl ?_
      exact hj48 (0 : Int32)
    · refine x_if_eq 4 25 dX5_begin_4 rfl (fun c51 => ?_) (fun c51 => ?_)
      · exact hj49 ()
      · refine x_iload_n 7 2 dX5_begin_7 rfl ?_
        refine x_cS 8 1 [.int a2] [] cs_X5_284 (im_X5_isSix hl a2) (by decide) rfl (Nat.le_of_ble_eq_true rfl) dX5_begin_8 fun v52 => x_stI ?_
        refine x_if_eq 11 25 dX5_begin_11 rfl (fun c53 => ?_) (fun c53 => ?_)
        · exact hj49 ()
        · refine x_iload_n 14 3 dX5_begin_14 rfl ?_
          refine x_cS 15 1 [.int a3] [] cs_X5_284 (im_X5_isSix hl a3) (by decide) rfl (Nat.le_of_ble_eq_true rfl) dX5_begin_15 fun v54 => x_stI ?_
          refine x_if_eq 18 25 dX5_begin_18 rfl (fun c55 => ?_) (fun c55 => ?_)
          · exact hj49 ()
          · refine x_iconst 21 1 (1 : Int32) dX5_begin_21 rfl ?_
            refine x_goto 22 26 dX5_begin_22 rfl ?_
            exact hj48 (1 : Int32)
def f_X5_isAttempt (i0 : Nat) (a1 : Int32) : PT Int32 := gI 4 i0 19 fun v1 => bn0 (f_X5_isIn a1 (0 : Int32) (v1 - (1 : Int32))) fun v2 => asr (v2 = 0 ∨ v2 = 1) (rt v2)
theorem im_X5_isAttempt {g : GP} {l : Launch} (hl : l.stackTraces = false) (i0 : Nat) (a1 : Int32) : Im g l 1 yX5_isAttempt cX5_isAttempt 2 (some .boolean) eI [.ref (idc 4 i0), .int a1] (f_X5_isAttempt i0 a1) := by
  refine tx_start hl 1 _ _ _ _ (by decide) (Nat.le_of_ble_eq_true rfl) fun Γ Z hΓ hZ => ?_
  subst hΓ
  unfold f_X5_isAttempt
  show TX g Γ _ Z _ 0 [(0, .ref (idc 4 i0)), (1, .int a1)] [] _
  refine x_iload_n 0 1 dX5_isAttempt_0 rfl ?_
  refine x_iconst 1 0 (0 : Int32) dX5_isAttempt_1 rfl ?_
  refine x_aload_n 2 0 dX5_isAttempt_2 rfl ?_
  refine x_getI 3 fa_X5_232_4 dX5_isAttempt_3 fun v1 => ?_
  refine x_iconst 6 1 (1 : Int32) dX5_isAttempt_6 rfl ?_
  refine x_isub 7 dX5_isAttempt_7 ?_
  refine x_cS 8 0 [.int a1, .int (0 : Int32), .int (v1 - (1 : Int32))] [] cs_X5_228 (im_X5_isIn hl a1 (0 : Int32) (v1 - (1 : Int32))) (by decide) rfl (Nat.le_of_ble_eq_true rfl) dX5_isAttempt_8 fun v2 => x_stI ?_
  exact x_zret 11 hZ rfl dX5_isAttempt_11
def f_X5_mayAll (i0 : Nat) (a1 : Int32) (a2 : Int32) (a3 : Int32) : PT Int32 := bnd (ρ := _) (α := Int32) (cnd (a1 = 0) (rt (1 : Int32)) (cnd (a2 = 0) (rt (2 : Int32)) (cnd (a3 = 0) (rt (3 : Int32)) (rt (0 : Int32))))) (fun u1 => pI 4 i0 82 u1 <| gI 4 i0 82 fun v2 => cnd (v2 = 0) (asr ((1 : Int32) = 0 ∨ (1 : Int32) = 1) (rt (1 : Int32))) (asr ((0 : Int32) = 0 ∨ (0 : Int32) = 1) (rt (0 : Int32))))
theorem im_X5_mayAll {g : GP} {l : Launch} (hl : l.stackTraces = false) (i0 : Nat) (a1 : Int32) (a2 : Int32) (a3 : Int32) : Im g l 0 yX5_mayAll cX5_mayAll 4 (some .boolean) eI [.ref (idc 4 i0), .int a1, .int a2, .int a3] (f_X5_mayAll i0 a1 a2 a3) := by
  refine tx_start hl 0 _ _ _ _ (by decide) (Nat.le_of_ble_eq_true rfl) fun Γ Z hΓ hZ => ?_
  subst hΓ
  unfold f_X5_mayAll
  show TX g Γ _ Z _ 0 [(0, .ref (idc 4 i0)), (1, .int a1), (2, .int a2), (3, .int a3)] [] _
  refine x_aload_n 0 0 dX5_mayAll_0 rfl ?_
  refine x_iload_n 1 1 dX5_mayAll_1 rfl ?_
  refine x_bndj 26 (fun u1 => [(0, .ref (idc 4 i0))]) (fun u1 => [.int u1, .ref (idc 4 i0)]) (fun u1 => ?_) (fun hj4 => ?_)
  · show TX g Γ _ Z _ 26 [(0, .ref (idc 4 i0))] [.int u1, .ref (idc 4 i0)] _
    refine x_putI 26 fa_X5_225_4 rfl (Or.inl rfl) dX5_mayAll_26 ?_
    refine x_aload_n 29 0 dX5_mayAll_29 rfl ?_
    refine x_getI 30 fa_X5_225_4 dX5_mayAll_30 fun v2 => ?_
    refine x_if_ne 33 40 dX5_mayAll_33 rfl (fun c3 => ?_) (fun c3 => ?_)
    · refine x_iconst 36 1 (1 : Int32) dX5_mayAll_36 rfl ?_
      refine x_goto 37 41 dX5_mayAll_37 rfl ?_
      exact x_zret 41 hZ rfl dX5_mayAll_41
    · refine x_iconst 40 0 (0 : Int32) dX5_mayAll_40 rfl ?_
      exact x_zret 41 hZ rfl dX5_mayAll_41
  · refine x_if_ne 2 9 dX5_mayAll_2 rfl (fun c5 => ?_) (fun c5 => ?_)
    · refine x_iconst 5 1 (1 : Int32) dX5_mayAll_5 rfl ?_
      refine x_goto 6 26 dX5_mayAll_6 rfl ?_
      refine x_sub [0] _ rfl ?_
      exact hj4 (1 : Int32)
    · refine x_iload_n 9 2 dX5_mayAll_9 rfl ?_
      refine x_if_ne 10 17 dX5_mayAll_10 rfl (fun c6 => ?_) (fun c6 => ?_)
      · refine x_iconst 13 2 (2 : Int32) dX5_mayAll_13 rfl ?_
        refine x_goto 14 26 dX5_mayAll_14 rfl ?_
        refine x_sub [0] _ rfl ?_
        exact hj4 (2 : Int32)
      · refine x_iload_n 17 3 dX5_mayAll_17 rfl ?_
        refine x_if_ne 18 25 dX5_mayAll_18 rfl (fun c7 => ?_) (fun c7 => ?_)
        · refine x_iconst 21 3 (3 : Int32) dX5_mayAll_21 rfl ?_
          refine x_goto 22 26 dX5_mayAll_22 rfl ?_
          refine x_sub [0] _ rfl ?_
          exact hj4 (3 : Int32)
        · refine x_iconst 25 0 (0 : Int32) dX5_mayAll_25 rfl ?_
          refine x_sub [0] _ rfl ?_
          exact hj4 (0 : Int32)
def f_X5_suspend (i0 : Nat) (a1 : Int32) (a2 : Int32) : PT Unit := gR 4 i0 1 fun v1 => isK 32 v1 fun i2 => bI 32 i2 (((3 : Int32) * a1) + a2) (2 : Int32) <| bn0 (f_X5_write i0 (4 : Int32) (((3 : Int32) * a1) + a2)) fun _ => rt ()
theorem im_X5_suspend {g : GP} {l : Launch} (hl : l.stackTraces = false) (i0 : Nat) (a1 : Int32) (a2 : Int32) : Im g l 1 yX5_suspend cX5_suspend 3 none eV [.ref (idc 4 i0), .int a1, .int a2] (f_X5_suspend i0 a1 a2) := by
  refine tx_start hl 1 _ _ _ _ (by decide) (Nat.le_of_ble_eq_true rfl) fun Γ Z hΓ hZ => ?_
  subst hΓ
  unfold f_X5_suspend
  show TX g Γ _ Z _ 0 [(0, .ref (idc 4 i0)), (1, .int a1), (2, .int a2)] [] _
  refine x_aload_n 0 0 dX5_suspend_0 rfl ?_
  refine x_getR 1 fa_X5_7_4 dX5_suspend_1 fun v1 => ?_
  refine x_iconst 4 3 (3 : Int32) dX5_suspend_4 rfl ?_
  refine x_iload_n 5 1 dX5_suspend_5 rfl ?_
  refine x_imul 6 dX5_suspend_6 ?_
  refine x_iload_n 7 2 dX5_suspend_7 rfl ?_
  refine x_iadd 8 dX5_suspend_8 ?_
  refine x_iconst 9 2 (2 : Int32) dX5_suspend_9 rfl ?_
  refine x_isK fun i2 h3 => ?_
  subst h3
  refine x_iast 10 dX5_suspend_10 ?_
  refine x_aload_n 11 0 dX5_suspend_11 rfl ?_
  refine x_iconst 12 4 (4 : Int32) dX5_suspend_12 rfl ?_
  refine x_iconst 13 3 (3 : Int32) dX5_suspend_13 rfl ?_
  refine x_iload_n 14 1 dX5_suspend_14 rfl ?_
  refine x_imul 15 dX5_suspend_15 ?_
  refine x_iload_n 16 2 dX5_suspend_16 rfl ?_
  refine x_iadd 17 dX5_suspend_17 ?_
  refine x_cV 18 0 [.int (4 : Int32), .int (((3 : Int32) * a1) + a2)] [] ⟨by decide, rfl⟩ cv_X5_255 (im_X5_write hl i0 (4 : Int32) (((3 : Int32) * a1) + a2)) (by decide) rfl (Nat.le_of_ble_eq_true rfl) dX5_suspend_18 fun v4 => x_stV ?_
  exact x_vret 21 hZ rfl dX5_suspend_21
def f_X5_answers (i0 : Nat) (a1 : Int32) (a2 : Int32) (a3 : Int32) (a4 : Int32) : PT Int32 := gR 4 i0 1 fun v1 => isK 32 v1 fun i2 => aI 32 i2 (((3 : Int32) * a1) + a2) fun v4 => jo (σ := Unit) (fun _ => gR 4 i0 4 fun v5 => gR 4 i0 4 fun v6 => isK 32 v6 fun i7 => aI 32 i7 (((3 : Int32) * a1) + (1 : Int32)) fun v9 => isK 32 v5 fun i10 => bI 32 i10 ((3 : Int32) * a1) v9 <| gR 4 i0 4 fun v12 => gR 4 i0 4 fun v13 => isK 32 v13 fun i14 => aI 32 i14 (((3 : Int32) * a1) + (2 : Int32)) fun v16 => isK 32 v12 fun i17 => bI 32 i17 (((3 : Int32) * a1) + (1 : Int32)) v16 <| gR 4 i0 4 fun v19 => gI 4 i0 0 fun v20 => isK 32 v19 fun i21 => bI 32 i21 (((3 : Int32) * a1) + (2 : Int32)) v20 <| asr ((0 : Int32) = 0 ∨ (0 : Int32) = 1) (rt (0 : Int32))) fun j24 => cnd (v4 = (1 : Int32)) (bnd (ρ := _) (α := Int32) (jo (σ := Unit) (fun _ => rt (0 : Int32)) fun j56 => cnd (a2 = (2 : Int32)) (cnd (a3 = 0) (j56 ()) (gR 4 i0 3 fun v59 => isK 32 v59 fun i60 => aI 32 i60 a1 fun v62 => cnd (v62 < a4) (j56 ()) (rt (1 : Int32)))) (j56 ())) (fun u26 => jo (σ := Unit) (fun _ => gR 4 i0 2 fun v27 => isK 32 v27 fun i28 => aI 32 i28 (((3 : Int32) * a1) + a2) fun v30 => bnd (ρ := _) (α := Int32) (cnd (a3 = 0) (rt (1 : Int32)) (rt (0 : Int32))) (fun u31 => bI 32 i28 (((3 : Int32) * a1) + a2) (v30 + u31) <| jo (σ := Unit) (fun _ => bn0 (f_X5_suspend i0 a1 a2) fun _ => j24 ()) fun j34 => cnd (u26 = 0) (gR 4 i0 2 fun v36 => isK 32 v36 fun i37 => aI 32 i37 (((3 : Int32) * a1) + a2) fun v39 => cnd (v39 = (5 : Int32)) (j34 ()) (j24 ())) (j34 ()))) fun j44 => cnd (a3 = 0) (j44 ()) (cnd (u26 = 0) (gR 4 i0 2 fun v47 => isK 32 v47 fun i48 => bI 32 i48 (((3 : Int32) * a1) + a2) (0 : Int32) <| cnd (a2 = (2 : Int32)) (gR 4 i0 3 fun v51 => isK 32 v51 fun i52 => bI 32 i52 a1 a4 <| asr ((1 : Int32) = 0 ∨ (1 : Int32) = 1) (rt (1 : Int32))) (asr ((1 : Int32) = 0 ∨ (1 : Int32) = 1) (rt (1 : Int32)))) (j44 ())))) (j24 ())
theorem im_X5_answers {g : GP} {l : Launch} (hl : l.stackTraces = false) (i0 : Nat) (a1 : Int32) (a2 : Int32) (a3 : Int32) (a4 : Int32) : Im g l 2 yX5_answers cX5_answers 7 (some .boolean) eI [.ref (idc 4 i0), .int a1, .int a2, .int a3, .int a4] (f_X5_answers i0 a1 a2 a3 a4) := by
  refine tx_start hl 2 _ _ _ _ (by decide) (Nat.le_of_ble_eq_true rfl) fun Γ Z hΓ hZ => ?_
  subst hΓ
  unfold f_X5_answers
  show TX g Γ _ Z _ 0 [(0, .ref (idc 4 i0)), (1, .int a1), (2, .int a2), (3, .int a3), (4, .int a4)] [] _
  refine x_iconst 0 3 (3 : Int32) dX5_answers_0 rfl ?_
  refine x_iload_n 1 1 dX5_answers_1 rfl ?_
  refine x_imul 2 dX5_answers_2 ?_
  refine x_iload_n 3 2 dX5_answers_3 rfl ?_
  refine x_iadd 4 dX5_answers_4 ?_
  refine x_istore 5 [(5, .int (((3 : Int32) * a1) + a2)), (0, .ref (idc 4 i0)), (1, .int a1), (2, .int a2), (3, .int a3), (4, .int a4)] dX5_answers_5 (by decide) rfl ?_
  refine x_aload_n 7 1 dX5_answers_7 rfl ?_
  refine x_getR 8 fa_X5_7_4 dX5_answers_8 fun v1 => ?_
  refine x_iload 11 0 dX5_answers_11 rfl ?_
  refine x_isK fun i2 h3 => ?_
  subst h3
  refine x_iald 13 dX5_answers_13 fun v4 => ?_
  refine x_iconst 14 1 (1 : Int32) dX5_answers_14 rfl ?_
  refine x_jo 118 (Lf := fun _ => [(0, .ref (idc 4 i0)), (1, .int a1)]) (sf := fun _ => []) (fun _ => ?_) (fun j24 hj23 => ?_)
  · show TX g Γ _ Z _ 118 [(0, .ref (idc 4 i0)), (1, .int a1)] [] _
    refine x_aload_n 118 0 dX5_answers_118 rfl ?_
    refine x_getR 119 fa_X5_19_4 dX5_answers_119 fun v5 => ?_
    refine x_iconst 122 3 (3 : Int32) dX5_answers_122 rfl ?_
    refine x_iload_n 123 1 dX5_answers_123 rfl ?_
    refine x_imul 124 dX5_answers_124 ?_
    refine x_aload_n 125 0 dX5_answers_125 rfl ?_
    refine x_getR 126 fa_X5_19_4 dX5_answers_126 fun v6 => ?_
    refine x_iconst 129 3 (3 : Int32) dX5_answers_129 rfl ?_
    refine x_iload_n 130 1 dX5_answers_130 rfl ?_
    refine x_imul 131 dX5_answers_131 ?_
    refine x_iconst 132 1 (1 : Int32) dX5_answers_132 rfl ?_
    refine x_iadd 133 dX5_answers_133 ?_
    refine x_isK fun i7 h8 => ?_
    subst h8
    refine x_iald 134 dX5_answers_134 fun v9 => ?_
    refine x_isK fun i10 h11 => ?_
    subst h11
    refine x_iast 135 dX5_answers_135 ?_
    refine x_aload_n 136 0 dX5_answers_136 rfl ?_
    refine x_getR 137 fa_X5_19_4 dX5_answers_137 fun v12 => ?_
    refine x_iconst 140 3 (3 : Int32) dX5_answers_140 rfl ?_
    refine x_iload_n 141 1 dX5_answers_141 rfl ?_
    refine x_imul 142 dX5_answers_142 ?_
    refine x_iconst 143 1 (1 : Int32) dX5_answers_143 rfl ?_
    refine x_iadd 144 dX5_answers_144 ?_
    refine x_aload_n 145 0 dX5_answers_145 rfl ?_
    refine x_getR 146 fa_X5_19_4 dX5_answers_146 fun v13 => ?_
    refine x_iconst 149 3 (3 : Int32) dX5_answers_149 rfl ?_
    refine x_iload_n 150 1 dX5_answers_150 rfl ?_
    refine x_imul 151 dX5_answers_151 ?_
    refine x_iconst 152 2 (2 : Int32) dX5_answers_152 rfl ?_
    refine x_iadd 153 dX5_answers_153 ?_
    refine x_isK fun i14 h15 => ?_
    subst h15
    refine x_iald 154 dX5_answers_154 fun v16 => ?_
    refine x_isK fun i17 h18 => ?_
    subst h18
    refine x_iast 155 dX5_answers_155 ?_
    refine x_aload_n 156 0 dX5_answers_156 rfl ?_
    refine x_getR 157 fa_X5_19_4 dX5_answers_157 fun v19 => ?_
    refine x_iconst 160 3 (3 : Int32) dX5_answers_160 rfl ?_
    refine x_iload_n 161 1 dX5_answers_161 rfl ?_
    refine x_imul 162 dX5_answers_162 ?_
    refine x_iconst 163 2 (2 : Int32) dX5_answers_163 rfl ?_
    refine x_iadd 164 dX5_answers_164 ?_
    refine x_aload_n 165 0 dX5_answers_165 rfl ?_
    refine x_getI 166 fa_X5_247_4 dX5_answers_166 fun v20 => ?_
    refine x_isK fun i21 h22 => ?_
    subst h22
    refine x_iast 169 dX5_answers_169 ?_
    refine x_iconst 170 0 (0 : Int32) dX5_answers_170 rfl ?_
    exact x_zret 171 hZ rfl dX5_answers_171
  · refine x_icmp_ne 15 118 dX5_answers_15 rfl (fun c25 => ?_) (fun c25 => ?_)
    · refine x_iload_n 18 3 dX5_answers_18 rfl ?_
      refine x_iconst 19 2 (2 : Int32) dX5_answers_19 rfl ?_
      refine x_bndj 43 (fun u26 => [(0, .ref (idc 4 i0)), (1, .int a1), (2, .int a2), (3, .int a3), (4, .int a4), (5, .int (((3 : Int32) * a1) + a2))]) (fun u26 => [.int u26]) (fun u26 => ?_) (fun hj54 => ?_)
      · show TX g Γ _ Z _ 43 [(0, .ref (idc 4 i0)), (1, .int a1), (2, .int a2), (3, .int a3), (4, .int a4), (5, .int (((3 : Int32) * a1) + a2))] [.int u26] _
        refine x_istore 43 [(6, .int u26), (0, .ref (idc 4 i0)), (1, .int a1), (2, .int a2), (3, .int a3), (4, .int a4), (5, .int (((3 : Int32) * a1) + a2))] dX5_answers_43 (by decide) rfl ?_
        refine x_iload_n 45 4 dX5_answers_45 rfl ?_
        refine x_jo 77 (Lf := fun _ => [(0, .ref (idc 4 i0)), (1, .int a1), (2, .int a2), (3, .int a3), (5, .int (((3 : Int32) * a1) + a2)), (6, .int u26)]) (sf := fun _ => []) (fun _ => ?_) (fun j44 hj43 => ?_)
        · show TX g Γ _ Z _ 77 [(0, .ref (idc 4 i0)), (1, .int a1), (2, .int a2), (3, .int a3), (5, .int (((3 : Int32) * a1) + a2)), (6, .int u26)] [] _
          refine x_aload_n 77 0 dX5_answers_77 rfl ?_
          refine x_getR 78 fa_X5_13_4 dX5_answers_78 fun v27 => ?_
          refine x_iload 81 4 dX5_answers_81 rfl ?_
          refine x_dup2 83 dX5_answers_83 rfl rfl ?_
          refine x_isK fun i28 h29 => ?_
          subst h29
          refine x_iald 84 dX5_answers_84 fun v30 => ?_
          refine x_iload_n 85 3 dX5_answers_85 rfl ?_
          refine x_bndj 94 (fun u31 => [(0, .ref (idc 4 i0)), (1, .int a1), (2, .int a2), (5, .int (((3 : Int32) * a1) + a2)), (6, .int u26)]) (fun u31 => [.int u31, .int v30, .int (((3 : Int32) * a1) + a2), .ref (idc 32 i28)]) (fun u31 => ?_) (fun hj41 => ?_)
          · show TX g Γ _ Z _ 94 [(0, .ref (idc 4 i0)), (1, .int a1), (2, .int a2), (5, .int (((3 : Int32) * a1) + a2)), (6, .int u26)] [.int u31, .int v30, .int (((3 : Int32) * a1) + a2), .ref (idc 32 i28)] _
            refine x_iadd 94 dX5_answers_94 ?_
            refine x_iast 95 dX5_answers_95 ?_
            refine x_iload 96 4 dX5_answers_96 rfl ?_
            refine x_jo 112 (Lf := fun _ => [(0, .ref (idc 4 i0)), (1, .int a1), (2, .int a2)]) (sf := fun _ => []) (fun _ => ?_) (fun j34 hj33 => ?_)
            · show TX g Γ _ Z _ 112 [(0, .ref (idc 4 i0)), (1, .int a1), (2, .int a2)] [] _
              refine x_aload_n 112 0 dX5_answers_112 rfl ?_
              refine x_iload_n 113 1 dX5_answers_113 rfl ?_
              refine x_iload_n 114 2 dX5_answers_114 rfl ?_
              refine x_cV 115 1 [.int a1, .int a2] [] ⟨by decide, rfl⟩ cv_X5_294 (im_X5_suspend hl i0 a1 a2) (by decide) rfl (Nat.le_of_ble_eq_true rfl) dX5_answers_115 fun v32 => x_stV ?_
              refine x_sub [0, 1] _ rfl ?_
              exact hj23 ()
            · refine x_if_ne 98 112 dX5_answers_98 rfl (fun c35 => ?_) (fun c35 => ?_)
              · refine x_aload_n 101 0 dX5_answers_101 rfl ?_
                refine x_getR 102 fa_X5_13_4 dX5_answers_102 fun v36 => ?_
                refine x_iload 105 3 dX5_answers_105 rfl ?_
                refine x_isK fun i37 h38 => ?_
                subst h38
                refine x_iald 107 dX5_answers_107 fun v39 => ?_
                refine x_iconst 108 5 (5 : Int32) dX5_answers_108 rfl ?_
                refine x_icmp_ne 109 118 dX5_answers_109 rfl (fun c40 => ?_) (fun c40 => ?_)
                · refine x_sub [0, 1, 2] _ rfl ?_
                  exact hj33 ()
                · refine x_sub [0, 1] _ rfl ?_
                  exact hj23 ()
              · refine x_sub [0, 1, 2] _ rfl ?_
                exact hj33 ()
          · refine x_if_eq 86 93 dX5_answers_86 rfl (fun c42 => ?_) (fun c42 => ?_)
            · refine x_iconst 93 1 (1 : Int32) dX5_answers_93 rfl ?_
              refine x_sub [0, 1, 2, 4, 5] _ rfl ?_
              exact hj41 (1 : Int32)
            · refine x_iconst 89 0 (0 : Int32) dX5_answers_89 rfl ?_
              refine x_goto 90 94 dX5_answers_90 rfl ?_
              refine x_sub [0, 1, 2, 4, 5] _ rfl ?_
              exact hj41 (0 : Int32)
        · refine x_if_eq 46 77 dX5_answers_46 rfl (fun c45 => ?_) (fun c45 => ?_)
          · refine x_sub [1, 2, 3, 4, 6, 0] _ rfl ?_
            exact hj43 ()
          · refine x_iload 49 0 dX5_answers_49 rfl ?_
            refine x_if_ne 51 77 dX5_answers_51 rfl (fun c46 => ?_) (fun c46 => ?_)
            · refine x_aload_n 54 1 dX5_answers_54 rfl ?_
              refine x_getR 55 fa_X5_13_4 dX5_answers_55 fun v47 => ?_
              refine x_iload 58 6 dX5_answers_58 rfl ?_
              refine x_iconst 60 0 (0 : Int32) dX5_answers_60 rfl ?_
              refine x_isK fun i48 h49 => ?_
              subst h49
              refine x_iast 61 dX5_answers_61 ?_
              refine x_iload_n 62 3 dX5_answers_62 rfl ?_
              refine x_iconst 63 2 (2 : Int32) dX5_answers_63 rfl ?_
              refine x_icmp_ne 64 75 dX5_answers_64 rfl (fun c50 => ?_) (fun c50 => ?_)
              · refine x_aload_n 67 1 dX5_answers_67 rfl ?_
                refine x_getR 68 fa_X5_16_4 dX5_answers_68 fun v51 => ?_
                refine x_iload_n 71 2 dX5_answers_71 rfl ?_
                refine x_iload 72 5 dX5_answers_72 rfl ?_
                refine x_isK fun i52 h53 => ?_
                subst h53
                refine x_iast 74 dX5_answers_74 ?_
                refine x_iconst 75 1 (1 : Int32) dX5_answers_75 rfl ?_
                exact x_zret 76 hZ rfl dX5_answers_76
              · refine x_iconst 75 1 (1 : Int32) dX5_answers_75 rfl ?_
                exact x_zret 76 hZ rfl dX5_answers_76
            · refine x_sub [1, 2, 3, 4, 6, 0] _ rfl ?_
              exact hj43 ()
      · refine x_jo 42 (Lf := fun _ => [(0, .ref (idc 4 i0)), (1, .int a1), (2, .int a2), (3, .int a3), (4, .int a4), (5, .int (((3 : Int32) * a1) + a2))]) (sf := fun _ => []) (fun _ => ?_) (fun j56 hj55 => ?_)
        · show TX g Γ _ Z _ 42 [(0, .ref (idc 4 i0)), (1, .int a1), (2, .int a2), (3, .int a3), (4, .int a4), (5, .int (((3 : Int32) * a1) + a2))] [] _
          refine x_iconst 42 0 (0 : Int32) dX5_answers_42 rfl ?_
          exact hj54 (0 : Int32)
        · refine x_icmp_ne 20 42 dX5_answers_20 rfl (fun c57 => ?_) (fun c57 => ?_)
          · refine x_iload_n 23 4 dX5_answers_23 rfl ?_
            refine x_if_eq 24 42 dX5_answers_24 rfl (fun c58 => ?_) (fun c58 => ?_)
            · refine x_sub [1, 2, 3, 4, 5, 0] _ rfl ?_
              exact hj55 ()
            · refine x_iload 27 5 dX5_answers_27 rfl ?_
              refine x_aload_n 29 1 dX5_answers_29 rfl ?_
              refine x_getR 30 fa_X5_16_4 dX5_answers_30 fun v59 => ?_
              refine x_iload_n 33 2 dX5_answers_33 rfl ?_
              refine x_isK fun i60 h61 => ?_
              subst h61
              refine x_iald 34 dX5_answers_34 fun v62 => ?_
              refine x_icmp_gt 35 42 dX5_answers_35 rfl (fun c63 => ?_) (fun c63 => ?_)
              · refine x_sub [1, 2, 3, 4, 5, 0] _ rfl ?_
                exact hj55 ()
              · refine x_iconst 38 1 (1 : Int32) dX5_answers_38 rfl ?_
                refine x_goto 39 43 dX5_answers_39 rfl ?_
                refine x_sub [1, 2, 3, 4, 5, 0] _ rfl ?_
                exact hj54 (1 : Int32)
          · refine x_sub [1, 2, 3, 4, 5, 0] _ rfl ?_
            exact hj55 ()
    · refine x_sub [1, 2] _ rfl ?_
      exact hj23 ()
def f_X5_answer (i0 : Nat) (a1 : Int32) (a2 : Int32) (a3 : Int32) : PT Int32 := bn0 (f_X5_isAttempt i0 a1) fun v1 => bn0 (f_X5_isIn a3 (0 : Int32) (9999 : Int32)) fun v2 => bnd (ρ := _) (α := Int32) (jo (σ := Unit) (fun _ => rt (0 : Int32)) fun j87 => cnd (v1 = 0) (j87 ()) (gR 4 i0 25 fun v89 => isK 32 v89 fun i90 => aI 32 i90 a1 fun v92 => cnd (v92 = 0) (rt (1 : Int32)) (j87 ()))) (fun u3 => bn0 (f_X5_mayAll i0 v1 v2 u3) fun v4 => cnd (v4 = 0) (rt (0 : Int32)) (gR 4 i0 23 fun v6 => isK 32 v6 fun i7 => aI 32 i7 a1 fun v9 => gR 4 i0 24 fun v10 => isK 32 v10 fun i11 => aI 32 i11 a1 fun v13 => gR 4 i0 27 fun v14 => isK 32 v14 fun i15 => aI 32 i15 a1 fun v17 => bI 32 i15 a1 (v17 + (1 : Int32)) <| gR 4 i0 20 fun v18 => isK 32 v18 fun i19 => aI 32 i19 a1 fun v21 => gR 4 i0 12 fun v22 => isK 32 v22 fun i23 => aI 32 i23 (((12 : Int32) * v9) + v13) fun v25 => bn0 (f_X5_answers i0 v21 v25 a2 a3) fun v26 => bnd (ρ := _) (α := Unit) (cnd (v26 = 0) (gR 4 i0 26 fun v54 => isK 32 v54 fun i55 => aI 32 i55 a1 fun v57 => bI 32 i55 a1 (v57 + (1 : Int32)) <| gR 4 i0 26 fun v58 => isK 32 v58 fun i59 => aI 32 i59 a1 fun v61 => gR 4 i0 13 fun v62 => isK 32 v62 fun i63 => aI 32 i63 (((12 : Int32) * v9) + v13) fun v65 => cnd (v61 = v65) (gR 4 i0 15 fun v67 => isK 32 v67 fun i68 => aI 32 i68 (((12 : Int32) * v9) + v13) fun v70 => bn0 (f_X5_go i0 a1 v70) fun _ => rt ()) (rt ())) (gR 4 i0 29 fun v72 => gR 4 i0 12 fun v73 => isK 32 v73 fun i74 => aI 32 i74 (((12 : Int32) * v9) + v13) fun v76 => gI 4 i0 0 fun v77 => isK 32 v72 fun i78 => bI 32 i78 (((3 : Int32) * a1) + v76) v77 <| gR 4 i0 14 fun v80 => isK 32 v80 fun i81 => aI 32 i81 (((12 : Int32) * v9) + v13) fun v83 => bn0 (f_X5_go i0 a1 v83) fun _ => rt ())) (fun _ => gR 4 i0 25 fun v27 => isK 32 v27 fun i28 => aI 32 i28 a1 fun v30 => cnd (v30 = 0) (gR 4 i0 27 fun v32 => isK 32 v32 fun i33 => aI 32 i33 a1 fun v35 => cnd (v35 = (12 : Int32)) (gR 4 i0 25 fun v37 => isK 32 v37 fun i38 => bI 32 i38 a1 (2 : Int32) <| gR 4 i0 25 fun v40 => isK 32 v40 fun i41 => aI 32 i41 a1 fun v43 => rt v43) (gR 4 i0 25 fun v44 => isK 32 v44 fun i45 => aI 32 i45 a1 fun v47 => rt v47)) (gR 4 i0 25 fun v48 => isK 32 v48 fun i49 => aI 32 i49 a1 fun v51 => rt v51))))
theorem im_X5_answer {g : GP} {l : Launch} (hl : l.stackTraces = false) (i0 : Nat) (a1 : Int32) (a2 : Int32) (a3 : Int32) : Im g l 4 yX5_answer cX5_answer 6 (some .int) eI [.ref (idc 4 i0), .int a1, .int a2, .int a3] (f_X5_answer i0 a1 a2 a3) := by
  refine tx_start hl 4 _ _ _ _ (by decide) (Nat.le_of_ble_eq_true rfl) fun Γ Z hΓ hZ => ?_
  subst hΓ
  unfold f_X5_answer
  show TX g Γ _ Z _ 0 [(0, .ref (idc 4 i0)), (1, .int a1), (2, .int a2), (3, .int a3)] [] _
  refine x_aload_n 0 0 dX5_answer_0 rfl ?_
  refine x_iload_n 1 1 dX5_answer_1 rfl ?_
  refine x_cV 2 1 [.int a1] [] ⟨by decide, rfl⟩ cv_X5_341 (im_X5_isAttempt hl i0 a1) (by decide) rfl (Nat.le_of_ble_eq_true rfl) dX5_answer_2 fun v1 => x_stI ?_
  refine x_istore 5 [(4, .int v1), (0, .ref (idc 4 i0)), (1, .int a1), (2, .int a2), (3, .int a3)] dX5_answer_5 (by decide) rfl ?_
  refine x_aload_n 7 1 dX5_answer_7 rfl ?_
  refine x_iload 8 0 dX5_answer_8 rfl ?_
  refine x_iload_n 10 4 dX5_answer_10 rfl ?_
  refine x_iconst 11 0 (0 : Int32) dX5_answer_11 rfl ?_
  refine x_sipush 12 9999 (9999 : Int32) dX5_answer_12 rfl ?_
  refine x_cS 15 0 [.int a3, .int (0 : Int32), .int (9999 : Int32)] [.int v1, .ref (idc 4 i0)] cs_X5_228 (im_X5_isIn hl a3 (0 : Int32) (9999 : Int32)) (by decide) rfl (Nat.le_of_ble_eq_true rfl) dX5_answer_15 fun v2 => x_stI ?_
  refine x_iload 18 0 dX5_answer_18 rfl ?_
  refine x_bndj 37 (fun u3 => [(0, .ref (idc 4 i0)), (1, .int a1), (2, .int a2), (3, .int a3)]) (fun u3 => [.int u3, .int v2, .int v1, .ref (idc 4 i0)]) (fun u3 => ?_) (fun hj85 => ?_)
  · show TX g Γ _ Z _ 37 [(0, .ref (idc 4 i0)), (1, .int a1), (2, .int a2), (3, .int a3)] [.int u3, .int v2, .int v1, .ref (idc 4 i0)] _
    refine x_cV 37 0 [.int v1, .int v2, .int u3] [] ⟨by decide, rfl⟩ cv_X5_344 (im_X5_mayAll hl i0 v1 v2 u3) (by decide) rfl (Nat.le_of_ble_eq_true rfl) dX5_answer_37 fun v4 => x_stI ?_
    refine x_if_ne 40 45 dX5_answer_40 rfl (fun c5 => ?_) (fun c5 => ?_)
    · refine x_iconst 43 0 (0 : Int32) dX5_answer_43 rfl ?_
      exact x_iret 44 hZ rfl dX5_answer_44
    · refine x_bipush 45 12 (12 : Int32) dX5_answer_45 rfl ?_
      refine x_aload_n 47 0 dX5_answer_47 rfl ?_
      refine x_getR 48 fa_X5_71_4 dX5_answer_48 fun v6 => ?_
      refine x_iload_n 51 1 dX5_answer_51 rfl ?_
      refine x_isK fun i7 h8 => ?_
      subst h8
      refine x_iald 52 dX5_answer_52 fun v9 => ?_
      refine x_imul 53 dX5_answer_53 ?_
      refine x_aload_n 54 0 dX5_answer_54 rfl ?_
      refine x_getR 55 fa_X5_74_4 dX5_answer_55 fun v10 => ?_
      refine x_iload_n 58 1 dX5_answer_58 rfl ?_
      refine x_isK fun i11 h12 => ?_
      subst h12
      refine x_iald 59 dX5_answer_59 fun v13 => ?_
      refine x_iadd 60 dX5_answer_60 ?_
      refine x_istore 61 [(5, .int (((12 : Int32) * v9) + v13)), (0, .ref (idc 4 i0)), (1, .int a1), (2, .int a2), (3, .int a3)] dX5_answer_61 (by decide) rfl ?_
      refine x_aload_n 63 1 dX5_answer_63 rfl ?_
      refine x_getR 64 fa_X5_83_4 dX5_answer_64 fun v14 => ?_
      refine x_iload_n 67 2 dX5_answer_67 rfl ?_
      refine x_dup2 68 dX5_answer_68 rfl rfl ?_
      refine x_isK fun i15 h16 => ?_
      subst h16
      refine x_iald 69 dX5_answer_69 fun v17 => ?_
      refine x_iconst 70 1 (1 : Int32) dX5_answer_70 rfl ?_
      refine x_iadd 71 dX5_answer_71 ?_
      refine x_iast 72 dX5_answer_72 ?_
      refine x_aload_n 73 1 dX5_answer_73 rfl ?_
      refine x_aload_n 74 1 dX5_answer_74 rfl ?_
      refine x_getR 75 fa_X5_62_4 dX5_answer_75 fun v18 => ?_
      refine x_iload_n 78 2 dX5_answer_78 rfl ?_
      refine x_isK fun i19 h20 => ?_
      subst h20
      refine x_iald 79 dX5_answer_79 fun v21 => ?_
      refine x_aload_n 80 1 dX5_answer_80 rfl ?_
      refine x_getR 81 fa_X5_41_4 dX5_answer_81 fun v22 => ?_
      refine x_iload 84 0 dX5_answer_84 rfl ?_
      refine x_isK fun i23 h24 => ?_
      subst h24
      refine x_iald 86 dX5_answer_86 fun v25 => ?_
      refine x_iload_n 87 3 dX5_answer_87 rfl ?_
      refine x_iload_n 88 4 dX5_answer_88 rfl ?_
      refine x_cV 89 2 [.int v21, .int v25, .int a2, .int a3] [] ⟨by decide, rfl⟩ cv_X5_348 (im_X5_answers hl i0 v21 v25 a2 a3) (by decide) rfl (Nat.le_of_ble_eq_true rfl) dX5_answer_89 fun v26 => x_stI ?_
      refine x_bndj 168 (fun _ => [(0, .ref (idc 4 i0)), (1, .int a1)]) (fun _ => []) (fun _ => ?_) (fun hj52 => ?_)
      · show TX g Γ _ Z _ 168 [(0, .ref (idc 4 i0)), (1, .int a1)] [] _
        refine x_aload_n 168 0 dX5_answer_168 rfl ?_
        refine x_getR 169 fa_X5_77_4 dX5_answer_169 fun v27 => ?_
        refine x_iload_n 172 1 dX5_answer_172 rfl ?_
        refine x_isK fun i28 h29 => ?_
        subst h29
        refine x_iald 173 dX5_answer_173 fun v30 => ?_
        refine x_if_ne 174 195 dX5_answer_174 rfl (fun c31 => ?_) (fun c31 => ?_)
        · refine x_aload_n 177 0 dX5_answer_177 rfl ?_
          refine x_getR 178 fa_X5_83_4 dX5_answer_178 fun v32 => ?_
          refine x_iload_n 181 1 dX5_answer_181 rfl ?_
          refine x_isK fun i33 h34 => ?_
          subst h34
          refine x_iald 182 dX5_answer_182 fun v35 => ?_
          refine x_bipush 183 12 (12 : Int32) dX5_answer_183 rfl ?_
          refine x_icmp_ne 185 195 dX5_answer_185 rfl (fun c36 => ?_) (fun c36 => ?_)
          · refine x_aload_n 188 0 dX5_answer_188 rfl ?_
            refine x_getR 189 fa_X5_77_4 dX5_answer_189 fun v37 => ?_
            refine x_iload_n 192 1 dX5_answer_192 rfl ?_
            refine x_iconst 193 2 (2 : Int32) dX5_answer_193 rfl ?_
            refine x_isK fun i38 h39 => ?_
            subst h39
            refine x_iast 194 dX5_answer_194 ?_
            refine x_aload_n 195 0 dX5_answer_195 rfl ?_
            refine x_getR 196 fa_X5_77_4 dX5_answer_196 fun v40 => ?_
            refine x_iload_n 199 1 dX5_answer_199 rfl ?_
            refine x_isK fun i41 h42 => ?_
            subst h42
            refine x_iald 200 dX5_answer_200 fun v43 => ?_
            exact x_iret 201 hZ rfl dX5_answer_201
          · refine x_aload_n 195 0 dX5_answer_195 rfl ?_
            refine x_getR 196 fa_X5_77_4 dX5_answer_196 fun v44 => ?_
            refine x_iload_n 199 1 dX5_answer_199 rfl ?_
            refine x_isK fun i45 h46 => ?_
            subst h46
            refine x_iald 200 dX5_answer_200 fun v47 => ?_
            exact x_iret 201 hZ rfl dX5_answer_201
        · refine x_aload_n 195 0 dX5_answer_195 rfl ?_
          refine x_getR 196 fa_X5_77_4 dX5_answer_196 fun v48 => ?_
          refine x_iload_n 199 1 dX5_answer_199 rfl ?_
          refine x_isK fun i49 h50 => ?_
          subst h50
          refine x_iald 200 dX5_answer_200 fun v51 => ?_
          exact x_iret 201 hZ rfl dX5_answer_201
      · refine x_if_eq 92 130 dX5_answer_92 rfl (fun c53 => ?_) (fun c53 => ?_)
        · refine x_aload_n 130 1 dX5_answer_130 rfl ?_
          refine x_getR 131 fa_X5_80_4 dX5_answer_131 fun v54 => ?_
          refine x_iload_n 134 2 dX5_answer_134 rfl ?_
          refine x_dup2 135 dX5_answer_135 rfl rfl ?_
          refine x_isK fun i55 h56 => ?_
          subst h56
          refine x_iald 136 dX5_answer_136 fun v57 => ?_
          refine x_iconst 137 1 (1 : Int32) dX5_answer_137 rfl ?_
          refine x_iadd 138 dX5_answer_138 ?_
          refine x_iast 139 dX5_answer_139 ?_
          refine x_aload_n 140 1 dX5_answer_140 rfl ?_
          refine x_getR 141 fa_X5_80_4 dX5_answer_141 fun v58 => ?_
          refine x_iload_n 144 2 dX5_answer_144 rfl ?_
          refine x_isK fun i59 h60 => ?_
          subst h60
          refine x_iald 145 dX5_answer_145 fun v61 => ?_
          refine x_aload_n 146 1 dX5_answer_146 rfl ?_
          refine x_getR 147 fa_X5_44_4 dX5_answer_147 fun v62 => ?_
          refine x_iload 150 0 dX5_answer_150 rfl ?_
          refine x_isK fun i63 h64 => ?_
          subst h64
          refine x_iald 152 dX5_answer_152 fun v65 => ?_
          refine x_icmp_ne 153 168 dX5_answer_153 rfl (fun c66 => ?_) (fun c66 => ?_)
          · refine x_aload_n 156 1 dX5_answer_156 rfl ?_
            refine x_iload_n 157 2 dX5_answer_157 rfl ?_
            refine x_aload_n 158 1 dX5_answer_158 rfl ?_
            refine x_getR 159 fa_X5_50_4 dX5_answer_159 fun v67 => ?_
            refine x_iload 162 0 dX5_answer_162 rfl ?_
            refine x_isK fun i68 h69 => ?_
            subst h69
            refine x_iald 164 dX5_answer_164 fun v70 => ?_
            refine x_cV 165 3 [.int a1, .int v70] [] ⟨by decide, rfl⟩ cv_X5_338 (im_X5_go hl i0 a1 v70) (by decide) rfl (Nat.le_of_ble_eq_true rfl) dX5_answer_165 fun v71 => x_stV ?_
            refine x_sub [1, 2] _ rfl ?_
            exact hj52 ()
          · refine x_sub [1, 2] _ rfl ?_
            exact hj52 ()
        · refine x_aload_n 95 1 dX5_answer_95 rfl ?_
          refine x_getR 96 fa_X5_89_4 dX5_answer_96 fun v72 => ?_
          refine x_iconst 99 3 (3 : Int32) dX5_answer_99 rfl ?_
          refine x_iload_n 100 2 dX5_answer_100 rfl ?_
          refine x_imul 101 dX5_answer_101 ?_
          refine x_aload_n 102 1 dX5_answer_102 rfl ?_
          refine x_getR 103 fa_X5_41_4 dX5_answer_103 fun v73 => ?_
          refine x_iload 106 0 dX5_answer_106 rfl ?_
          refine x_isK fun i74 h75 => ?_
          subst h75
          refine x_iald 108 dX5_answer_108 fun v76 => ?_
          refine x_iadd 109 dX5_answer_109 ?_
          refine x_aload_n 110 1 dX5_answer_110 rfl ?_
          refine x_getI 111 fa_X5_247_4 dX5_answer_111 fun v77 => ?_
          refine x_isK fun i78 h79 => ?_
          subst h79
          refine x_iast 114 dX5_answer_114 ?_
          refine x_aload_n 115 1 dX5_answer_115 rfl ?_
          refine x_iload_n 116 2 dX5_answer_116 rfl ?_
          refine x_aload_n 117 1 dX5_answer_117 rfl ?_
          refine x_getR 118 fa_X5_47_4 dX5_answer_118 fun v80 => ?_
          refine x_iload 121 0 dX5_answer_121 rfl ?_
          refine x_isK fun i81 h82 => ?_
          subst h82
          refine x_iald 123 dX5_answer_123 fun v83 => ?_
          refine x_cV 124 3 [.int a1, .int v83] [] ⟨by decide, rfl⟩ cv_X5_338 (im_X5_go hl i0 a1 v83) (by decide) rfl (Nat.le_of_ble_eq_true rfl) dX5_answer_124 fun v84 => x_stV ?_
          refine x_goto 127 168 dX5_answer_127 rfl ?_
          refine x_sub [1, 2] _ rfl ?_
          exact hj52 ()
  · refine x_jo 36 (Lf := fun _ => [(0, .ref (idc 4 i0)), (1, .int a1), (2, .int a2), (3, .int a3)]) (sf := fun _ => [.int v2, .int v1, .ref (idc 4 i0)]) (fun _ => ?_) (fun j87 hj86 => ?_)
    · show TX g Γ _ Z _ 36 [(0, .ref (idc 4 i0)), (1, .int a1), (2, .int a2), (3, .int a3)] [.int v2, .int v1, .ref (idc 4 i0)] _
      refine x_iconst 36 0 (0 : Int32) dX5_answer_36 rfl ?_
      exact hj85 (0 : Int32)
    · refine x_if_eq 20 36 dX5_answer_20 rfl (fun c88 => ?_) (fun c88 => ?_)
      · refine x_sub [1, 2, 3, 4] _ rfl ?_
        exact hj86 ()
      · refine x_aload_n 23 1 dX5_answer_23 rfl ?_
        refine x_getR 24 fa_X5_77_4 dX5_answer_24 fun v89 => ?_
        refine x_iload_n 27 2 dX5_answer_27 rfl ?_
        refine x_isK fun i90 h91 => ?_
        subst h91
        refine x_iald 28 dX5_answer_28 fun v92 => ?_
        refine x_if_ne 29 36 dX5_answer_29 rfl (fun c93 => ?_) (fun c93 => ?_)
        · refine x_iconst 32 1 (1 : Int32) dX5_answer_32 rfl ?_
          refine x_goto 33 37 dX5_answer_33 rfl ?_
          refine x_sub [1, 2, 3, 4] _ rfl ?_
          exact hj85 (1 : Int32)
        · refine x_sub [1, 2, 3, 4] _ rfl ?_
          exact hj86 ()
def f_X5_state (i0 : Nat) (a1 : Int32) : PT Int32 := bn0 (f_X5_isAttempt i0 a1) fun v1 => bn0 (f_X5_may i0 v1) fun v2 => cnd (v2 = 0) (rt (0 : Int32)) (gR 4 i0 25 fun v4 => isK 32 v4 fun i5 => aI 32 i5 a1 fun v7 => rt v7)
theorem im_X5_state {g : GP} {l : Launch} (hl : l.stackTraces = false) (i0 : Nat) (a1 : Int32) : Im g l 2 yX5_state cX5_state 2 (some .int) eI [.ref (idc 4 i0), .int a1] (f_X5_state i0 a1) := by
  refine tx_start hl 2 _ _ _ _ (by decide) (Nat.le_of_ble_eq_true rfl) fun Γ Z hΓ hZ => ?_
  subst hΓ
  unfold f_X5_state
  show TX g Γ _ Z _ 0 [(0, .ref (idc 4 i0)), (1, .int a1)] [] _
  refine x_aload_n 0 0 dX5_state_0 rfl ?_
  refine x_aload_n 1 0 dX5_state_1 rfl ?_
  refine x_iload_n 2 1 dX5_state_2 rfl ?_
  refine x_cV 3 1 [.int a1] [.ref (idc 4 i0)] ⟨by decide, rfl⟩ cv_X5_341 (im_X5_isAttempt hl i0 a1) (by decide) rfl (Nat.le_of_ble_eq_true rfl) dX5_state_3 fun v1 => x_stI ?_
  refine x_cV 6 0 [.int v1] [] ⟨by decide, rfl⟩ cv_X5_251 (im_X5_may hl i0 v1) (by decide) rfl (Nat.le_of_ble_eq_true rfl) dX5_state_6 fun v2 => x_stI ?_
  refine x_if_eq 9 21 dX5_state_9 rfl (fun c3 => ?_) (fun c3 => ?_)
  · refine x_iconst 21 0 (0 : Int32) dX5_state_21 rfl ?_
    exact x_iret 22 hZ rfl dX5_state_22
  · refine x_aload_n 12 0 dX5_state_12 rfl ?_
    refine x_getR 13 fa_X5_77_4 dX5_state_13 fun v4 => ?_
    refine x_iload_n 16 1 dX5_state_16 rfl ?_
    refine x_isK fun i5 h6 => ?_
    subst h6
    refine x_iald 17 dX5_state_17 fun v7 => ?_
    refine x_goto 18 22 dX5_state_18 rfl ?_
    exact x_iret 22 hZ rfl dX5_state_22
def f_X5_asked (i0 : Nat) (a1 : Int32) : PT Int32 := bn0 (f_X5_isAttempt i0 a1) fun v1 => bn0 (f_X5_may i0 v1) fun v2 => cnd (v2 = 0) (rt (0 : Int32)) (gR 4 i0 25 fun v4 => isK 32 v4 fun i5 => aI 32 i5 a1 fun v7 => cnd (v7 = 0) (gR 4 i0 12 fun v9 => gR 4 i0 23 fun v10 => isK 32 v10 fun i11 => aI 32 i11 a1 fun v13 => gR 4 i0 24 fun v14 => isK 32 v14 fun i15 => aI 32 i15 a1 fun v17 => isK 32 v9 fun i18 => aI 32 i18 (((12 : Int32) * v13) + v17) fun v20 => rt v20) (rt (-1 : Int32)))
theorem im_X5_asked {g : GP} {l : Launch} (hl : l.stackTraces = false) (i0 : Nat) (a1 : Int32) : Im g l 2 yX5_asked cX5_asked 2 (some .int) eI [.ref (idc 4 i0), .int a1] (f_X5_asked i0 a1) := by
  refine tx_start hl 2 _ _ _ _ (by decide) (Nat.le_of_ble_eq_true rfl) fun Γ Z hΓ hZ => ?_
  subst hΓ
  unfold f_X5_asked
  show TX g Γ _ Z _ 0 [(0, .ref (idc 4 i0)), (1, .int a1)] [] _
  refine x_aload_n 0 0 dX5_asked_0 rfl ?_
  refine x_aload_n 1 0 dX5_asked_1 rfl ?_
  refine x_iload_n 2 1 dX5_asked_2 rfl ?_
  refine x_cV 3 1 [.int a1] [.ref (idc 4 i0)] ⟨by decide, rfl⟩ cv_X5_341 (im_X5_isAttempt hl i0 a1) (by decide) rfl (Nat.le_of_ble_eq_true rfl) dX5_asked_3 fun v1 => x_stI ?_
  refine x_cV 6 0 [.int v1] [] ⟨by decide, rfl⟩ cv_X5_251 (im_X5_may hl i0 v1) (by decide) rfl (Nat.le_of_ble_eq_true rfl) dX5_asked_6 fun v2 => x_stI ?_
  refine x_if_ne 9 14 dX5_asked_9 rfl (fun c3 => ?_) (fun c3 => ?_)
  · refine x_iconst 12 0 (0 : Int32) dX5_asked_12 rfl ?_
    exact x_iret 13 hZ rfl dX5_asked_13
  · refine x_aload_n 14 0 dX5_asked_14 rfl ?_
    refine x_getR 15 fa_X5_77_4 dX5_asked_15 fun v4 => ?_
    refine x_iload_n 18 1 dX5_asked_18 rfl ?_
    refine x_isK fun i5 h6 => ?_
    subst h6
    refine x_iald 19 dX5_asked_19 fun v7 => ?_
    refine x_if_ne 20 47 dX5_asked_20 rfl (fun c8 => ?_) (fun c8 => ?_)
    · refine x_aload_n 23 0 dX5_asked_23 rfl ?_
      refine x_getR 24 fa_X5_41_4 dX5_asked_24 fun v9 => ?_
      refine x_bipush 27 12 (12 : Int32) dX5_asked_27 rfl ?_
      refine x_aload_n 29 0 dX5_asked_29 rfl ?_
      refine x_getR 30 fa_X5_71_4 dX5_asked_30 fun v10 => ?_
      refine x_iload_n 33 1 dX5_asked_33 rfl ?_
      refine x_isK fun i11 h12 => ?_
      subst h12
      refine x_iald 34 dX5_asked_34 fun v13 => ?_
      refine x_imul 35 dX5_asked_35 ?_
      refine x_aload_n 36 0 dX5_asked_36 rfl ?_
      refine x_getR 37 fa_X5_74_4 dX5_asked_37 fun v14 => ?_
      refine x_iload_n 40 1 dX5_asked_40 rfl ?_
      refine x_isK fun i15 h16 => ?_
      subst h16
      refine x_iald 41 dX5_asked_41 fun v17 => ?_
      refine x_iadd 42 dX5_asked_42 ?_
      refine x_isK fun i18 h19 => ?_
      subst h19
      refine x_iald 43 dX5_asked_43 fun v20 => ?_
      refine x_goto 44 48 dX5_asked_44 rfl ?_
      exact x_iret 48 hZ rfl dX5_asked_48
    · refine x_iconst 47 (-1) (-1 : Int32) dX5_asked_47 rfl ?_
      exact x_iret 48 hZ rfl dX5_asked_48
def f_X5_sessionOf (i0 : Nat) (a1 : Int32) : PT Int32 := bn0 (f_X5_isAttempt i0 a1) fun v1 => bn0 (f_X5_may i0 v1) fun v2 => cnd (v2 = 0) (rt (0 : Int32)) (gR 4 i0 28 fun v4 => isK 32 v4 fun i5 => aI 32 i5 a1 fun v7 => rt v7)
theorem im_X5_sessionOf {g : GP} {l : Launch} (hl : l.stackTraces = false) (i0 : Nat) (a1 : Int32) : Im g l 2 yX5_sessionOf cX5_sessionOf 2 (some .int) eI [.ref (idc 4 i0), .int a1] (f_X5_sessionOf i0 a1) := by
  refine tx_start hl 2 _ _ _ _ (by decide) (Nat.le_of_ble_eq_true rfl) fun Γ Z hΓ hZ => ?_
  subst hΓ
  unfold f_X5_sessionOf
  show TX g Γ _ Z _ 0 [(0, .ref (idc 4 i0)), (1, .int a1)] [] _
  refine x_aload_n 0 0 dX5_sessionOf_0 rfl ?_
  refine x_aload_n 1 0 dX5_sessionOf_1 rfl ?_
  refine x_iload_n 2 1 dX5_sessionOf_2 rfl ?_
  refine x_cV 3 1 [.int a1] [.ref (idc 4 i0)] ⟨by decide, rfl⟩ cv_X5_341 (im_X5_isAttempt hl i0 a1) (by decide) rfl (Nat.le_of_ble_eq_true rfl) dX5_sessionOf_3 fun v1 => x_stI ?_
  refine x_cV 6 0 [.int v1] [] ⟨by decide, rfl⟩ cv_X5_251 (im_X5_may hl i0 v1) (by decide) rfl (Nat.le_of_ble_eq_true rfl) dX5_sessionOf_6 fun v2 => x_stI ?_
  refine x_if_eq 9 21 dX5_sessionOf_9 rfl (fun c3 => ?_) (fun c3 => ?_)
  · refine x_iconst 21 0 (0 : Int32) dX5_sessionOf_21 rfl ?_
    exact x_iret 22 hZ rfl dX5_sessionOf_22
  · refine x_aload_n 12 0 dX5_sessionOf_12 rfl ?_
    refine x_getR 13 fa_X5_86_4 dX5_sessionOf_13 fun v4 => ?_
    refine x_iload_n 16 1 dX5_sessionOf_16 rfl ?_
    refine x_isK fun i5 h6 => ?_
    subst h6
    refine x_iald 17 dX5_sessionOf_17 fun v7 => ?_
    refine x_goto 18 22 dX5_sessionOf_18 rfl ?_
    exact x_iret 22 hZ rfl dX5_sessionOf_22
def f_X5_risk (i0 : Nat) (a1 : Int32) : PT Int32 := bn0 (f_X5_isAttempt i0 a1) fun v1 => bn0 (f_X5_may i0 v1) fun v2 => cnd (v2 = 0) (rt (0 : Int32)) (bn0 (f_X5_riskOf i0 a1 (0 : Int32)) fun v4 => rt v4)
theorem im_X5_risk {g : GP} {l : Launch} (hl : l.stackTraces = false) (i0 : Nat) (a1 : Int32) : Im g l 2 yX5_risk cX5_risk 2 (some .int) eI [.ref (idc 4 i0), .int a1] (f_X5_risk i0 a1) := by
  refine tx_start hl 2 _ _ _ _ (by decide) (Nat.le_of_ble_eq_true rfl) fun Γ Z hΓ hZ => ?_
  subst hΓ
  unfold f_X5_risk
  show TX g Γ _ Z _ 0 [(0, .ref (idc 4 i0)), (1, .int a1)] [] _
  refine x_aload_n 0 0 dX5_risk_0 rfl ?_
  refine x_aload_n 1 0 dX5_risk_1 rfl ?_
  refine x_iload_n 2 1 dX5_risk_2 rfl ?_
  refine x_cV 3 1 [.int a1] [.ref (idc 4 i0)] ⟨by decide, rfl⟩ cv_X5_341 (im_X5_isAttempt hl i0 a1) (by decide) rfl (Nat.le_of_ble_eq_true rfl) dX5_risk_3 fun v1 => x_stI ?_
  refine x_cV 6 0 [.int v1] [] ⟨by decide, rfl⟩ cv_X5_251 (im_X5_may hl i0 v1) (by decide) rfl (Nat.le_of_ble_eq_true rfl) dX5_risk_6 fun v2 => x_stI ?_
  refine x_if_eq 9 21 dX5_risk_9 rfl (fun c3 => ?_) (fun c3 => ?_)
  · refine x_iconst 21 0 (0 : Int32) dX5_risk_21 rfl ?_
    exact x_iret 22 hZ rfl dX5_risk_22
  · refine x_aload_n 12 0 dX5_risk_12 rfl ?_
    refine x_iload_n 13 1 dX5_risk_13 rfl ?_
    refine x_iconst 14 0 (0 : Int32) dX5_risk_14 rfl ?_
    refine x_cV 15 1 [.int a1, .int (0 : Int32)] [] ⟨by decide, rfl⟩ cv_X5_322 (im_X5_riskOf hl i0 a1 (0 : Int32)) (by decide) rfl (Nat.le_of_ble_eq_true rfl) dX5_risk_15 fun v4 => x_stI ?_
    refine x_goto 18 22 dX5_risk_18 rfl ?_
    exact x_iret 22 hZ rfl dX5_risk_22
def f_X5_trialRisk (i0 : Nat) (a1 : Int32) : PT Int32 := bn0 (f_X5_isAttempt i0 a1) fun v1 => bn0 (f_X5_may i0 v1) fun v2 => cnd (v2 = 0) (rt (0 : Int32)) (bn0 (f_X5_riskOf i0 a1 (1 : Int32)) fun v4 => rt v4)
theorem im_X5_trialRisk {g : GP} {l : Launch} (hl : l.stackTraces = false) (i0 : Nat) (a1 : Int32) : Im g l 2 yX5_trialRisk cX5_trialRisk 2 (some .int) eI [.ref (idc 4 i0), .int a1] (f_X5_trialRisk i0 a1) := by
  refine tx_start hl 2 _ _ _ _ (by decide) (Nat.le_of_ble_eq_true rfl) fun Γ Z hΓ hZ => ?_
  subst hΓ
  unfold f_X5_trialRisk
  show TX g Γ _ Z _ 0 [(0, .ref (idc 4 i0)), (1, .int a1)] [] _
  refine x_aload_n 0 0 dX5_trialRisk_0 rfl ?_
  refine x_aload_n 1 0 dX5_trialRisk_1 rfl ?_
  refine x_iload_n 2 1 dX5_trialRisk_2 rfl ?_
  refine x_cV 3 1 [.int a1] [.ref (idc 4 i0)] ⟨by decide, rfl⟩ cv_X5_341 (im_X5_isAttempt hl i0 a1) (by decide) rfl (Nat.le_of_ble_eq_true rfl) dX5_trialRisk_3 fun v1 => x_stI ?_
  refine x_cV 6 0 [.int v1] [] ⟨by decide, rfl⟩ cv_X5_251 (im_X5_may hl i0 v1) (by decide) rfl (Nat.le_of_ble_eq_true rfl) dX5_trialRisk_6 fun v2 => x_stI ?_
  refine x_if_eq 9 21 dX5_trialRisk_9 rfl (fun c3 => ?_) (fun c3 => ?_)
  · refine x_iconst 21 0 (0 : Int32) dX5_trialRisk_21 rfl ?_
    exact x_iret 22 hZ rfl dX5_trialRisk_22
  · refine x_aload_n 12 0 dX5_trialRisk_12 rfl ?_
    refine x_iload_n 13 1 dX5_trialRisk_13 rfl ?_
    refine x_iconst 14 1 (1 : Int32) dX5_trialRisk_14 rfl ?_
    refine x_cV 15 1 [.int a1, .int (1 : Int32)] [] ⟨by decide, rfl⟩ cv_X5_322 (im_X5_riskOf hl i0 a1 (1 : Int32)) (by decide) rfl (Nat.le_of_ble_eq_true rfl) dX5_trialRisk_15 fun v4 => x_stI ?_
    refine x_goto 18 22 dX5_trialRisk_18 rfl ?_
    exact x_iret 22 hZ rfl dX5_trialRisk_22
def f_X5_sessions (i0 : Nat) : PT Int32 := pI 4 i0 82 (0 : Int32) <| gI 4 i0 30 fun v1 => rt v1
theorem im_X5_sessions {g : GP} {l : Launch} (hl : l.stackTraces = false) (i0 : Nat) : Im g l 0 yX5_sessions cX5_sessions 1 (some .int) eI [.ref (idc 4 i0)] (f_X5_sessions i0) := by
  refine tx_start hl 0 _ _ _ _ (by decide) (Nat.le_of_ble_eq_true rfl) fun Γ Z hΓ hZ => ?_
  subst hΓ
  unfold f_X5_sessions
  show TX g Γ _ Z _ 0 [(0, .ref (idc 4 i0))] [] _
  refine x_aload_n 0 0 dX5_sessions_0 rfl ?_
  refine x_iconst 1 0 (0 : Int32) dX5_sessions_1 rfl ?_
  refine x_putI 2 fa_X5_225_4 rfl (Or.inl rfl) dX5_sessions_2 ?_
  refine x_aload_n 5 0 dX5_sessions_5 rfl ?_
  refine x_getI 6 fa_X5_235_4 dX5_sessions_6 fun v1 => ?_
  exact x_iret 9 hZ rfl dX5_sessions_9
def f_X5_isSession (i0 : Nat) (a1 : Int32) : PT Int32 := gI 4 i0 30 fun v1 => bn0 (f_X5_isIn a1 (0 : Int32) (v1 - (1 : Int32))) fun v2 => asr (v2 = 0 ∨ v2 = 1) (rt v2)
theorem im_X5_isSession {g : GP} {l : Launch} (hl : l.stackTraces = false) (i0 : Nat) (a1 : Int32) : Im g l 1 yX5_isSession cX5_isSession 2 (some .boolean) eI [.ref (idc 4 i0), .int a1] (f_X5_isSession i0 a1) := by
  refine tx_start hl 1 _ _ _ _ (by decide) (Nat.le_of_ble_eq_true rfl) fun Γ Z hΓ hZ => ?_
  subst hΓ
  unfold f_X5_isSession
  show TX g Γ _ Z _ 0 [(0, .ref (idc 4 i0)), (1, .int a1)] [] _
  refine x_iload_n 0 1 dX5_isSession_0 rfl ?_
  refine x_iconst 1 0 (0 : Int32) dX5_isSession_1 rfl ?_
  refine x_aload_n 2 0 dX5_isSession_2 rfl ?_
  refine x_getI 3 fa_X5_235_4 dX5_isSession_3 fun v1 => ?_
  refine x_iconst 6 1 (1 : Int32) dX5_isSession_6 rfl ?_
  refine x_isub 7 dX5_isSession_7 ?_
  refine x_cS 8 0 [.int a1, .int (0 : Int32), .int (v1 - (1 : Int32))] [] cs_X5_228 (im_X5_isIn hl a1 (0 : Int32) (v1 - (1 : Int32))) (by decide) rfl (Nat.le_of_ble_eq_true rfl) dX5_isSession_8 fun v2 => x_stI ?_
  exact x_zret 11 hZ rfl dX5_isSession_11
def f_X5_isLive (i0 : Nat) (a1 : Int32) : PT Int32 := bn0 (f_X5_isSession i0 a1) fun v1 => bn0 (f_X5_may i0 v1) fun v2 => cnd (v2 = 0) (asr ((0 : Int32) = 0 ∨ (0 : Int32) = 1) (rt (0 : Int32))) (gR 4 i0 35 fun v4 => isK 33 v4 fun i5 => aI 33 i5 a1 fun v7 => cnd (v7 = 0) (asr ((0 : Int32) = 0 ∨ (0 : Int32) = 1) (rt (0 : Int32))) (asr ((1 : Int32) = 0 ∨ (1 : Int32) = 1) (rt (1 : Int32))))
theorem im_X5_isLive {g : GP} {l : Launch} (hl : l.stackTraces = false) (i0 : Nat) (a1 : Int32) : Im g l 2 yX5_isLive cX5_isLive 2 (some .boolean) eI [.ref (idc 4 i0), .int a1] (f_X5_isLive i0 a1) := by
  refine tx_start hl 2 _ _ _ _ (by decide) (Nat.le_of_ble_eq_true rfl) fun Γ Z hΓ hZ => ?_
  subst hΓ
  unfold f_X5_isLive
  show TX g Γ _ Z _ 0 [(0, .ref (idc 4 i0)), (1, .int a1)] [] _
  refine x_aload_n 0 0 dX5_isLive_0 rfl ?_
  refine x_aload_n 1 0 dX5_isLive_1 rfl ?_
  refine x_iload_n 2 1 dX5_isLive_2 rfl ?_
  refine x_cV 3 1 [.int a1] [.ref (idc 4 i0)] ⟨by decide, rfl⟩ cv_X5_352 (im_X5_isSession hl i0 a1) (by decide) rfl (Nat.le_of_ble_eq_true rfl) dX5_isLive_3 fun v1 => x_stI ?_
  refine x_cV 6 0 [.int v1] [] ⟨by decide, rfl⟩ cv_X5_251 (im_X5_may hl i0 v1) (by decide) rfl (Nat.le_of_ble_eq_true rfl) dX5_isLive_6 fun v2 => x_stI ?_
  refine x_if_eq 9 25 dX5_isLive_9 rfl (fun c3 => ?_) (fun c3 => ?_)
  · refine x_iconst 25 0 (0 : Int32) dX5_isLive_25 rfl ?_
    exact x_zret 26 hZ rfl dX5_isLive_26
  · refine x_aload_n 12 0 dX5_isLive_12 rfl ?_
    refine x_getR 13 fa_X5_104_4 dX5_isLive_13 fun v4 => ?_
    refine x_iload_n 16 1 dX5_isLive_16 rfl ?_
    refine x_isK fun i5 h6 => ?_
    subst h6
    refine x_zald 17 dX5_isLive_17 fun v7 => ?_
    refine x_if_eq 18 25 dX5_isLive_18 rfl (fun c8 => ?_) (fun c8 => ?_)
    · refine x_iconst 25 0 (0 : Int32) dX5_isLive_25 rfl ?_
      exact x_zret 26 hZ rfl dX5_isLive_26
    · refine x_iconst 21 1 (1 : Int32) dX5_isLive_21 rfl ?_
      refine x_goto 22 26 dX5_isLive_22 rfl ?_
      exact x_zret 26 hZ rfl dX5_isLive_26
def f_X5_isLiveByAudit (i0 : Nat) (a1 : Int32) : PT Int32 := bn0 (f_X5_isSession i0 a1) fun v1 => bn0 (f_X5_may i0 v1) fun v2 => cnd (v2 = 0) (asr ((0 : Int32) = 0 ∨ (0 : Int32) = 1) (rt (0 : Int32))) (lp (σ := Int32 × Int32) (fun r6 => un2 fun u4 u5 => gI 4 i0 77 fun v7 => cnd (v7 ≤ u5) (asr (u4 = 0 ∨ u4 = 1) (rt u4)) (gR 4 i0 79 fun v9 => isK 32 v9 fun i10 => aI 32 i10 u5 fun v12 => cnd (v12 = a1) (gR 4 i0 78 fun v14 => isK 32 v14 fun i15 => aI 32 i15 u5 fun v17 => cnd ((2 : Int32) ≤ v17) (r6 (u4, u5 + (1 : Int32))) (gR 4 i0 78 fun v19 => isK 32 v19 fun i20 => aI 32 i20 u5 fun v22 => cnd (v22 = 0) (r6 ((1 : Int32), u5 + (1 : Int32))) (r6 ((0 : Int32), u5 + (1 : Int32))))) (r6 (u4, u5 + (1 : Int32))))) ((0 : Int32), (0 : Int32)))
theorem im_X5_isLiveByAudit {g : GP} {l : Launch} (hl : l.stackTraces = false) (i0 : Nat) (a1 : Int32) : Im g l 2 yX5_isLiveByAudit cX5_isLiveByAudit 4 (some .boolean) eI [.ref (idc 4 i0), .int a1] (f_X5_isLiveByAudit i0 a1) := by
  refine tx_start hl 2 _ _ _ _ (by decide) (Nat.le_of_ble_eq_true rfl) fun Γ Z hΓ hZ => ?_
  subst hΓ
  unfold f_X5_isLiveByAudit
  show TX g Γ _ Z _ 0 [(0, .ref (idc 4 i0)), (1, .int a1)] [] _
  refine x_aload_n 0 0 dX5_isLiveByAudit_0 rfl ?_
  refine x_aload_n 1 0 dX5_isLiveByAudit_1 rfl ?_
  refine x_iload_n 2 1 dX5_isLiveByAudit_2 rfl ?_
  refine x_cV 3 1 [.int a1] [.ref (idc 4 i0)] ⟨by decide, rfl⟩ cv_X5_352 (im_X5_isSession hl i0 a1) (by decide) rfl (Nat.le_of_ble_eq_true rfl) dX5_isLiveByAudit_3 fun v1 => x_stI ?_
  refine x_cV 6 0 [.int v1] [] ⟨by decide, rfl⟩ cv_X5_251 (im_X5_may hl i0 v1) (by decide) rfl (Nat.le_of_ble_eq_true rfl) dX5_isLiveByAudit_6 fun v2 => x_stI ?_
  refine x_if_ne 9 14 dX5_isLiveByAudit_9 rfl (fun c3 => ?_) (fun c3 => ?_)
  · refine x_iconst 12 0 (0 : Int32) dX5_isLiveByAudit_12 rfl ?_
    exact x_zret 13 hZ rfl dX5_isLiveByAudit_13
  · refine x_iconst 14 0 (0 : Int32) dX5_isLiveByAudit_14 rfl ?_
    refine x_istore_n 15 [(2, .int (0 : Int32)), (0, .ref (idc 4 i0)), (1, .int a1)] dX5_isLiveByAudit_15 (by decide) rfl ?_
    refine x_iconst 16 0 (0 : Int32) dX5_isLiveByAudit_16 rfl ?_
    refine x_istore_n 17 [(3, .int (0 : Int32)), (2, .int (0 : Int32)), (0, .ref (idc 4 i0)), (1, .int a1)] dX5_isLiveByAudit_17 (by decide) rfl ?_
    refine x_sub [2, 3, 1, 0] [(0, .ref (idc 4 i0)), (1, .int a1), (2, .int (0 : Int32)), (3, .int (0 : Int32))] rfl ?_
    refine x_lp (Lf := fun u => [(0, .ref (idc 4 i0)), (1, .int a1), (2, .int u.1), (3, .int u.2)]) (sf := fun _ => []) (fun r6 hr6 u => ?_) ((0 : Int32), (0 : Int32))
    obtain ⟨u4, u5⟩ := u
    show TX g Γ _ Z _ 18 [(0, .ref (idc 4 i0)), (1, .int a1), (2, .int u4), (3, .int u5)] [] _
    refine x_un2 ?_
    refine x_iload_n 18 3 dX5_isLiveByAudit_18 rfl ?_
    refine x_aload_n 19 0 dX5_isLiveByAudit_19 rfl ?_
    refine x_getI 20 fa_X5_244_4 dX5_isLiveByAudit_20 fun v7 => ?_
    refine x_icmp_ge 23 71 dX5_isLiveByAudit_23 rfl (fun c8 => ?_) (fun c8 => ?_)
    · refine x_iload_n 71 2 dX5_isLiveByAudit_71 rfl ?_
      exact x_zret 72 hZ rfl dX5_isLiveByAudit_72
    · refine x_aload_n 26 0 dX5_isLiveByAudit_26 rfl ?_
      refine x_getR 27 fa_X5_216_4 dX5_isLiveByAudit_27 fun v9 => ?_
      refine x_iload_n 30 3 dX5_isLiveByAudit_30 rfl ?_
      refine x_isK fun i10 h11 => ?_
      subst h11
      refine x_iald 31 dX5_isLiveByAudit_31 fun v12 => ?_
      refine x_iload_n 32 1 dX5_isLiveByAudit_32 rfl ?_
      refine x_icmp_ne 33 63 dX5_isLiveByAudit_33 rfl (fun c13 => ?_) (fun c13 => ?_)
      · refine x_aload_n 36 0 dX5_isLiveByAudit_36 rfl ?_
        refine x_getR 37 fa_X5_213_4 dX5_isLiveByAudit_37 fun v14 => ?_
        refine x_iload_n 40 3 dX5_isLiveByAudit_40 rfl ?_
        refine x_isK fun i15 h16 => ?_
        subst h16
        refine x_iald 41 dX5_isLiveByAudit_41 fun v17 => ?_
        refine x_iconst 42 2 (2 : Int32) dX5_isLiveByAudit_42 rfl ?_
        refine x_icmp_ge 43 63 dX5_isLiveByAudit_43 rfl (fun c18 => ?_) (fun c18 => ?_)
        · refine x_iload_n 63 2 dX5_isLiveByAudit_63 rfl ?_
          refine x_istore_n 64 [(2, .int u4), (0, .ref (idc 4 i0)), (1, .int a1), (3, .int u5)] dX5_isLiveByAudit_64 (by decide) rfl ?_
          refine x_iinc 65 3 [(3, .int (u5 + (1 : Int32))), (2, .int u4), (0, .ref (idc 4 i0)), (1, .int a1)] dX5_isLiveByAudit_65 rfl rfl (by decide) rfl ?_
          refine x_goto 68 18 dX5_isLiveByAudit_68 rfl ?_
          refine x_sub [2, 3, 1, 0] _ rfl ?_
          exact hr6 (u4, u5 + (1 : Int32))
        · refine x_aload_n 46 0 dX5_isLiveByAudit_46 rfl ?_
          refine x_getR 47 fa_X5_213_4 dX5_isLiveByAudit_47 fun v19 => ?_
          refine x_iload_n 50 3 dX5_isLiveByAudit_50 rfl ?_
          refine x_isK fun i20 h21 => ?_
          subst h21
          refine x_iald 51 dX5_isLiveByAudit_51 fun v22 => ?_
          refine x_if_ne 52 59 dX5_isLiveByAudit_52 rfl (fun c23 => ?_) (fun c23 => ?_)
          · refine x_iconst 55 1 (1 : Int32) dX5_isLiveByAudit_55 rfl ?_
            refine x_goto 56 64 dX5_isLiveByAudit_56 rfl ?_
            refine x_istore_n 64 [(2, .int (1 : Int32)), (0, .ref (idc 4 i0)), (1, .int a1), (3, .int u5)] dX5_isLiveByAudit_64 (by decide) rfl ?_
            refine x_iinc 65 3 [(3, .int (u5 + (1 : Int32))), (2, .int (1 : Int32)), (0, .ref (idc 4 i0)), (1, .int a1)] dX5_isLiveByAudit_65 rfl rfl (by decide) rfl ?_
            refine x_goto 68 18 dX5_isLiveByAudit_68 rfl ?_
            refine x_sub [2, 3, 1, 0] _ rfl ?_
            exact hr6 ((1 : Int32), u5 + (1 : Int32))
          · refine x_iconst 59 0 (0 : Int32) dX5_isLiveByAudit_59 rfl ?_
            refine x_goto 60 64 dX5_isLiveByAudit_60 rfl ?_
            refine x_istore_n 64 [(2, .int (0 : Int32)), (0, .ref (idc 4 i0)), (1, .int a1), (3, .int u5)] dX5_isLiveByAudit_64 (by decide) rfl ?_
            refine x_iinc 65 3 [(3, .int (u5 + (1 : Int32))), (2, .int (0 : Int32)), (0, .ref (idc 4 i0)), (1, .int a1)] dX5_isLiveByAudit_65 rfl rfl (by decide) rfl ?_
            refine x_goto 68 18 dX5_isLiveByAudit_68 rfl ?_
            refine x_sub [2, 3, 1, 0] _ rfl ?_
            exact hr6 ((0 : Int32), u5 + (1 : Int32))
      · refine x_iload_n 63 2 dX5_isLiveByAudit_63 rfl ?_
        refine x_istore_n 64 [(2, .int u4), (0, .ref (idc 4 i0)), (1, .int a1), (3, .int u5)] dX5_isLiveByAudit_64 (by decide) rfl ?_
        refine x_iinc 65 3 [(3, .int (u5 + (1 : Int32))), (2, .int u4), (0, .ref (idc 4 i0)), (1, .int a1)] dX5_isLiveByAudit_65 rfl rfl (by decide) rfl ?_
        refine x_goto 68 18 dX5_isLiveByAudit_68 rfl ?_
        refine x_sub [2, 3, 1, 0] _ rfl ?_
        exact hr6 (u4, u5 + (1 : Int32))
def f_X5_levelNow (i0 : Nat) (a1 : Int32) : PT Int32 := bnd (lp (σ := Int32 × Int32) (ρ := Int32) (fun r3 => un2 fun u1 u2 => cnd ((3 : Int32) ≤ u2) (rt u1) (gR 4 i0 36 fun v7 => isK 32 v7 fun i8 => aI 32 i8 (((3 : Int32) * a1) + u2) fun v10 => jo (σ := Int32) (fun u11 => r3 (u1 ||| (0 : Int32), u11 + (1 : Int32))) fun j13 => cnd (v10 = (-1 : Int32)) (j13 u2) (gI 4 i0 0 fun v15 => cnd ((120 : Int32) < (v15 - v10)) (j13 u2) (r3 (u1 ||| ((1 : Int32) <<< (u2 &&& 31)), u2 + (1 : Int32)))))) ((0 : Int32), (0 : Int32))) (fun u4 => bn0 (f_X5_levelOf u4) fun v17 => rt v17)
theorem im_X5_levelNow {g : GP} {l : Launch} (hl : l.stackTraces = false) (i0 : Nat) (a1 : Int32) : Im g l 1 yX5_levelNow cX5_levelNow 5 (some .int) eI [.ref (idc 4 i0), .int a1] (f_X5_levelNow i0 a1) := by
  refine tx_start hl 1 _ _ _ _ (by decide) (Nat.le_of_ble_eq_true rfl) fun Γ Z hΓ hZ => ?_
  subst hΓ
  unfold f_X5_levelNow
  show TX g Γ _ Z _ 0 [(0, .ref (idc 4 i0)), (1, .int a1)] [] _
  refine x_iconst 0 0 (0 : Int32) dX5_levelNow_0 rfl ?_
  refine x_istore_n 1 [(2, .int (0 : Int32)), (0, .ref (idc 4 i0)), (1, .int a1)] dX5_levelNow_1 (by decide) rfl ?_
  refine x_iconst 2 0 (0 : Int32) dX5_levelNow_2 rfl ?_
  refine x_istore_n 3 [(3, .int (0 : Int32)), (2, .int (0 : Int32)), (0, .ref (idc 4 i0)), (1, .int a1)] dX5_levelNow_3 (by decide) rfl ?_
  refine x_sub [2, 3, 1, 0] [(0, .ref (idc 4 i0)), (1, .int a1), (2, .int (0 : Int32)), (3, .int (0 : Int32))] rfl ?_
  refine x_bndj 55 (fun u4 => [(2, .int u4)]) (fun u4 => []) (fun u4 => ?_) (fun hj5 => ?_)
  · show TX g Γ _ Z _ 55 [(2, .int u4)] [] _
    refine x_iload_n 55 0 dX5_levelNow_55 rfl ?_
    refine x_cS 56 0 [.int u4] [] cs_X5_309 (im_X5_levelOf hl u4) (by decide) rfl (Nat.le_of_ble_eq_true rfl) dX5_levelNow_56 fun v17 => x_stI ?_
    exact x_iret 59 hZ rfl dX5_levelNow_59
  · refine x_lp (Lf := fun u => [(0, .ref (idc 4 i0)), (1, .int a1), (2, .int u.1), (3, .int u.2)]) (sf := fun _ => []) (fun r3 hr3 u => ?_) ((0 : Int32), (0 : Int32))
    obtain ⟨u1, u2⟩ := u
    show TX g Γ _ Z _ 4 [(0, .ref (idc 4 i0)), (1, .int a1), (2, .int u1), (3, .int u2)] [] _
    refine x_un2 ?_
    refine x_iload_n 4 3 dX5_levelNow_4 rfl ?_
    refine x_iconst 5 3 (3 : Int32) dX5_levelNow_5 rfl ?_
    refine x_icmp_ge 6 55 dX5_levelNow_6 rfl (fun c6 => ?_) (fun c6 => ?_)
    · refine x_sub [2] _ rfl ?_
      exact hj5 u1
    · refine x_aload_n 9 0 dX5_levelNow_9 rfl ?_
      refine x_getR 10 fa_X5_107_4 dX5_levelNow_10 fun v7 => ?_
      refine x_iconst 13 3 (3 : Int32) dX5_levelNow_13 rfl ?_
      refine x_iload_n 14 1 dX5_levelNow_14 rfl ?_
      refine x_imul 15 dX5_levelNow_15 ?_
      refine x_iload_n 16 3 dX5_levelNow_16 rfl ?_
      refine x_iadd 17 dX5_levelNow_17 ?_
      refine x_isK fun i8 h9 => ?_
      subst h9
      refine x_iald 18 dX5_levelNow_18 fun v10 => ?_
      refine x_istore 19 [(4, .int v10), (0, .ref (idc 4 i0)), (1, .int a1), (2, .int u1), (3, .int u2)] dX5_levelNow_19 (by decide) rfl ?_
      refine x_iload_n 21 3 dX5_levelNow_21 rfl ?_
      refine x_iload 22 0 dX5_levelNow_22 rfl ?_
      refine x_iconst 24 (-1) (-1 : Int32) dX5_levelNow_24 rfl ?_
      refine x_jo 46 (Lf := fun u11 => [(0, .ref (idc 4 i0)), (1, .int a1), (3, .int u11)]) (sf := fun u11 => [.int u1]) (fun u11 => ?_) (fun j13 hj12 => ?_)
      · show TX g Γ _ Z _ 46 [(0, .ref (idc 4 i0)), (1, .int a1), (3, .int u11)] [.int u1] _
        refine x_iconst 46 0 (0 : Int32) dX5_levelNow_46 rfl ?_
        refine x_ior 47 dX5_levelNow_47 ?_
        refine x_istore_n 48 [(2, .int (u1 ||| (0 : Int32))), (0, .ref (idc 4 i0)), (1, .int a1), (3, .int u11)] dX5_levelNow_48 (by decide) rfl ?_
        refine x_iinc 49 3 [(3, .int (u11 + (1 : Int32))), (2, .int (u1 ||| (0 : Int32))), (0, .ref (idc 4 i0)), (1, .int a1)] dX5_levelNow_49 rfl rfl (by decide) rfl ?_
        refine x_goto 52 4 dX5_levelNow_52 rfl ?_
        refine x_sub [2, 3, 1, 0] _ rfl ?_
        exact hr3 (u1 ||| (0 : Int32), u11 + (1 : Int32))
      · refine x_icmp_eq 25 46 dX5_levelNow_25 rfl (fun c14 => ?_) (fun c14 => ?_)
        · refine x_sub [1, 2, 4] _ rfl ?_
          exact hj12 u2
        · refine x_aload_n 28 1 dX5_levelNow_28 rfl ?_
          refine x_getI 29 fa_X5_247_4 dX5_levelNow_29 fun v15 => ?_
          refine x_iload 32 0 dX5_levelNow_32 rfl ?_
          refine x_isub 34 dX5_levelNow_34 ?_
          refine x_bipush 35 120 (120 : Int32) dX5_levelNow_35 rfl ?_
          refine x_icmp_gt 37 46 dX5_levelNow_37 rfl (fun c16 => ?_) (fun c16 => ?_)
          · refine x_sub [1, 2, 4] _ rfl ?_
            exact hj12 u2
          · refine x_iconst 40 1 (1 : Int32) dX5_levelNow_40 rfl ?_
            refine x_iload_n 41 4 dX5_levelNow_41 rfl ?_
            refine x_ishl 42 dX5_levelNow_42 ?_
            refine x_goto 43 47 dX5_levelNow_43 rfl ?_
            refine x_ior 47 dX5_levelNow_47 ?_
            refine x_istore_n 48 [(2, .int (u1 ||| ((1 : Int32) <<< (u2 &&& 31)))), (4, .int v10), (0, .ref (idc 4 i0)), (1, .int a1), (3, .int u2)] dX5_levelNow_48 (by decide) rfl ?_
            refine x_iinc 49 4 [(3, .int (u2 + (1 : Int32))), (2, .int (u1 ||| ((1 : Int32) <<< (u2 &&& 31)))), (4, .int v10), (0, .ref (idc 4 i0)), (1, .int a1)] dX5_levelNow_49 rfl rfl (by decide) rfl ?_
            refine x_goto 52 4 dX5_levelNow_52 rfl ?_
            refine x_sub [3, 4, 1, 0] _ rfl ?_
            exact hr3 (u1 ||| ((1 : Int32) <<< (u2 &&& 31)), u2 + (1 : Int32))
def f_X5_level (i0 : Nat) (a1 : Int32) : PT Int32 := bn0 (f_X5_isSession i0 a1) fun v1 => bn0 (f_X5_may i0 v1) fun v2 => cnd (v2 = 0) (rt (0 : Int32)) (bn0 (f_X5_levelNow i0 a1) fun v4 => rt v4)
theorem im_X5_level {g : GP} {l : Launch} (hl : l.stackTraces = false) (i0 : Nat) (a1 : Int32) : Im g l 2 yX5_level cX5_level 2 (some .int) eI [.ref (idc 4 i0), .int a1] (f_X5_level i0 a1) := by
  refine tx_start hl 2 _ _ _ _ (by decide) (Nat.le_of_ble_eq_true rfl) fun Γ Z hΓ hZ => ?_
  subst hΓ
  unfold f_X5_level
  show TX g Γ _ Z _ 0 [(0, .ref (idc 4 i0)), (1, .int a1)] [] _
  refine x_aload_n 0 0 dX5_level_0 rfl ?_
  refine x_aload_n 1 0 dX5_level_1 rfl ?_
  refine x_iload_n 2 1 dX5_level_2 rfl ?_
  refine x_cV 3 1 [.int a1] [.ref (idc 4 i0)] ⟨by decide, rfl⟩ cv_X5_352 (im_X5_isSession hl i0 a1) (by decide) rfl (Nat.le_of_ble_eq_true rfl) dX5_level_3 fun v1 => x_stI ?_
  refine x_cV 6 0 [.int v1] [] ⟨by decide, rfl⟩ cv_X5_251 (im_X5_may hl i0 v1) (by decide) rfl (Nat.le_of_ble_eq_true rfl) dX5_level_6 fun v2 => x_stI ?_
  refine x_if_eq 9 20 dX5_level_9 rfl (fun c3 => ?_) (fun c3 => ?_)
  · refine x_iconst 20 0 (0 : Int32) dX5_level_20 rfl ?_
    exact x_iret 21 hZ rfl dX5_level_21
  · refine x_aload_n 12 0 dX5_level_12 rfl ?_
    refine x_iload_n 13 1 dX5_level_13 rfl ?_
    refine x_cV 14 1 [.int a1] [] ⟨by decide, rfl⟩ cv_X5_355 (im_X5_levelNow hl i0 a1) (by decide) rfl (Nat.le_of_ble_eq_true rfl) dX5_level_14 fun v4 => x_stI ?_
    refine x_goto 17 21 dX5_level_17 rfl ?_
    exact x_iret 21 hZ rfl dX5_level_21
def f_X5_stepUp (i0 : Nat) (a1 : Int32) (a2 : Int32) (a3 : Int32) (a4 : Int32) : PT Int32 := bn0 (f_X5_isSession i0 a1) fun v1 => bn0 (f_X5_isFactor a2) fun v2 => bnd (ρ := _) (α := Int32) (jo (σ := Unit) (fun _ => rt (0 : Int32)) fun j39 => cnd (v2 = 0) (j39 ()) (bn0 (f_X5_isIn a4 (0 : Int32) (9999 : Int32)) fun v41 => cnd (v41 = 0) (j39 ()) (rt (1 : Int32)))) (fun u3 => bnd (ρ := _) (α := Int32) (jo (σ := Unit) (fun _ => rt (0 : Int32)) fun j25 => cnd (v1 = 0) (j25 ()) (gR 4 i0 35 fun v27 => isK 33 v27 fun i28 => aI 33 i28 a1 fun v30 => cnd (v30 = 0) (j25 ()) (gR 4 i0 34 fun v32 => isK 32 v32 fun i33 => aI 32 i33 a1 fun v35 => cnd (v35 = (-1 : Int32)) (rt (1 : Int32)) (j25 ())))) (fun u4 => bn0 (f_X5_mayAll i0 v1 u3 u4) fun v5 => cnd (v5 = 0) (rt (0 : Int32)) (gR 4 i0 33 fun v7 => gI 4 i0 0 fun v8 => isK 32 v7 fun i9 => bI 32 i9 a1 v8 <| gR 4 i0 31 fun v11 => isK 32 v11 fun i12 => aI 32 i12 a1 fun v14 => bn0 (f_X5_answers i0 v14 a2 a3 a4) fun v15 => bnd (ρ := _) (α := Unit) (cnd (v15 = 0) (rt ()) (gR 4 i0 36 fun v19 => gI 4 i0 0 fun v20 => isK 32 v19 fun i21 => bI 32 i21 (((3 : Int32) * a1) + a2) v20 <| rt ())) (fun _ => bn0 (f_X5_levelNow i0 a1) fun v16 => rt v16))))
theorem im_X5_stepUp {g : GP} {l : Launch} (hl : l.stackTraces = false) (i0 : Nat) (a1 : Int32) (a2 : Int32) (a3 : Int32) (a4 : Int32) : Im g l 3 yX5_stepUp cX5_stepUp 6 (some .int) eI [.ref (idc 4 i0), .int a1, .int a2, .int a3, .int a4] (f_X5_stepUp i0 a1 a2 a3 a4) := by
  refine tx_start hl 3 _ _ _ _ (by decide) (Nat.le_of_ble_eq_true rfl) fun Γ Z hΓ hZ => ?_
  subst hΓ
  unfold f_X5_stepUp
  show TX g Γ _ Z _ 0 [(0, .ref (idc 4 i0)), (1, .int a1), (2, .int a2), (3, .int a3), (4, .int a4)] [] _
  refine x_aload_n 0 0 dX5_stepUp_0 rfl ?_
  refine x_iload_n 1 1 dX5_stepUp_1 rfl ?_
  refine x_cV 2 1 [.int a1] [] ⟨by decide, rfl⟩ cv_X5_352 (im_X5_isSession hl i0 a1) (by decide) rfl (Nat.le_of_ble_eq_true rfl) dX5_stepUp_2 fun v1 => x_stI ?_
  refine x_istore 5 [(5, .int v1), (0, .ref (idc 4 i0)), (1, .int a1), (2, .int a2), (3, .int a3), (4, .int a4)] dX5_stepUp_5 (by decide) rfl ?_
  refine x_aload_n 7 1 dX5_stepUp_7 rfl ?_
  refine x_iload 8 0 dX5_stepUp_8 rfl ?_
  refine x_iload_n 10 3 dX5_stepUp_10 rfl ?_
  refine x_cS 11 1 [.int a2] [.int v1, .ref (idc 4 i0)] cs_X5_288 (im_X5_isFactor hl a2) (by decide) rfl (Nat.le_of_ble_eq_true rfl) dX5_stepUp_11 fun v2 => x_stI ?_
  refine x_bndj 34 (fun u3 => [(0, .ref (idc 4 i0)), (1, .int a1), (2, .int a2), (3, .int a3), (4, .int a4), (5, .int v1)]) (fun u3 => [.int u3, .int v1, .ref (idc 4 i0)]) (fun u3 => ?_) (fun hj37 => ?_)
  · show TX g Γ _ Z _ 34 [(0, .ref (idc 4 i0)), (1, .int a1), (2, .int a2), (3, .int a3), (4, .int a4), (5, .int v1)] [.int u3, .int v1, .ref (idc 4 i0)] _
    refine x_iload 34 5 dX5_stepUp_34 rfl ?_
    refine x_bndj 63 (fun u4 => [(0, .ref (idc 4 i0)), (1, .int a1), (2, .int a2), (3, .int a3), (4, .int a4)]) (fun u4 => [.int u4, .int u3, .int v1, .ref (idc 4 i0)]) (fun u4 => ?_) (fun hj23 => ?_)
    · show TX g Γ _ Z _ 63 [(0, .ref (idc 4 i0)), (1, .int a1), (2, .int a2), (3, .int a3), (4, .int a4)] [.int u4, .int u3, .int v1, .ref (idc 4 i0)] _
      refine x_cV 63 0 [.int v1, .int u3, .int u4] [] ⟨by decide, rfl⟩ cv_X5_344 (im_X5_mayAll hl i0 v1 u3 u4) (by decide) rfl (Nat.le_of_ble_eq_true rfl) dX5_stepUp_63 fun v5 => x_stI ?_
      refine x_if_ne 66 71 dX5_stepUp_66 rfl (fun c6 => ?_) (fun c6 => ?_)
      · refine x_iconst 69 0 (0 : Int32) dX5_stepUp_69 rfl ?_
        exact x_iret 70 hZ rfl dX5_stepUp_70
      · refine x_aload_n 71 0 dX5_stepUp_71 rfl ?_
        refine x_getR 72 fa_X5_98_4 dX5_stepUp_72 fun v7 => ?_
        refine x_iload_n 75 1 dX5_stepUp_75 rfl ?_
        refine x_aload_n 76 0 dX5_stepUp_76 rfl ?_
        refine x_getI 77 fa_X5_247_4 dX5_stepUp_77 fun v8 => ?_
        refine x_isK fun i9 h10 => ?_
        subst h10
        refine x_iast 80 dX5_stepUp_80 ?_
        refine x_aload_n 81 0 dX5_stepUp_81 rfl ?_
        refine x_aload_n 82 0 dX5_stepUp_82 rfl ?_
        refine x_getR 83 fa_X5_92_4 dX5_stepUp_83 fun v11 => ?_
        refine x_iload_n 86 1 dX5_stepUp_86 rfl ?_
        refine x_isK fun i12 h13 => ?_
        subst h13
        refine x_iald 87 dX5_stepUp_87 fun v14 => ?_
        refine x_iload_n 88 2 dX5_stepUp_88 rfl ?_
        refine x_iload_n 89 3 dX5_stepUp_89 rfl ?_
        refine x_iload 90 4 dX5_stepUp_90 rfl ?_
        refine x_cV 92 2 [.int v14, .int a2, .int a3, .int a4] [] ⟨by decide, rfl⟩ cv_X5_348 (im_X5_answers hl i0 v14 a2 a3 a4) (by decide) rfl (Nat.le_of_ble_eq_true rfl) dX5_stepUp_92 fun v15 => x_stI ?_
        refine x_bndj 112 (fun _ => [(0, .ref (idc 4 i0)), (1, .int a1)]) (fun _ => []) (fun _ => ?_) (fun hj17 => ?_)
        · show TX g Γ _ Z _ 112 [(0, .ref (idc 4 i0)), (1, .int a1)] [] _
          refine x_aload_n 112 0 dX5_stepUp_112 rfl ?_
          refine x_iload_n 113 1 dX5_stepUp_113 rfl ?_
          refine x_cV 114 1 [.int a1] [] ⟨by decide, rfl⟩ cv_X5_355 (im_X5_levelNow hl i0 a1) (by decide) rfl (Nat.le_of_ble_eq_true rfl) dX5_stepUp_114 fun v16 => x_stI ?_
          exact x_iret 117 hZ rfl dX5_stepUp_117
        · refine x_if_eq 95 112 dX5_stepUp_95 rfl (fun c18 => ?_) (fun c18 => ?_)
          · refine x_sub [0, 1] _ rfl ?_
            exact hj17 ()
          · refine x_aload_n 98 0 dX5_stepUp_98 rfl ?_
            refine x_getR 99 fa_X5_107_4 dX5_stepUp_99 fun v19 => ?_
            refine x_iconst 102 3 (3 : Int32) dX5_stepUp_102 rfl ?_
            refine x_iload_n 103 1 dX5_stepUp_103 rfl ?_
            refine x_imul 104 dX5_stepUp_104 ?_
            refine x_iload_n 105 2 dX5_stepUp_105 rfl ?_
            refine x_iadd 106 dX5_stepUp_106 ?_
            refine x_aload_n 107 0 dX5_stepUp_107 rfl ?_
            refine x_getI 108 fa_X5_247_4 dX5_stepUp_108 fun v20 => ?_
            refine x_isK fun i21 h22 => ?_
            subst h22
            refine x_iast 111 dX5_stepUp_111 ?_
            refine x_sub [0, 1] _ rfl ?_
            exact hj17 ()
    · refine x_jo 62 (Lf := fun _ => [(0, .ref (idc 4 i0)), (1, .int a1), (2, .int a2), (3, .int a3), (4, .int a4)]) (sf := fun _ => [.int u3, .int v1, .ref (idc 4 i0)]) (fun _ => ?_) (fun j25 hj24 => ?_)
      · show TX g Γ _ Z _ 62 [(0, .ref (idc 4 i0)), (1, .int a1), (2, .int a2), (3, .int a3), (4, .int a4)] [.int u3, .int v1, .ref (idc 4 i0)] _
        refine x_iconst 62 0 (0 : Int32) dX5_stepUp_62 rfl ?_
        exact hj23 (0 : Int32)
      · refine x_if_eq 36 62 dX5_stepUp_36 rfl (fun c26 => ?_) (fun c26 => ?_)
        · refine x_sub [0, 1, 2, 3, 4] _ rfl ?_
          exact hj24 ()
        · refine x_aload_n 39 0 dX5_stepUp_39 rfl ?_
          refine x_getR 40 fa_X5_104_4 dX5_stepUp_40 fun v27 => ?_
          refine x_iload_n 43 1 dX5_stepUp_43 rfl ?_
          refine x_isK fun i28 h29 => ?_
          subst h29
          refine x_zald 44 dX5_stepUp_44 fun v30 => ?_
          refine x_if_eq 45 62 dX5_stepUp_45 rfl (fun c31 => ?_) (fun c31 => ?_)
          · refine x_sub [0, 1, 2, 3, 4] _ rfl ?_
            exact hj24 ()
          · refine x_aload_n 48 0 dX5_stepUp_48 rfl ?_
            refine x_getR 49 fa_X5_101_4 dX5_stepUp_49 fun v32 => ?_
            refine x_iload_n 52 1 dX5_stepUp_52 rfl ?_
            refine x_isK fun i33 h34 => ?_
            subst h34
            refine x_iald 53 dX5_stepUp_53 fun v35 => ?_
            refine x_iconst 54 (-1) (-1 : Int32) dX5_stepUp_54 rfl ?_
            refine x_icmp_ne 55 62 dX5_stepUp_55 rfl (fun c36 => ?_) (fun c36 => ?_)
            · refine x_iconst 58 1 (1 : Int32) dX5_stepUp_58 rfl ?_
              refine x_goto 59 63 dX5_stepUp_59 rfl ?_
              refine x_sub [0, 1, 2, 3, 4] _ rfl ?_
              exact hj23 (1 : Int32)
            · refine x_sub [0, 1, 2, 3, 4] _ rfl ?_
              exact hj24 ()
  · refine x_jo 33 (Lf := fun _ => [(0, .ref (idc 4 i0)), (1, .int a1), (2, .int a2), (3, .int a3), (4, .int a4), (5, .int v1)]) (sf := fun _ => [.int v1, .ref (idc 4 i0)]) (fun _ => ?_) (fun j39 hj38 => ?_)
    · show TX g Γ _ Z _ 33 [(0, .ref (idc 4 i0)), (1, .int a1), (2, .int a2), (3, .int a3), (4, .int a4), (5, .int v1)] [.int v1, .ref (idc 4 i0)] _
      refine x_iconst 33 0 (0 : Int32) dX5_stepUp_33 rfl ?_
      exact hj37 (0 : Int32)
    · refine x_if_eq 14 33 dX5_stepUp_14 rfl (fun c40 => ?_) (fun c40 => ?_)
      · refine x_sub [1, 2, 3, 4, 5, 0] _ rfl ?_
        exact hj38 ()
      · refine x_iload 17 5 dX5_stepUp_17 rfl ?_
        refine x_iconst 19 0 (0 : Int32) dX5_stepUp_19 rfl ?_
        refine x_sipush 20 9999 (9999 : Int32) dX5_stepUp_20 rfl ?_
        refine x_cS 23 0 [.int a4, .int (0 : Int32), .int (9999 : Int32)] [.int v1, .ref (idc 4 i0)] cs_X5_228 (im_X5_isIn hl a4 (0 : Int32) (9999 : Int32)) (by decide) rfl (Nat.le_of_ble_eq_true rfl) dX5_stepUp_23 fun v41 => x_stI ?_
        refine x_if_eq 26 33 dX5_stepUp_26 rfl (fun c42 => ?_) (fun c42 => ?_)
        · refine x_sub [1, 2, 3, 4, 5, 0] _ rfl ?_
          exact hj38 ()
        · refine x_iconst 29 1 (1 : Int32) dX5_stepUp_29 rfl ?_
          refine x_goto 30 34 dX5_stepUp_30 rfl ?_
          refine x_sub [1, 2, 3, 4, 5, 0] _ rfl ?_
          exact hj37 (1 : Int32)
def f_X5_signOut (i0 : Nat) (a1 : Int32) : PT Int32 := bn0 (f_X5_isSession i0 a1) fun v1 => bnd (ρ := _) (α := Int32) (jo (σ := Unit) (fun _ => rt (0 : Int32)) fun j8 => cnd (v1 = 0) (j8 ()) (gR 4 i0 35 fun v10 => isK 33 v10 fun i11 => aI 33 i11 a1 fun v13 => cnd (v13 = 0) (j8 ()) (rt (1 : Int32)))) (fun u2 => bn0 (f_X5_mayBoth i0 v1 u2) fun v3 => cnd (v3 = 0) (rt (0 : Int32)) (bn0 (f_X5_endSession i0 a1) fun v5 => rt v5))
theorem im_X5_signOut {g : GP} {l : Launch} (hl : l.stackTraces = false) (i0 : Nat) (a1 : Int32) : Im g l 4 yX5_signOut cX5_signOut 3 (some .int) eI [.ref (idc 4 i0), .int a1] (f_X5_signOut i0 a1) := by
  refine tx_start hl 4 _ _ _ _ (by decide) (Nat.le_of_ble_eq_true rfl) fun Γ Z hΓ hZ => ?_
  subst hΓ
  unfold f_X5_signOut
  show TX g Γ _ Z _ 0 [(0, .ref (idc 4 i0)), (1, .int a1)] [] _
  refine x_aload_n 0 0 dX5_signOut_0 rfl ?_
  refine x_iload_n 1 1 dX5_signOut_1 rfl ?_
  refine x_cV 2 1 [.int a1] [] ⟨by decide, rfl⟩ cv_X5_352 (im_X5_isSession hl i0 a1) (by decide) rfl (Nat.le_of_ble_eq_true rfl) dX5_signOut_2 fun v1 => x_stI ?_
  refine x_istore_n 5 [(2, .int v1), (0, .ref (idc 4 i0)), (1, .int a1)] dX5_signOut_5 (by decide) rfl ?_
  refine x_aload_n 6 1 dX5_signOut_6 rfl ?_
  refine x_iload_n 7 0 dX5_signOut_7 rfl ?_
  refine x_iload_n 8 0 dX5_signOut_8 rfl ?_
  refine x_bndj 26 (fun u2 => [(0, .ref (idc 4 i0)), (1, .int a1)]) (fun u2 => [.int u2, .int v1, .ref (idc 4 i0)]) (fun u2 => ?_) (fun hj6 => ?_)
  · show TX g Γ _ Z _ 26 [(0, .ref (idc 4 i0)), (1, .int a1)] [.int u2, .int v1, .ref (idc 4 i0)] _
    refine x_cV 26 0 [.int v1, .int u2] [] ⟨by decide, rfl⟩ cv_X5_274 (im_X5_mayBoth hl i0 v1 u2) (by decide) rfl (Nat.le_of_ble_eq_true rfl) dX5_signOut_26 fun v3 => x_stI ?_
    refine x_if_eq 29 40 dX5_signOut_29 rfl (fun c4 => ?_) (fun c4 => ?_)
    · refine x_iconst 40 0 (0 : Int32) dX5_signOut_40 rfl ?_
      exact x_iret 41 hZ rfl dX5_signOut_41
    · refine x_aload_n 32 0 dX5_signOut_32 rfl ?_
      refine x_iload_n 33 1 dX5_signOut_33 rfl ?_
      refine x_cV 34 3 [.int a1] [] ⟨by decide, rfl⟩ cv_X5_270 (im_X5_endSession hl i0 a1) (by decide) rfl (Nat.le_of_ble_eq_true rfl) dX5_signOut_34 fun v5 => x_stI ?_
      refine x_goto 37 41 dX5_signOut_37 rfl ?_
      exact x_iret 41 hZ rfl dX5_signOut_41
  · refine x_jo 25 (Lf := fun _ => [(0, .ref (idc 4 i0)), (1, .int a1)]) (sf := fun _ => [.int v1, .ref (idc 4 i0)]) (fun _ => ?_) (fun j8 hj7 => ?_)
    · show TX g Γ _ Z _ 25 [(0, .ref (idc 4 i0)), (1, .int a1)] [.int v1, .ref (idc 4 i0)] _
      refine x_iconst 25 0 (0 : Int32) dX5_signOut_25 rfl ?_
      exact hj6 (0 : Int32)
    · refine x_if_eq 9 25 dX5_signOut_9 rfl (fun c9 => ?_) (fun c9 => ?_)
      · refine x_sub [1, 2] _ rfl ?_
        exact hj7 ()
      · refine x_aload_n 12 1 dX5_signOut_12 rfl ?_
        refine x_getR 13 fa_X5_104_4 dX5_signOut_13 fun v10 => ?_
        refine x_iload_n 16 2 dX5_signOut_16 rfl ?_
        refine x_isK fun i11 h12 => ?_
        subst h12
        refine x_zald 17 dX5_signOut_17 fun v13 => ?_
        refine x_if_eq 18 25 dX5_signOut_18 rfl (fun c14 => ?_) (fun c14 => ?_)
        · refine x_sub [1, 2] _ rfl ?_
          exact hj7 ()
        · refine x_iconst 21 1 (1 : Int32) dX5_signOut_21 rfl ?_
          refine x_goto 22 26 dX5_signOut_22 rfl ?_
          refine x_sub [1, 2] _ rfl ?_
          exact hj6 (1 : Int32)
def f_X5_helper (i0 : Nat) (a1 : Int32) : PT Int32 := bn0 (f_X5_isSix a1) fun v1 => bn0 (f_X5_may i0 v1) fun v2 => cnd (v2 = 0) (asr ((0 : Int32) = 0 ∨ (0 : Int32) = 1) (rt (0 : Int32))) (gR 4 i0 8 fun v4 => gR 4 i0 8 fun v5 => isK 33 v5 fun i6 => aI 33 i6 a1 fun v8 => bnd (ρ := _) (α := Int32) (cnd (v8 = 0) (rt (1 : Int32)) (rt (0 : Int32))) (fun u9 => isK 33 v4 fun i10 => bZ 33 i10 a1 u9 <| gR 4 i0 8 fun v12 => isK 33 v12 fun i13 => aI 33 i13 a1 fun v15 => asr (v15 = 0 ∨ v15 = 1) (rt v15)))
theorem im_X5_helper {g : GP} {l : Launch} (hl : l.stackTraces = false) (i0 : Nat) (a1 : Int32) : Im g l 2 yX5_helper cX5_helper 2 (some .boolean) eI [.ref (idc 4 i0), .int a1] (f_X5_helper i0 a1) := by
  refine tx_start hl 2 _ _ _ _ (by decide) (Nat.le_of_ble_eq_true rfl) fun Γ Z hΓ hZ => ?_
  subst hΓ
  unfold f_X5_helper
  show TX g Γ _ Z _ 0 [(0, .ref (idc 4 i0)), (1, .int a1)] [] _
  refine x_aload_n 0 0 dX5_helper_0 rfl ?_
  refine x_iload_n 1 1 dX5_helper_1 rfl ?_
  refine x_cS 2 1 [.int a1] [.ref (idc 4 i0)] cs_X5_284 (im_X5_isSix hl a1) (by decide) rfl (Nat.le_of_ble_eq_true rfl) dX5_helper_2 fun v1 => x_stI ?_
  refine x_cV 5 0 [.int v1] [] ⟨by decide, rfl⟩ cv_X5_251 (im_X5_may hl i0 v1) (by decide) rfl (Nat.le_of_ble_eq_true rfl) dX5_helper_5 fun v2 => x_stI ?_
  refine x_if_ne 8 13 dX5_helper_8 rfl (fun c3 => ?_) (fun c3 => ?_)
  · refine x_iconst 11 0 (0 : Int32) dX5_helper_11 rfl ?_
    exact x_zret 12 hZ rfl dX5_helper_12
  · refine x_aload_n 13 0 dX5_helper_13 rfl ?_
    refine x_getR 14 fa_X5_32_4 dX5_helper_14 fun v4 => ?_
    refine x_iload_n 17 1 dX5_helper_17 rfl ?_
    refine x_aload_n 18 0 dX5_helper_18 rfl ?_
    refine x_getR 19 fa_X5_32_4 dX5_helper_19 fun v5 => ?_
    refine x_iload_n 22 1 dX5_helper_22 rfl ?_
    refine x_isK fun i6 h7 => ?_
    subst h7
    refine x_zald 23 dX5_helper_23 fun v8 => ?_
    refine x_bndj 32 (fun u9 => [(0, .ref (idc 4 i0)), (1, .int a1)]) (fun u9 => [.int u9, .int a1, .ref v4]) (fun u9 => ?_) (fun hj16 => ?_)
    · show TX g Γ _ Z _ 32 [(0, .ref (idc 4 i0)), (1, .int a1)] [.int u9, .int a1, .ref v4] _
      refine x_isK fun i10 h11 => ?_
      subst h11
      refine x_zast 32 dX5_helper_32 ?_
      refine x_aload_n 33 0 dX5_helper_33 rfl ?_
      refine x_getR 34 fa_X5_32_4 dX5_helper_34 fun v12 => ?_
      refine x_iload_n 37 1 dX5_helper_37 rfl ?_
      refine x_isK fun i13 h14 => ?_
      subst h14
      refine x_zald 38 dX5_helper_38 fun v15 => ?_
      exact x_zret 39 hZ rfl dX5_helper_39
    · refine x_if_ne 24 31 dX5_helper_24 rfl (fun c17 => ?_) (fun c17 => ?_)
      · refine x_iconst 27 1 (1 : Int32) dX5_helper_27 rfl ?_
        refine x_goto 28 32 dX5_helper_28 rfl ?_
        exact hj16 (1 : Int32)
      · refine x_iconst 31 0 (0 : Int32) dX5_helper_31 rfl ?_
        exact hj16 (0 : Int32)
def f_X5_act (i0 : Nat) (a1 : Int32) (a2 : Int32) : PT Int32 := bn0 (f_X5_isSession i0 a1) fun v1 => bnd (ρ := _) (α := Int32) (jo (σ := Unit) (fun _ => rt (0 : Int32)) fun j61 => cnd (v1 = 0) (j61 ()) (bn0 (f_X5_isSix a2) fun v63 => cnd (v63 = 0) (j61 ()) (rt (1 : Int32)))) (fun u2 => bnd (ρ := _) (α := Int32) (jo (σ := Unit) (fun _ => rt (0 : Int32)) fun j36 => cnd (u2 = 0) (j36 ()) (gR 4 i0 35 fun v38 => isK 33 v38 fun i39 => aI 33 i39 a1 fun v41 => cnd (v41 = 0) (j36 ()) (gR 4 i0 34 fun v43 => isK 32 v43 fun i44 => aI 32 i44 a1 fun v46 => cnd (v46 = (-1 : Int32)) (bn0 (f_X5_levelNow i0 a1) fun v48 => cnd (v48 < (3 : Int32)) (j36 ()) (gR 4 i0 8 fun v50 => gR 4 i0 31 fun v51 => isK 32 v51 fun i52 => aI 32 i52 a1 fun v54 => isK 33 v50 fun i55 => aI 33 i55 v54 fun v57 => cnd (v57 = 0) (j36 ()) (rt (1 : Int32)))) (j36 ())))) (fun u3 => bnd (ρ := _) (α := Int32) (jo (σ := Unit) (fun _ => rt (0 : Int32)) fun j20 => cnd (u3 = 0) (j20 ()) (gR 4 i0 31 fun v22 => isK 32 v22 fun i23 => aI 32 i23 a1 fun v25 => cnd (v25 = a2) (j20 ()) (gR 4 i0 7 fun v27 => isK 33 v27 fun i28 => aI 33 i28 a2 fun v30 => cnd (v30 = 0) (gI 4 i0 30 fun v32 => cnd ((60 : Int32) ≤ v32) (j20 ()) (rt (1 : Int32))) (j20 ())))) (fun u4 => bn0 (f_X5_mayBoth i0 u2 u4) fun v5 => cnd (v5 = 0) (rt (0 : Int32)) (bn0 (f_X5_newSession i0 a2 a1) fun v7 => lp (σ := Int32) (fun r9 => fun u8 => cnd ((3 : Int32) ≤ u8) (rt v7) (gR 4 i0 36 fun v11 => gR 4 i0 36 fun v12 => isK 32 v12 fun i13 => aI 32 i13 (((3 : Int32) * a1) + u8) fun v15 => isK 32 v11 fun i16 => bI 32 i16 (((3 : Int32) * v7) + u8) v15 <| r9 (u8 + (1 : Int32)))) (0 : Int32)))))
theorem im_X5_act {g : GP} {l : Launch} (hl : l.stackTraces = false) (i0 : Nat) (a1 : Int32) (a2 : Int32) : Im g l 2 yX5_act cX5_act 7 (some .int) eI [.ref (idc 4 i0), .int a1, .int a2] (f_X5_act i0 a1 a2) := by
  refine tx_start hl 2 _ _ _ _ (by decide) (Nat.le_of_ble_eq_true rfl) fun Γ Z hΓ hZ => ?_
  subst hΓ
  unfold f_X5_act
  show TX g Γ _ Z _ 0 [(0, .ref (idc 4 i0)), (1, .int a1), (2, .int a2)] [] _
  refine x_aload_n 0 0 dX5_act_0 rfl ?_
  refine x_iload_n 1 1 dX5_act_1 rfl ?_
  refine x_cV 2 1 [.int a1] [] ⟨by decide, rfl⟩ cv_X5_352 (im_X5_isSession hl i0 a1) (by decide) rfl (Nat.le_of_ble_eq_true rfl) dX5_act_2 fun v1 => x_stI ?_
  refine x_bndj 20 (fun u2 => [(0, .ref (idc 4 i0)), (1, .int a1), (2, .int a2)]) (fun u2 => [.int u2]) (fun u2 => ?_) (fun hj59 => ?_)
  · show TX g Γ _ Z _ 20 [(0, .ref (idc 4 i0)), (1, .int a1), (2, .int a2)] [.int u2] _
    refine x_istore_n 20 [(3, .int u2), (0, .ref (idc 4 i0)), (1, .int a1), (2, .int a2)] dX5_act_20 (by decide) rfl ?_
    refine x_iload_n 21 0 dX5_act_21 rfl ?_
    refine x_bndj 72 (fun u3 => [(0, .ref (idc 4 i0)), (1, .int a1), (2, .int a2), (3, .int u2)]) (fun u3 => [.int u3]) (fun u3 => ?_) (fun hj34 => ?_)
    · show TX g Γ _ Z _ 72 [(0, .ref (idc 4 i0)), (1, .int a1), (2, .int a2), (3, .int u2)] [.int u3] _
      refine x_istore 72 [(4, .int u3), (0, .ref (idc 4 i0)), (1, .int a1), (2, .int a2), (3, .int u2)] dX5_act_72 (by decide) rfl ?_
      refine x_iload 74 0 dX5_act_74 rfl ?_
      refine x_bndj 112 (fun u4 => [(0, .ref (idc 4 i0)), (1, .int a1), (2, .int a2), (3, .int u2)]) (fun u4 => [.int u4]) (fun u4 => ?_) (fun hj18 => ?_)
      · show TX g Γ _ Z _ 112 [(0, .ref (idc 4 i0)), (1, .int a1), (2, .int a2), (3, .int u2)] [.int u4] _
        refine x_istore 112 [(4, .int u4), (0, .ref (idc 4 i0)), (1, .int a1), (2, .int a2), (3, .int u2)] dX5_act_112 (by decide) rfl ?_
        refine x_aload_n 114 1 dX5_act_114 rfl ?_
        refine x_iload_n 115 4 dX5_act_115 rfl ?_
        refine x_iload 116 0 dX5_act_116 rfl ?_
        refine x_cV 118 0 [.int u2, .int u4] [] ⟨by decide, rfl⟩ cv_X5_274 (im_X5_mayBoth hl i0 u2 u4) (by decide) rfl (Nat.le_of_ble_eq_true rfl) dX5_act_118 fun v5 => x_stI ?_
        refine x_if_ne 121 126 dX5_act_121 rfl (fun c6 => ?_) (fun c6 => ?_)
        · refine x_iconst 124 0 (0 : Int32) dX5_act_124 rfl ?_
          exact x_iret 125 hZ rfl dX5_act_125
        · refine x_aload_n 126 1 dX5_act_126 rfl ?_
          refine x_iload_n 127 3 dX5_act_127 rfl ?_
          refine x_iload_n 128 2 dX5_act_128 rfl ?_
          refine x_cV 129 1 [.int a2, .int a1] [] ⟨by decide, rfl⟩ cv_X5_328 (im_X5_newSession hl i0 a2 a1) (by decide) rfl (Nat.le_of_ble_eq_true rfl) dX5_act_129 fun v7 => x_stI ?_
          refine x_istore 132 [(5, .int v7), (4, .int u4), (0, .ref (idc 4 i0)), (1, .int a1), (2, .int a2), (3, .int u2)] dX5_act_132 (by decide) rfl ?_
          refine x_iconst 134 0 (0 : Int32) dX5_act_134 rfl ?_
          refine x_istore 135 [(6, .int (0 : Int32)), (5, .int v7), (4, .int u4), (0, .ref (idc 4 i0)), (1, .int a1), (2, .int a2), (3, .int u2)] dX5_act_135 (by decide) rfl ?_
          refine x_sub [3, 4, 1, 0] [(0, .ref (idc 4 i0)), (1, .int a1), (5, .int v7), (6, .int (0 : Int32))] rfl ?_
          refine x_lp (Lf := fun u8 => [(0, .ref (idc 4 i0)), (1, .int a1), (5, .int v7), (6, .int u8)]) (sf := fun _ => []) (fun r9 hr9 u8 => ?_) (0 : Int32)
          show TX g Γ _ Z _ 137 [(0, .ref (idc 4 i0)), (1, .int a1), (5, .int v7), (6, .int u8)] [] _
          refine x_iload 137 3 dX5_act_137 rfl ?_
          refine x_iconst 139 3 (3 : Int32) dX5_act_139 rfl ?_
          refine x_icmp_ge 140 172 dX5_act_140 rfl (fun c10 => ?_) (fun c10 => ?_)
          · refine x_iload 172 2 dX5_act_172 rfl ?_
            exact x_iret 174 hZ rfl dX5_act_174
          · refine x_aload_n 143 0 dX5_act_143 rfl ?_
            refine x_getR 144 fa_X5_107_4 dX5_act_144 fun v11 => ?_
            refine x_iconst 147 3 (3 : Int32) dX5_act_147 rfl ?_
            refine x_iload 148 2 dX5_act_148 rfl ?_
            refine x_imul 150 dX5_act_150 ?_
            refine x_iload 151 3 dX5_act_151 rfl ?_
            refine x_iadd 153 dX5_act_153 ?_
            refine x_aload_n 154 0 dX5_act_154 rfl ?_
            refine x_getR 155 fa_X5_107_4 dX5_act_155 fun v12 => ?_
            refine x_iconst 158 3 (3 : Int32) dX5_act_158 rfl ?_
            refine x_iload_n 159 1 dX5_act_159 rfl ?_
            refine x_imul 160 dX5_act_160 ?_
            refine x_iload 161 3 dX5_act_161 rfl ?_
            refine x_iadd 163 dX5_act_163 ?_
            refine x_isK fun i13 h14 => ?_
            subst h14
            refine x_iald 164 dX5_act_164 fun v15 => ?_
            refine x_isK fun i16 h17 => ?_
            subst h17
            refine x_iast 165 dX5_act_165 ?_
            refine x_iinc 166 3 [(6, .int (u8 + (1 : Int32))), (0, .ref (idc 4 i0)), (1, .int a1), (5, .int v7)] dX5_act_166 rfl rfl (by decide) rfl ?_
            refine x_goto 169 137 dX5_act_169 rfl ?_
            refine x_sub [1, 2, 3, 0] _ rfl ?_
            exact hr9 (u8 + (1 : Int32))
      · refine x_jo 111 (Lf := fun _ => [(0, .ref (idc 4 i0)), (1, .int a1), (2, .int a2), (3, .int u2)]) (sf := fun _ => []) (fun _ => ?_) (fun j20 hj19 => ?_)
        · show TX g Γ _ Z _ 111 [(0, .ref (idc 4 i0)), (1, .int a1), (2, .int a2), (3, .int u2)] [] _
          refine x_iconst 111 0 (0 : Int32) dX5_act_111 rfl ?_
          exact hj18 (0 : Int32)
        · refine x_if_eq 76 111 dX5_act_76 rfl (fun c21 => ?_) (fun c21 => ?_)
          · refine x_sub [1, 2, 3, 4] _ rfl ?_
            exact hj19 ()
          · refine x_aload_n 79 1 dX5_act_79 rfl ?_
            refine x_getR 80 fa_X5_92_4 dX5_act_80 fun v22 => ?_
            refine x_iload_n 83 2 dX5_act_83 rfl ?_
            refine x_isK fun i23 h24 => ?_
            subst h24
            refine x_iald 84 dX5_act_84 fun v25 => ?_
            refine x_iload_n 85 3 dX5_act_85 rfl ?_
            refine x_icmp_eq 86 111 dX5_act_86 rfl (fun c26 => ?_) (fun c26 => ?_)
            · refine x_sub [1, 2, 3, 4] _ rfl ?_
              exact hj19 ()
            · refine x_aload_n 89 1 dX5_act_89 rfl ?_
              refine x_getR 90 fa_X5_29_4 dX5_act_90 fun v27 => ?_
              refine x_iload_n 93 3 dX5_act_93 rfl ?_
              refine x_isK fun i28 h29 => ?_
              subst h29
              refine x_zald 94 dX5_act_94 fun v30 => ?_
              refine x_if_ne 95 111 dX5_act_95 rfl (fun c31 => ?_) (fun c31 => ?_)
              · refine x_aload_n 98 1 dX5_act_98 rfl ?_
                refine x_getI 99 fa_X5_235_4 dX5_act_99 fun v32 => ?_
                refine x_bipush 102 60 (60 : Int32) dX5_act_102 rfl ?_
                refine x_icmp_ge 104 111 dX5_act_104 rfl (fun c33 => ?_) (fun c33 => ?_)
                · refine x_sub [1, 2, 3, 4] _ rfl ?_
                  exact hj19 ()
                · refine x_iconst 107 1 (1 : Int32) dX5_act_107 rfl ?_
                  refine x_goto 108 112 dX5_act_108 rfl ?_
                  refine x_sub [1, 2, 3, 4] _ rfl ?_
                  exact hj18 (1 : Int32)
              · refine x_sub [1, 2, 3, 4] _ rfl ?_
                exact hj19 ()
    · refine x_jo 71 (Lf := fun _ => [(0, .ref (idc 4 i0)), (1, .int a1), (2, .int a2), (3, .int u2)]) (sf := fun _ => []) (fun _ => ?_) (fun j36 hj35 => ?_)
      · show TX g Γ _ Z _ 71 [(0, .ref (idc 4 i0)), (1, .int a1), (2, .int a2), (3, .int u2)] [] _
        refine x_iconst 71 0 (0 : Int32) dX5_act_71 rfl ?_
        exact hj34 (0 : Int32)
      · refine x_if_eq 22 71 dX5_act_22 rfl (fun c37 => ?_) (fun c37 => ?_)
        · refine x_sub [1, 2, 3, 0] _ rfl ?_
          exact hj35 ()
        · refine x_aload_n 25 1 dX5_act_25 rfl ?_
          refine x_getR 26 fa_X5_104_4 dX5_act_26 fun v38 => ?_
          refine x_iload_n 29 2 dX5_act_29 rfl ?_
          refine x_isK fun i39 h40 => ?_
          subst h40
          refine x_zald 30 dX5_act_30 fun v41 => ?_
          refine x_if_eq 31 71 dX5_act_31 rfl (fun c42 => ?_) (fun c42 => ?_)
          · refine x_sub [1, 2, 3, 0] _ rfl ?_
            exact hj35 ()
          · refine x_aload_n 34 1 dX5_act_34 rfl ?_
            refine x_getR 35 fa_X5_101_4 dX5_act_35 fun v43 => ?_
            refine x_iload_n 38 2 dX5_act_38 rfl ?_
            refine x_isK fun i44 h45 => ?_
            subst h45
            refine x_iald 39 dX5_act_39 fun v46 => ?_
            refine x_iconst 40 (-1) (-1 : Int32) dX5_act_40 rfl ?_
            refine x_icmp_ne 41 71 dX5_act_41 rfl (fun c47 => ?_) (fun c47 => ?_)
            · refine x_aload_n 44 1 dX5_act_44 rfl ?_
              refine x_iload_n 45 2 dX5_act_45 rfl ?_
              refine x_cV 46 1 [.int a1] [] ⟨by decide, rfl⟩ cv_X5_355 (im_X5_levelNow hl i0 a1) (by decide) rfl (Nat.le_of_ble_eq_true rfl) dX5_act_46 fun v48 => x_stI ?_
              refine x_iconst 49 3 (3 : Int32) dX5_act_49 rfl ?_
              refine x_icmp_lt 50 71 dX5_act_50 rfl (fun c49 => ?_) (fun c49 => ?_)
              · refine x_sub [1, 2, 3, 0] _ rfl ?_
                exact hj35 ()
              · refine x_aload_n 53 1 dX5_act_53 rfl ?_
                refine x_getR 54 fa_X5_32_4 dX5_act_54 fun v50 => ?_
                refine x_aload_n 57 1 dX5_act_57 rfl ?_
                refine x_getR 58 fa_X5_92_4 dX5_act_58 fun v51 => ?_
                refine x_iload_n 61 2 dX5_act_61 rfl ?_
                refine x_isK fun i52 h53 => ?_
                subst h53
                refine x_iald 62 dX5_act_62 fun v54 => ?_
                refine x_isK fun i55 h56 => ?_
                subst h56
                refine x_zald 63 dX5_act_63 fun v57 => ?_
                refine x_if_eq 64 71 dX5_act_64 rfl (fun c58 => ?_) (fun c58 => ?_)
                · refine x_sub [1, 2, 3, 0] _ rfl ?_
                  exact hj35 ()
                · refine x_iconst 67 1 (1 : Int32) dX5_act_67 rfl ?_
                  refine x_goto 68 72 dX5_act_68 rfl ?_
                  refine x_sub [1, 2, 3, 0] _ rfl ?_
                  exact hj34 (1 : Int32)
            · refine x_sub [1, 2, 3, 0] _ rfl ?_
              exact hj35 ()
  · refine x_jo 19 (Lf := fun _ => [(0, .ref (idc 4 i0)), (1, .int a1), (2, .int a2)]) (sf := fun _ => []) (fun _ => ?_) (fun j61 hj60 => ?_)
    · show TX g Γ _ Z _ 19 [(0, .ref (idc 4 i0)), (1, .int a1), (2, .int a2)] [] _
      refine x_iconst 19 0 (0 : Int32) dX5_act_19 rfl ?_
      exact hj59 (0 : Int32)
    · refine x_if_eq 5 19 dX5_act_5 rfl (fun c62 => ?_) (fun c62 => ?_)
      · exact hj60 ()
      · refine x_iload_n 8 2 dX5_act_8 rfl ?_
        refine x_cS 9 1 [.int a2] [] cs_X5_284 (im_X5_isSix hl a2) (by decide) rfl (Nat.le_of_ble_eq_true rfl) dX5_act_9 fun v63 => x_stI ?_
        refine x_if_eq 12 19 dX5_act_12 rfl (fun c64 => ?_) (fun c64 => ?_)
        · exact hj60 ()
        · refine x_iconst 15 1 (1 : Int32) dX5_act_15 rfl ?_
          refine x_goto 16 20 dX5_act_16 rfl ?_
          exact hj59 (1 : Int32)
def f_X5_isService (a1 : Int32) : PT Int32 := bn0 (f_X5_isIn a1 (0 : Int32) (3 : Int32)) fun v1 => asr (v1 = 0 ∨ v1 = 1) (rt v1)
theorem im_X5_isService {g : GP} {l : Launch} (hl : l.stackTraces = false) (a1 : Int32) : Im g l 1 yX5_isService cX5_isService 1 (some .boolean) eI [.int a1] (f_X5_isService a1) := by
  refine tx_start hl 1 _ _ _ _ (by decide) (Nat.le_of_ble_eq_true rfl) fun Γ Z hΓ hZ => ?_
  subst hΓ
  unfold f_X5_isService
  show TX g Γ _ Z _ 0 [(0, .int a1)] [] _
  refine x_iload_n 0 0 dX5_isService_0 rfl ?_
  refine x_iconst 1 0 (0 : Int32) dX5_isService_1 rfl ?_
  refine x_iconst 2 3 (3 : Int32) dX5_isService_2 rfl ?_
  refine x_cS 3 0 [.int a1, .int (0 : Int32), .int (3 : Int32)] [] cs_X5_228 (im_X5_isIn hl a1 (0 : Int32) (3 : Int32)) (by decide) rfl (Nat.le_of_ble_eq_true rfl) dX5_isService_3 fun v1 => x_stI ?_
  exact x_zret 6 hZ rfl dX5_isService_6
def f_X5_consent (i0 : Nat) (a1 : Int32) (a2 : Int32) (a3 : Int32) : PT Int32 := bn0 (f_X5_isIn a1 (-1 : Int32) (5 : Int32)) fun v1 => bnd (ρ := _) (α := Int32) (jo (σ := Unit) (fun _ => rt (0 : Int32)) fun j19 => cnd (v1 = 0) (j19 ()) (bn0 (f_X5_isService a2) fun v21 => cnd (v21 = 0) (j19 ()) (rt (1 : Int32)))) (fun u2 => bn0 (f_X5_isIn a3 (0 : Int32) (15 : Int32)) fun v3 => bn0 (f_X5_mayBoth i0 u2 v3) fun v4 => cnd (v4 = 0) (rt (0 : Int32)) (bnd (ρ := _) (α := Int32) (cnd (a1 = (-1 : Int32)) (rt (6 : Int32)) (rt a1)) (fun u6 => gR 4 i0 37 fun v7 => isK 32 v7 fun i8 => aI 32 i8 (((4 : Int32) * u6) + a2) fun v10 => bI 32 i8 (((4 : Int32) * u6) + a2) (v10 ||| a3) <| gR 4 i0 37 fun v11 => isK 32 v11 fun i12 => aI 32 i12 (((4 : Int32) * u6) + a2) fun v14 => rt v14)))
theorem im_X5_consent {g : GP} {l : Launch} (hl : l.stackTraces = false) (i0 : Nat) (a1 : Int32) (a2 : Int32) (a3 : Int32) : Im g l 2 yX5_consent cX5_consent 6 (some .int) eI [.ref (idc 4 i0), .int a1, .int a2, .int a3] (f_X5_consent i0 a1 a2 a3) := by
  refine tx_start hl 2 _ _ _ _ (by decide) (Nat.le_of_ble_eq_true rfl) fun Γ Z hΓ hZ => ?_
  subst hΓ
  unfold f_X5_consent
  show TX g Γ _ Z _ 0 [(0, .ref (idc 4 i0)), (1, .int a1), (2, .int a2), (3, .int a3)] [] _
  refine x_iload_n 0 1 dX5_consent_0 rfl ?_
  refine x_iconst 1 (-1) (-1 : Int32) dX5_consent_1 rfl ?_
  refine x_iconst 2 5 (5 : Int32) dX5_consent_2 rfl ?_
  refine x_cS 3 0 [.int a1, .int (-1 : Int32), .int (5 : Int32)] [] cs_X5_228 (im_X5_isIn hl a1 (-1 : Int32) (5 : Int32)) (by decide) rfl (Nat.le_of_ble_eq_true rfl) dX5_consent_3 fun v1 => x_stI ?_
  refine x_bndj 21 (fun u2 => [(0, .ref (idc 4 i0)), (1, .int a1), (2, .int a2), (3, .int a3)]) (fun u2 => [.int u2]) (fun u2 => ?_) (fun hj17 => ?_)
  · show TX g Γ _ Z _ 21 [(0, .ref (idc 4 i0)), (1, .int a1), (2, .int a2), (3, .int a3)] [.int u2] _
    refine x_istore 21 [(4, .int u2), (0, .ref (idc 4 i0)), (1, .int a1), (2, .int a2), (3, .int a3)] dX5_consent_21 (by decide) rfl ?_
    refine x_aload_n 23 1 dX5_consent_23 rfl ?_
    refine x_iload 24 0 dX5_consent_24 rfl ?_
    refine x_iload_n 26 4 dX5_consent_26 rfl ?_
    refine x_iconst 27 0 (0 : Int32) dX5_consent_27 rfl ?_
    refine x_bipush 28 15 (15 : Int32) dX5_consent_28 rfl ?_
    refine x_cS 30 0 [.int a3, .int (0 : Int32), .int (15 : Int32)] [.int u2, .ref (idc 4 i0)] cs_X5_228 (im_X5_isIn hl a3 (0 : Int32) (15 : Int32)) (by decide) rfl (Nat.le_of_ble_eq_true rfl) dX5_consent_30 fun v3 => x_stI ?_
    refine x_cV 33 0 [.int u2, .int v3] [] ⟨by decide, rfl⟩ cv_X5_274 (im_X5_mayBoth hl i0 u2 v3) (by decide) rfl (Nat.le_of_ble_eq_true rfl) dX5_consent_33 fun v4 => x_stI ?_
    refine x_if_ne 36 41 dX5_consent_36 rfl (fun c5 => ?_) (fun c5 => ?_)
    · refine x_iconst 39 0 (0 : Int32) dX5_consent_39 rfl ?_
      exact x_iret 40 hZ rfl dX5_consent_40
    · refine x_iconst 41 4 (4 : Int32) dX5_consent_41 rfl ?_
      refine x_iload_n 42 2 dX5_consent_42 rfl ?_
      refine x_iconst 43 (-1) (-1 : Int32) dX5_consent_43 rfl ?_
      refine x_bndj 53 (fun u6 => [(0, .ref (idc 4 i0)), (2, .int a2), (3, .int a3)]) (fun u6 => [.int u6, .int (4 : Int32)]) (fun u6 => ?_) (fun hj15 => ?_)
      · show TX g Γ _ Z _ 53 [(0, .ref (idc 4 i0)), (2, .int a2), (3, .int a3)] [.int u6, .int (4 : Int32)] _
        refine x_imul 53 dX5_consent_53 ?_
        refine x_iload_n 54 1 dX5_consent_54 rfl ?_
        refine x_iadd 55 dX5_consent_55 ?_
        refine x_istore 56 [(5, .int (((4 : Int32) * u6) + a2)), (0, .ref (idc 4 i0)), (2, .int a2), (3, .int a3)] dX5_consent_56 (by decide) rfl ?_
        refine x_aload_n 58 1 dX5_consent_58 rfl ?_
        refine x_getR 59 fa_X5_110_4 dX5_consent_59 fun v7 => ?_
        refine x_iload 62 0 dX5_consent_62 rfl ?_
        refine x_dup2 64 dX5_consent_64 rfl rfl ?_
        refine x_isK fun i8 h9 => ?_
        subst h9
        refine x_iald 65 dX5_consent_65 fun v10 => ?_
        refine x_iload_n 66 3 dX5_consent_66 rfl ?_
        refine x_ior 67 dX5_consent_67 ?_
        refine x_iast 68 dX5_consent_68 ?_
        refine x_aload_n 69 1 dX5_consent_69 rfl ?_
        refine x_getR 70 fa_X5_110_4 dX5_consent_70 fun v11 => ?_
        refine x_iload 73 0 dX5_consent_73 rfl ?_
        refine x_isK fun i12 h13 => ?_
        subst h13
        refine x_iald 75 dX5_consent_75 fun v14 => ?_
        exact x_iret 76 hZ rfl dX5_consent_76
      · refine x_icmp_ne 44 52 dX5_consent_44 rfl (fun c16 => ?_) (fun c16 => ?_)
        · refine x_bipush 47 6 (6 : Int32) dX5_consent_47 rfl ?_
          refine x_goto 49 53 dX5_consent_49 rfl ?_
          refine x_sub [1, 3, 4] _ rfl ?_
          exact hj15 (6 : Int32)
        · refine x_iload_n 52 2 dX5_consent_52 rfl ?_
          refine x_sub [1, 3, 4] _ rfl ?_
          exact hj15 a1
  · refine x_jo 20 (Lf := fun _ => [(0, .ref (idc 4 i0)), (1, .int a1), (2, .int a2), (3, .int a3)]) (sf := fun _ => []) (fun _ => ?_) (fun j19 hj18 => ?_)
    · show TX g Γ _ Z _ 20 [(0, .ref (idc 4 i0)), (1, .int a1), (2, .int a2), (3, .int a3)] [] _
      refine x_iconst 20 0 (0 : Int32) dX5_consent_20 rfl ?_
      exact hj17 (0 : Int32)
    · refine x_if_eq 6 20 dX5_consent_6 rfl (fun c20 => ?_) (fun c20 => ?_)
      · exact hj18 ()
      · refine x_iload_n 9 2 dX5_consent_9 rfl ?_
        refine x_cS 10 1 [.int a2] [] cs_X5_358 (im_X5_isService hl a2) (by decide) rfl (Nat.le_of_ble_eq_true rfl) dX5_consent_10 fun v21 => x_stI ?_
        refine x_if_eq 13 20 dX5_consent_13 rfl (fun c22 => ?_) (fun c22 => ?_)
        · exact hj18 ()
        · refine x_iconst 16 1 (1 : Int32) dX5_consent_16 rfl ?_
          refine x_goto 17 21 dX5_consent_17 rfl ?_
          exact hj17 (1 : Int32)
def f_X5_withdraw (i0 : Nat) (a1 : Int32) (a2 : Int32) : PT Int32 := bn0 (f_X5_isSix a1) fun v1 => bnd (ρ := _) (α := Int32) (jo (σ := Unit) (fun _ => rt (0 : Int32)) fun j51 => cnd (v1 = 0) (j51 ()) (bn0 (f_X5_isService a2) fun v53 => cnd (v53 = 0) (j51 ()) (rt (1 : Int32)))) (fun u2 => bn0 (f_X5_may i0 u2) fun v3 => cnd (v3 = 0) (rt (0 : Int32)) (gR 4 i0 37 fun v5 => isK 32 v5 fun i6 => bI 32 i6 (((4 : Int32) * a1) + a2) (0 : Int32) <| lp (σ := Int32 × Int32) (fun r10 => un2 fun u8 u9 => gI 4 i0 46 fun v11 => cnd (v11 ≤ u9) (rt u8) (gR 4 i0 51 fun v13 => isK 33 v13 fun i14 => aI 33 i14 u9 fun v16 => bnd (ρ := _) (α := Int32) (jo (σ := Unit) (fun _ => rt (0 : Int32)) fun j25 => cnd (v16 = 0) (j25 ()) (gR 4 i0 31 fun v27 => gR 4 i0 40 fun v28 => gR 4 i0 47 fun v29 => isK 32 v29 fun i30 => aI 32 i30 u9 fun v32 => isK 32 v28 fun i33 => aI 32 i33 v32 fun v35 => isK 32 v27 fun i36 => aI 32 i36 v35 fun v38 => cnd (v38 = a1) (gR 4 i0 41 fun v40 => gR 4 i0 47 fun v41 => isK 32 v41 fun i42 => aI 32 i42 u9 fun v44 => isK 32 v40 fun i45 => aI 32 i45 v44 fun v47 => cnd (v47 = a2) (rt (1 : Int32)) (j25 ())) (j25 ()))) (fun u17 => bnd (ρ := _) (α := Int32) (cnd (u17 = 0) (rt (0 : Int32)) (rt (1 : Int32))) (fun u18 => cnd (u17 = 0) (r10 (u8 + u18, u9 + (1 : Int32))) (bn0 (f_X5_endFamily i0 u9) fun _ => r10 (u8 + u18, u9 + (1 : Int32))))))) ((0 : Int32), (0 : Int32))))
theorem im_X5_withdraw {g : GP} {l : Launch} (hl : l.stackTraces = false) (i0 : Nat) (a1 : Int32) (a2 : Int32) : Im g l 2 yX5_withdraw cX5_withdraw 6 (some .int) eI [.ref (idc 4 i0), .int a1, .int a2] (f_X5_withdraw i0 a1 a2) := by
  refine tx_start hl 2 _ _ _ _ (by decide) (Nat.le_of_ble_eq_true rfl) fun Γ Z hΓ hZ => ?_
  subst hΓ
  unfold f_X5_withdraw
  show TX g Γ _ Z _ 0 [(0, .ref (idc 4 i0)), (1, .int a1), (2, .int a2)] [] _
  refine x_aload_n 0 0 dX5_withdraw_0 rfl ?_
  refine x_iload_n 1 1 dX5_withdraw_1 rfl ?_
  refine x_cS 2 1 [.int a1] [.ref (idc 4 i0)] cs_X5_284 (im_X5_isSix hl a1) (by decide) rfl (Nat.le_of_ble_eq_true rfl) dX5_withdraw_2 fun v1 => x_stI ?_
  refine x_bndj 20 (fun u2 => [(0, .ref (idc 4 i0)), (1, .int a1), (2, .int a2)]) (fun u2 => [.int u2, .ref (idc 4 i0)]) (fun u2 => ?_) (fun hj49 => ?_)
  · show TX g Γ _ Z _ 20 [(0, .ref (idc 4 i0)), (1, .int a1), (2, .int a2)] [.int u2, .ref (idc 4 i0)] _
    refine x_cV 20 0 [.int u2] [] ⟨by decide, rfl⟩ cv_X5_251 (im_X5_may hl i0 u2) (by decide) rfl (Nat.le_of_ble_eq_true rfl) dX5_withdraw_20 fun v3 => x_stI ?_
    refine x_if_ne 23 28 dX5_withdraw_23 rfl (fun c4 => ?_) (fun c4 => ?_)
    · refine x_iconst 26 0 (0 : Int32) dX5_withdraw_26 rfl ?_
      exact x_iret 27 hZ rfl dX5_withdraw_27
    · refine x_aload_n 28 0 dX5_withdraw_28 rfl ?_
      refine x_getR 29 fa_X5_110_4 dX5_withdraw_29 fun v5 => ?_
      refine x_iconst 32 4 (4 : Int32) dX5_withdraw_32 rfl ?_
      refine x_iload_n 33 1 dX5_withdraw_33 rfl ?_
      refine x_imul 34 dX5_withdraw_34 ?_
      refine x_iload_n 35 2 dX5_withdraw_35 rfl ?_
      refine x_iadd 36 dX5_withdraw_36 ?_
      refine x_iconst 37 0 (0 : Int32) dX5_withdraw_37 rfl ?_
      refine x_isK fun i6 h7 => ?_
      subst h7
      refine x_iast 38 dX5_withdraw_38 ?_
      refine x_iconst 39 0 (0 : Int32) dX5_withdraw_39 rfl ?_
      refine x_istore_n 40 [(3, .int (0 : Int32)), (0, .ref (idc 4 i0)), (1, .int a1), (2, .int a2)] dX5_withdraw_40 (by decide) rfl ?_
      refine x_iconst 41 0 (0 : Int32) dX5_withdraw_41 rfl ?_
      refine x_istore 42 [(4, .int (0 : Int32)), (3, .int (0 : Int32)), (0, .ref (idc 4 i0)), (1, .int a1), (2, .int a2)] dX5_withdraw_42 (by decide) rfl ?_
      refine x_sub [2, 3, 4, 1, 0] [(0, .ref (idc 4 i0)), (1, .int a1), (2, .int a2), (3, .int (0 : Int32)), (4, .int (0 : Int32))] rfl ?_
      refine x_lp (Lf := fun u => [(0, .ref (idc 4 i0)), (1, .int a1), (2, .int a2), (3, .int u.1), (4, .int u.2)]) (sf := fun _ => []) (fun r10 hr10 u => ?_) ((0 : Int32), (0 : Int32))
      obtain ⟨u8, u9⟩ := u
      show TX g Γ _ Z _ 44 [(0, .ref (idc 4 i0)), (1, .int a1), (2, .int a2), (3, .int u8), (4, .int u9)] [] _
      refine x_un2 ?_
      refine x_iload 44 4 dX5_withdraw_44 rfl ?_
      refine x_aload_n 46 0 dX5_withdraw_46 rfl ?_
      refine x_getI 47 fa_X5_238_4 dX5_withdraw_47 fun v11 => ?_
      refine x_icmp_ge 50 137 dX5_withdraw_50 rfl (fun c12 => ?_) (fun c12 => ?_)
      · refine x_iload_n 137 3 dX5_withdraw_137 rfl ?_
        exact x_iret 138 hZ rfl dX5_withdraw_138
      · refine x_aload_n 53 0 dX5_withdraw_53 rfl ?_
        refine x_getR 54 fa_X5_146_4 dX5_withdraw_54 fun v13 => ?_
        refine x_iload 57 4 dX5_withdraw_57 rfl ?_
        refine x_isK fun i14 h15 => ?_
        subst h15
        refine x_zald 59 dX5_withdraw_59 fun v16 => ?_
        refine x_bndj 105 (fun u17 => [(0, .ref (idc 4 i0)), (1, .int a1), (2, .int a2), (3, .int u8), (4, .int u9)]) (fun u17 => [.int u17]) (fun u17 => ?_) (fun hj23 => ?_)
        · show TX g Γ _ Z _ 105 [(0, .ref (idc 4 i0)), (1, .int a1), (2, .int a2), (3, .int u8), (4, .int u9)] [.int u17] _
          refine x_istore 105 [(5, .int u17), (0, .ref (idc 4 i0)), (1, .int a1), (2, .int a2), (3, .int u8), (4, .int u9)] dX5_withdraw_105 (by decide) rfl ?_
          refine x_iload_n 107 4 dX5_withdraw_107 rfl ?_
          refine x_iload 108 0 dX5_withdraw_108 rfl ?_
          refine x_bndj 118 (fun u18 => [(0, .ref (idc 4 i0)), (1, .int a1), (2, .int a2), (4, .int u9), (5, .int u17)]) (fun u18 => [.int u18, .int u8]) (fun u18 => ?_) (fun hj21 => ?_)
          · show TX g Γ _ Z _ 118 [(0, .ref (idc 4 i0)), (1, .int a1), (2, .int a2), (4, .int u9), (5, .int u17)] [.int u18, .int u8] _
            refine x_iadd 118 dX5_withdraw_118 ?_
            refine x_istore_n 119 [(3, .int (u8 + u18)), (0, .ref (idc 4 i0)), (1, .int a1), (2, .int a2), (4, .int u9), (5, .int u17)] dX5_withdraw_119 (by decide) rfl ?_
            refine x_iload 120 5 dX5_withdraw_120 rfl ?_
            refine x_if_eq 122 131 dX5_withdraw_122 rfl (fun c19 => ?_) (fun c19 => ?_)
            · refine x_iinc 131 4 [(4, .int (u9 + (1 : Int32))), (3, .int (u8 + u18)), (0, .ref (idc 4 i0)), (1, .int a1), (2, .int a2), (5, .int u17)] dX5_withdraw_131 rfl rfl (by decide) rfl ?_
              refine x_goto 134 44 dX5_withdraw_134 rfl ?_
              refine x_sub [2, 3, 4, 1, 0] _ rfl ?_
              exact hr10 (u8 + u18, u9 + (1 : Int32))
            · refine x_aload_n 125 1 dX5_withdraw_125 rfl ?_
              refine x_iload 126 4 dX5_withdraw_126 rfl ?_
              refine x_cV 128 1 [.int u9] [] ⟨by decide, rfl⟩ cv_X5_263 (im_X5_endFamily hl i0 u9) (by decide) rfl (Nat.le_of_ble_eq_true rfl) dX5_withdraw_128 fun v20 => x_stV ?_
              refine x_iinc 131 4 [(4, .int (u9 + (1 : Int32))), (3, .int (u8 + u18)), (0, .ref (idc 4 i0)), (1, .int a1), (2, .int a2), (5, .int u17)] dX5_withdraw_131 rfl rfl (by decide) rfl ?_
              refine x_goto 134 44 dX5_withdraw_134 rfl ?_
              refine x_sub [2, 3, 4, 1, 0] _ rfl ?_
              exact hr10 (u8 + u18, u9 + (1 : Int32))
          · refine x_if_eq 110 117 dX5_withdraw_110 rfl (fun c22 => ?_) (fun c22 => ?_)
            · refine x_iconst 117 0 (0 : Int32) dX5_withdraw_117 rfl ?_
              refine x_sub [1, 2, 3, 5, 0] _ rfl ?_
              exact hj21 (0 : Int32)
            · refine x_iconst 113 1 (1 : Int32) dX5_withdraw_113 rfl ?_
              refine x_goto 114 118 dX5_withdraw_114 rfl ?_
              refine x_sub [1, 2, 3, 5, 0] _ rfl ?_
              exact hj21 (1 : Int32)
        · refine x_jo 104 (Lf := fun _ => [(0, .ref (idc 4 i0)), (1, .int a1), (2, .int a2), (3, .int u8), (4, .int u9)]) (sf := fun _ => []) (fun _ => ?_) (fun j25 hj24 => ?_)
          · show TX g Γ _ Z _ 104 [(0, .ref (idc 4 i0)), (1, .int a1), (2, .int a2), (3, .int u8), (4, .int u9)] [] _
            refine x_iconst 104 0 (0 : Int32) dX5_withdraw_104 rfl ?_
            exact hj23 (0 : Int32)
          · refine x_if_eq 60 104 dX5_withdraw_60 rfl (fun c26 => ?_) (fun c26 => ?_)
            · exact hj24 ()
            · refine x_aload_n 63 0 dX5_withdraw_63 rfl ?_
              refine x_getR 64 fa_X5_92_4 dX5_withdraw_64 fun v27 => ?_
              refine x_aload_n 67 0 dX5_withdraw_67 rfl ?_
              refine x_getR 68 fa_X5_116_4 dX5_withdraw_68 fun v28 => ?_
              refine x_aload_n 71 0 dX5_withdraw_71 rfl ?_
              refine x_getR 72 fa_X5_134_4 dX5_withdraw_72 fun v29 => ?_
              refine x_iload 75 4 dX5_withdraw_75 rfl ?_
              refine x_isK fun i30 h31 => ?_
              subst h31
              refine x_iald 77 dX5_withdraw_77 fun v32 => ?_
              refine x_isK fun i33 h34 => ?_
              subst h34
              refine x_iald 78 dX5_withdraw_78 fun v35 => ?_
              refine x_isK fun i36 h37 => ?_
              subst h37
              refine x_iald 79 dX5_withdraw_79 fun v38 => ?_
              refine x_iload_n 80 1 dX5_withdraw_80 rfl ?_
              refine x_icmp_ne 81 104 dX5_withdraw_81 rfl (fun c39 => ?_) (fun c39 => ?_)
              · refine x_aload_n 84 0 dX5_withdraw_84 rfl ?_
                refine x_getR 85 fa_X5_119_4 dX5_withdraw_85 fun v40 => ?_
                refine x_aload_n 88 0 dX5_withdraw_88 rfl ?_
                refine x_getR 89 fa_X5_134_4 dX5_withdraw_89 fun v41 => ?_
                refine x_iload 92 4 dX5_withdraw_92 rfl ?_
                refine x_isK fun i42 h43 => ?_
                subst h43
                refine x_iald 94 dX5_withdraw_94 fun v44 => ?_
                refine x_isK fun i45 h46 => ?_
                subst h46
                refine x_iald 95 dX5_withdraw_95 fun v47 => ?_
                refine x_iload_n 96 2 dX5_withdraw_96 rfl ?_
                refine x_icmp_ne 97 104 dX5_withdraw_97 rfl (fun c48 => ?_) (fun c48 => ?_)
                · refine x_iconst 100 1 (1 : Int32) dX5_withdraw_100 rfl ?_
                  refine x_goto 101 105 dX5_withdraw_101 rfl ?_
                  exact hj23 (1 : Int32)
                · exact hj24 ()
              · exact hj24 ()
  · refine x_jo 19 (Lf := fun _ => [(0, .ref (idc 4 i0)), (1, .int a1), (2, .int a2)]) (sf := fun _ => [.ref (idc 4 i0)]) (fun _ => ?_) (fun j51 hj50 => ?_)
    · show TX g Γ _ Z _ 19 [(0, .ref (idc 4 i0)), (1, .int a1), (2, .int a2)] [.ref (idc 4 i0)] _
      refine x_iconst 19 0 (0 : Int32) dX5_withdraw_19 rfl ?_
      exact hj49 (0 : Int32)
    · refine x_if_eq 5 19 dX5_withdraw_5 rfl (fun c52 => ?_) (fun c52 => ?_)
      · exact hj50 ()
      · refine x_iload_n 8 2 dX5_withdraw_8 rfl ?_
        refine x_cS 9 1 [.int a2] [.ref (idc 4 i0)] cs_X5_358 (im_X5_isService hl a2) (by decide) rfl (Nat.le_of_ble_eq_true rfl) dX5_withdraw_9 fun v53 => x_stI ?_
        refine x_if_eq 12 19 dX5_withdraw_12 rfl (fun c54 => ?_) (fun c54 => ?_)
        · exact hj50 ()
        · refine x_iconst 15 1 (1 : Int32) dX5_withdraw_15 rfl ?_
          refine x_goto 16 20 dX5_withdraw_16 rfl ?_
          exact hj49 (1 : Int32)
def f_X5_need (i0 : Nat) (a1 : Int32) (a2 : Int32) : PT Int32 := bn0 (f_X5_isService a1) fun v1 => bn0 (f_X5_isIn a2 (0 : Int32) (6 : Int32)) fun v2 => bn0 (f_X5_mayBoth i0 v1 v2) fun v3 => cnd (v3 = 0) (rt (0 : Int32)) (gR 4 i0 38 fun v5 => isK 32 v5 fun i6 => aI 32 i6 a1 fun v8 => gR 4 i0 38 fun v9 => isK 32 v9 fun i10 => bI 32 i10 a1 a2 <| rt v8)
theorem im_X5_need {g : GP} {l : Launch} (hl : l.stackTraces = false) (i0 : Nat) (a1 : Int32) (a2 : Int32) : Im g l 2 yX5_need cX5_need 4 (some .int) eI [.ref (idc 4 i0), .int a1, .int a2] (f_X5_need i0 a1 a2) := by
  refine tx_start hl 2 _ _ _ _ (by decide) (Nat.le_of_ble_eq_true rfl) fun Γ Z hΓ hZ => ?_
  subst hΓ
  unfold f_X5_need
  show TX g Γ _ Z _ 0 [(0, .ref (idc 4 i0)), (1, .int a1), (2, .int a2)] [] _
  refine x_aload_n 0 0 dX5_need_0 rfl ?_
  refine x_iload_n 1 1 dX5_need_1 rfl ?_
  refine x_cS 2 1 [.int a1] [.ref (idc 4 i0)] cs_X5_358 (im_X5_isService hl a1) (by decide) rfl (Nat.le_of_ble_eq_true rfl) dX5_need_2 fun v1 => x_stI ?_
  refine x_iload_n 5 2 dX5_need_5 rfl ?_
  refine x_iconst 6 0 (0 : Int32) dX5_need_6 rfl ?_
  refine x_bipush 7 6 (6 : Int32) dX5_need_7 rfl ?_
  refine x_cS 9 0 [.int a2, .int (0 : Int32), .int (6 : Int32)] [.int v1, .ref (idc 4 i0)] cs_X5_228 (im_X5_isIn hl a2 (0 : Int32) (6 : Int32)) (by decide) rfl (Nat.le_of_ble_eq_true rfl) dX5_need_9 fun v2 => x_stI ?_
  refine x_cV 12 0 [.int v1, .int v2] [] ⟨by decide, rfl⟩ cv_X5_274 (im_X5_mayBoth hl i0 v1 v2) (by decide) rfl (Nat.le_of_ble_eq_true rfl) dX5_need_12 fun v3 => x_stI ?_
  refine x_if_ne 15 20 dX5_need_15 rfl (fun c4 => ?_) (fun c4 => ?_)
  · refine x_iconst 18 0 (0 : Int32) dX5_need_18 rfl ?_
    exact x_iret 19 hZ rfl dX5_need_19
  · refine x_aload_n 20 0 dX5_need_20 rfl ?_
    refine x_getR 21 fa_X5_113_4 dX5_need_21 fun v5 => ?_
    refine x_iload_n 24 1 dX5_need_24 rfl ?_
    refine x_isK fun i6 h7 => ?_
    subst h7
    refine x_iald 25 dX5_need_25 fun v8 => ?_
    refine x_istore_n 26 [(3, .int v8), (0, .ref (idc 4 i0)), (1, .int a1), (2, .int a2)] dX5_need_26 (by decide) rfl ?_
    refine x_aload_n 27 1 dX5_need_27 rfl ?_
    refine x_getR 28 fa_X5_113_4 dX5_need_28 fun v9 => ?_
    refine x_iload_n 31 2 dX5_need_31 rfl ?_
    refine x_iload_n 32 3 dX5_need_32 rfl ?_
    refine x_isK fun i10 h11 => ?_
    subst h11
    refine x_iast 33 dX5_need_33 ?_
    refine x_iload_n 34 0 dX5_need_34 rfl ?_
    exact x_iret 35 hZ rfl dX5_need_35
def f_X5_authorize (i0 : Nat) (a1 : Int32) (a2 : Int32) (a3 : Int32) (a4 : Int32) : PT Int32 := bn0 (f_X5_isSession i0 a1) fun v1 => bnd (ρ := _) (α := Int32) (jo (σ := Unit) (fun _ => rt (0 : Int32)) fun j70 => cnd (v1 = 0) (j70 ()) (bn0 (f_X5_isService a2) fun v72 => cnd (v72 = 0) (j70 ()) (bn0 (f_X5_isService a3) fun v74 => cnd (v74 = 0) (j70 ()) (rt (1 : Int32))))) (fun u2 => bn0 (f_X5_isIn a4 (1 : Int32) (15 : Int32)) fun v3 => bnd (ρ := _) (α := Int32) (jo (σ := Unit) (fun _ => rt (0 : Int32)) fun j59 => cnd (u2 = 0) (j59 ()) (gR 4 i0 35 fun v61 => isK 33 v61 fun i62 => aI 33 i62 a1 fun v64 => cnd (v64 = 0) (j59 ()) (gI 4 i0 39 fun v66 => cnd ((60 : Int32) ≤ v66) (j59 ()) (rt (1 : Int32))))) (fun u4 => bn0 (f_X5_mayAll i0 u2 v3 u4) fun v5 => cnd (v5 = 0) (rt (0 : Int32)) (gR 4 i0 33 fun v7 => gI 4 i0 0 fun v8 => isK 32 v7 fun i9 => bI 32 i9 a1 v8 <| gR 4 i0 37 fun v11 => gR 4 i0 31 fun v12 => isK 32 v12 fun i13 => aI 32 i13 a1 fun v15 => isK 32 v11 fun i16 => aI 32 i16 (((4 : Int32) * v15) + a2) fun v18 => gR 4 i0 37 fun v19 => isK 32 v19 fun i20 => aI 32 i20 ((24 : Int32) + a2) fun v22 => cnd ((a4 &&& ((v18 ||| v22) ^^^ (-1 : Int32))) = 0) (bn0 (f_X5_levelNow i0 a1) fun v24 => gR 4 i0 38 fun v25 => isK 32 v25 fun i26 => aI 32 i26 a3 fun v28 => cnd (v28 ≤ v24) (gR 4 i0 40 fun v30 => gI 4 i0 39 fun v31 => isK 32 v30 fun i32 => bI 32 i32 v31 a1 <| gR 4 i0 41 fun v34 => gI 4 i0 39 fun v35 => isK 32 v34 fun i36 => bI 32 i36 v35 a2 <| gR 4 i0 42 fun v38 => gI 4 i0 39 fun v39 => isK 32 v38 fun i40 => bI 32 i40 v39 a3 <| gR 4 i0 43 fun v42 => gI 4 i0 39 fun v43 => isK 32 v42 fun i44 => bI 32 i44 v43 a4 <| gR 4 i0 44 fun v46 => gI 4 i0 39 fun v47 => gI 4 i0 0 fun v48 => isK 32 v46 fun i49 => bI 32 i49 v47 v48 <| gR 4 i0 45 fun v51 => gI 4 i0 39 fun v52 => isK 32 v51 fun i53 => bI 32 i53 v52 (-1 : Int32) <| gI 4 i0 39 fun v55 => pI 4 i0 39 (v55 + (1 : Int32)) <| gI 4 i0 39 fun v56 => rt (v56 - (1 : Int32))) (rt (-2 : Int32))) (rt (-3 : Int32)))))
theorem im_X5_authorize {g : GP} {l : Launch} (hl : l.stackTraces = false) (i0 : Nat) (a1 : Int32) (a2 : Int32) (a3 : Int32) (a4 : Int32) : Im g l 2 yX5_authorize cX5_authorize 7 (some .int) eI [.ref (idc 4 i0), .int a1, .int a2, .int a3, .int a4] (f_X5_authorize i0 a1 a2 a3 a4) := by
  refine tx_start hl 2 _ _ _ _ (by decide) (Nat.le_of_ble_eq_true rfl) fun Γ Z hΓ hZ => ?_
  subst hΓ
  unfold f_X5_authorize
  show TX g Γ _ Z _ 0 [(0, .ref (idc 4 i0)), (1, .int a1), (2, .int a2), (3, .int a3), (4, .int a4)] [] _
  refine x_aload_n 0 0 dX5_authorize_0 rfl ?_
  refine x_iload_n 1 1 dX5_authorize_1 rfl ?_
  refine x_cV 2 1 [.int a1] [] ⟨by decide, rfl⟩ cv_X5_352 (im_X5_isSession hl i0 a1) (by decide) rfl (Nat.le_of_ble_eq_true rfl) dX5_authorize_2 fun v1 => x_stI ?_
  refine x_bndj 27 (fun u2 => [(0, .ref (idc 4 i0)), (1, .int a1), (2, .int a2), (3, .int a3), (4, .int a4)]) (fun u2 => [.int u2]) (fun u2 => ?_) (fun hj68 => ?_)
  · show TX g Γ _ Z _ 27 [(0, .ref (idc 4 i0)), (1, .int a1), (2, .int a2), (3, .int a3), (4, .int a4)] [.int u2] _
    refine x_istore 27 [(5, .int u2), (0, .ref (idc 4 i0)), (1, .int a1), (2, .int a2), (3, .int a3), (4, .int a4)] dX5_authorize_27 (by decide) rfl ?_
    refine x_aload_n 29 1 dX5_authorize_29 rfl ?_
    refine x_iload 30 0 dX5_authorize_30 rfl ?_
    refine x_iload 32 5 dX5_authorize_32 rfl ?_
    refine x_iconst 34 1 (1 : Int32) dX5_authorize_34 rfl ?_
    refine x_bipush 35 15 (15 : Int32) dX5_authorize_35 rfl ?_
    refine x_cS 37 0 [.int a4, .int (1 : Int32), .int (15 : Int32)] [.int u2, .ref (idc 4 i0)] cs_X5_228 (im_X5_isIn hl a4 (1 : Int32) (15 : Int32)) (by decide) rfl (Nat.le_of_ble_eq_true rfl) dX5_authorize_37 fun v3 => x_stI ?_
    refine x_iload 40 0 dX5_authorize_40 rfl ?_
    refine x_bndj 68 (fun u4 => [(0, .ref (idc 4 i0)), (1, .int a1), (2, .int a2), (3, .int a3), (4, .int a4)]) (fun u4 => [.int u4, .int v3, .int u2, .ref (idc 4 i0)]) (fun u4 => ?_) (fun hj57 => ?_)
    · show TX g Γ _ Z _ 68 [(0, .ref (idc 4 i0)), (1, .int a1), (2, .int a2), (3, .int a3), (4, .int a4)] [.int u4, .int v3, .int u2, .ref (idc 4 i0)] _
      refine x_cV 68 0 [.int u2, .int v3, .int u4] [] ⟨by decide, rfl⟩ cv_X5_344 (im_X5_mayAll hl i0 u2 v3 u4) (by decide) rfl (Nat.le_of_ble_eq_true rfl) dX5_authorize_68 fun v5 => x_stI ?_
      refine x_if_ne 71 76 dX5_authorize_71 rfl (fun c6 => ?_) (fun c6 => ?_)
      · refine x_iconst 74 0 (0 : Int32) dX5_authorize_74 rfl ?_
        exact x_iret 75 hZ rfl dX5_authorize_75
      · refine x_aload_n 76 0 dX5_authorize_76 rfl ?_
        refine x_getR 77 fa_X5_98_4 dX5_authorize_77 fun v7 => ?_
        refine x_iload_n 80 1 dX5_authorize_80 rfl ?_
        refine x_aload_n 81 0 dX5_authorize_81 rfl ?_
        refine x_getI 82 fa_X5_247_4 dX5_authorize_82 fun v8 => ?_
        refine x_isK fun i9 h10 => ?_
        subst h10
        refine x_iast 85 dX5_authorize_85 ?_
        refine x_aload_n 86 0 dX5_authorize_86 rfl ?_
        refine x_getR 87 fa_X5_110_4 dX5_authorize_87 fun v11 => ?_
        refine x_iconst 90 4 (4 : Int32) dX5_authorize_90 rfl ?_
        refine x_aload_n 91 0 dX5_authorize_91 rfl ?_
        refine x_getR 92 fa_X5_92_4 dX5_authorize_92 fun v12 => ?_
        refine x_iload_n 95 1 dX5_authorize_95 rfl ?_
        refine x_isK fun i13 h14 => ?_
        subst h14
        refine x_iald 96 dX5_authorize_96 fun v15 => ?_
        refine x_imul 97 dX5_authorize_97 ?_
        refine x_iload_n 98 2 dX5_authorize_98 rfl ?_
        refine x_iadd 99 dX5_authorize_99 ?_
        refine x_isK fun i16 h17 => ?_
        subst h17
        refine x_iald 100 dX5_authorize_100 fun v18 => ?_
        refine x_aload_n 101 0 dX5_authorize_101 rfl ?_
        refine x_getR 102 fa_X5_110_4 dX5_authorize_102 fun v19 => ?_
        refine x_bipush 105 24 (24 : Int32) dX5_authorize_105 rfl ?_
        refine x_iload_n 107 2 dX5_authorize_107 rfl ?_
        refine x_iadd 108 dX5_authorize_108 ?_
        refine x_isK fun i20 h21 => ?_
        subst h21
        refine x_iald 109 dX5_authorize_109 fun v22 => ?_
        refine x_ior 110 dX5_authorize_110 ?_
        refine x_istore 111 [(6, .int (v18 ||| v22)), (0, .ref (idc 4 i0)), (1, .int a1), (2, .int a2), (3, .int a3), (4, .int a4)] dX5_authorize_111 (by decide) rfl ?_
        refine x_iload 113 5 dX5_authorize_113 rfl ?_
        refine x_iload 115 0 dX5_authorize_115 rfl ?_
        refine x_iconst 117 (-1) (-1 : Int32) dX5_authorize_117 rfl ?_
        refine x_ixor 118 dX5_authorize_118 ?_
        refine x_iand 119 dX5_authorize_119 ?_
        refine x_if_eq 120 126 dX5_authorize_120 rfl (fun c23 => ?_) (fun c23 => ?_)
        · refine x_aload_n 126 1 dX5_authorize_126 rfl ?_
          refine x_iload_n 127 2 dX5_authorize_127 rfl ?_
          refine x_cV 128 1 [.int a1] [] ⟨by decide, rfl⟩ cv_X5_355 (im_X5_levelNow hl i0 a1) (by decide) rfl (Nat.le_of_ble_eq_true rfl) dX5_authorize_128 fun v24 => x_stI ?_
          refine x_aload_n 131 1 dX5_authorize_131 rfl ?_
          refine x_getR 132 fa_X5_113_4 dX5_authorize_132 fun v25 => ?_
          refine x_iload_n 135 4 dX5_authorize_135 rfl ?_
          refine x_isK fun i26 h27 => ?_
          subst h27
          refine x_iald 136 dX5_authorize_136 fun v28 => ?_
          refine x_icmp_ge 137 143 dX5_authorize_137 rfl (fun c29 => ?_) (fun c29 => ?_)
          · refine x_aload_n 143 1 dX5_authorize_143 rfl ?_
            refine x_getR 144 fa_X5_116_4 dX5_authorize_144 fun v30 => ?_
            refine x_aload_n 147 1 dX5_authorize_147 rfl ?_
            refine x_getI 148 fa_X5_361_4 dX5_authorize_148 fun v31 => ?_
            refine x_iload_n 151 2 dX5_authorize_151 rfl ?_
            refine x_isK fun i32 h33 => ?_
            subst h33
            refine x_iast 152 dX5_authorize_152 ?_
            refine x_aload_n 153 1 dX5_authorize_153 rfl ?_
            refine x_getR 154 fa_X5_119_4 dX5_authorize_154 fun v34 => ?_
            refine x_aload_n 157 1 dX5_authorize_157 rfl ?_
            refine x_getI 158 fa_X5_361_4 dX5_authorize_158 fun v35 => ?_
            refine x_iload_n 161 3 dX5_authorize_161 rfl ?_
            refine x_isK fun i36 h37 => ?_
            subst h37
            refine x_iast 162 dX5_authorize_162 ?_
            refine x_aload_n 163 1 dX5_authorize_163 rfl ?_
            refine x_getR 164 fa_X5_122_4 dX5_authorize_164 fun v38 => ?_
            refine x_aload_n 167 1 dX5_authorize_167 rfl ?_
            refine x_getI 168 fa_X5_361_4 dX5_authorize_168 fun v39 => ?_
            refine x_iload_n 171 4 dX5_authorize_171 rfl ?_
            refine x_isK fun i40 h41 => ?_
            subst h41
            refine x_iast 172 dX5_authorize_172 ?_
            refine x_aload_n 173 1 dX5_authorize_173 rfl ?_
            refine x_getR 174 fa_X5_125_4 dX5_authorize_174 fun v42 => ?_
            refine x_aload_n 177 1 dX5_authorize_177 rfl ?_
            refine x_getI 178 fa_X5_361_4 dX5_authorize_178 fun v43 => ?_
            refine x_iload 181 5 dX5_authorize_181 rfl ?_
            refine x_isK fun i44 h45 => ?_
            subst h45
            refine x_iast 183 dX5_authorize_183 ?_
            refine x_aload_n 184 1 dX5_authorize_184 rfl ?_
            refine x_getR 185 fa_X5_128_4 dX5_authorize_185 fun v46 => ?_
            refine x_aload_n 188 1 dX5_authorize_188 rfl ?_
            refine x_getI 189 fa_X5_361_4 dX5_authorize_189 fun v47 => ?_
            refine x_aload_n 192 1 dX5_authorize_192 rfl ?_
            refine x_getI 193 fa_X5_247_4 dX5_authorize_193 fun v48 => ?_
            refine x_isK fun i49 h50 => ?_
            subst h50
            refine x_iast 196 dX5_authorize_196 ?_
            refine x_aload_n 197 1 dX5_authorize_197 rfl ?_
            refine x_getR 198 fa_X5_131_4 dX5_authorize_198 fun v51 => ?_
            refine x_aload_n 201 1 dX5_authorize_201 rfl ?_
            refine x_getI 202 fa_X5_361_4 dX5_authorize_202 fun v52 => ?_
            refine x_iconst 205 (-1) (-1 : Int32) dX5_authorize_205 rfl ?_
            refine x_isK fun i53 h54 => ?_
            subst h54
            refine x_iast 206 dX5_authorize_206 ?_
            refine x_aload_n 207 1 dX5_authorize_207 rfl ?_
            refine x_dup 208 dX5_authorize_208 rfl ?_
            refine x_getI 209 fa_X5_361_4 dX5_authorize_209 fun v55 => ?_
            refine x_iconst 212 1 (1 : Int32) dX5_authorize_212 rfl ?_
            refine x_iadd 213 dX5_authorize_213 ?_
            refine x_putI 214 fa_X5_361_4 rfl (Or.inl rfl) dX5_authorize_214 ?_
            refine x_aload_n 217 1 dX5_authorize_217 rfl ?_
            refine x_getI 218 fa_X5_361_4 dX5_authorize_218 fun v56 => ?_
            refine x_iconst 221 1 (1 : Int32) dX5_authorize_221 rfl ?_
            refine x_isub 222 dX5_authorize_222 ?_
            exact x_iret 223 hZ rfl dX5_authorize_223
          · refine x_bipush 140 (-2) (-2 : Int32) dX5_authorize_140 rfl ?_
            exact x_iret 142 hZ rfl dX5_authorize_142
        · refine x_bipush 123 (-3) (-3 : Int32) dX5_authorize_123 rfl ?_
          exact x_iret 125 hZ rfl dX5_authorize_125
    · refine x_jo 67 (Lf := fun _ => [(0, .ref (idc 4 i0)), (1, .int a1), (2, .int a2), (3, .int a3), (4, .int a4)]) (sf := fun _ => [.int v3, .int u2, .ref (idc 4 i0)]) (fun _ => ?_) (fun j59 hj58 => ?_)
      · show TX g Γ _ Z _ 67 [(0, .ref (idc 4 i0)), (1, .int a1), (2, .int a2), (3, .int a3), (4, .int a4)] [.int v3, .int u2, .ref (idc 4 i0)] _
        refine x_iconst 67 0 (0 : Int32) dX5_authorize_67 rfl ?_
        exact hj57 (0 : Int32)
      · refine x_if_eq 42 67 dX5_authorize_42 rfl (fun c60 => ?_) (fun c60 => ?_)
        · refine x_sub [1, 2, 3, 4, 5] _ rfl ?_
          exact hj58 ()
        · refine x_aload_n 45 1 dX5_authorize_45 rfl ?_
          refine x_getR 46 fa_X5_104_4 dX5_authorize_46 fun v61 => ?_
          refine x_iload_n 49 2 dX5_authorize_49 rfl ?_
          refine x_isK fun i62 h63 => ?_
          subst h63
          refine x_zald 50 dX5_authorize_50 fun v64 => ?_
          refine x_if_eq 51 67 dX5_authorize_51 rfl (fun c65 => ?_) (fun c65 => ?_)
          · refine x_sub [1, 2, 3, 4, 5] _ rfl ?_
            exact hj58 ()
          · refine x_aload_n 54 1 dX5_authorize_54 rfl ?_
            refine x_getI 55 fa_X5_361_4 dX5_authorize_55 fun v66 => ?_
            refine x_bipush 58 60 (60 : Int32) dX5_authorize_58 rfl ?_
            refine x_icmp_ge 60 67 dX5_authorize_60 rfl (fun c67 => ?_) (fun c67 => ?_)
            · refine x_sub [1, 2, 3, 4, 5] _ rfl ?_
              exact hj58 ()
            · refine x_iconst 63 1 (1 : Int32) dX5_authorize_63 rfl ?_
              refine x_goto 64 68 dX5_authorize_64 rfl ?_
              refine x_sub [1, 2, 3, 4, 5] _ rfl ?_
              exact hj57 (1 : Int32)
  · refine x_jo 26 (Lf := fun _ => [(0, .ref (idc 4 i0)), (1, .int a1), (2, .int a2), (3, .int a3), (4, .int a4)]) (sf := fun _ => []) (fun _ => ?_) (fun j70 hj69 => ?_)
    · show TX g Γ _ Z _ 26 [(0, .ref (idc 4 i0)), (1, .int a1), (2, .int a2), (3, .int a3), (4, .int a4)] [] _
      refine x_iconst 26 0 (0 : Int32) dX5_authorize_26 rfl ?_
      exact hj68 (0 : Int32)
    · refine x_if_eq 5 26 dX5_authorize_5 rfl (fun c71 => ?_) (fun c71 => ?_)
      · exact hj69 ()
      · refine x_iload_n 8 2 dX5_authorize_8 rfl ?_
        refine x_cS 9 1 [.int a2] [] cs_X5_358 (im_X5_isService hl a2) (by decide) rfl (Nat.le_of_ble_eq_true rfl) dX5_authorize_9 fun v72 => x_stI ?_
        refine x_if_eq 12 26 dX5_authorize_12 rfl (fun c73 => ?_) (fun c73 => ?_)
        · exact hj69 ()
        · refine x_iload_n 15 3 dX5_authorize_15 rfl ?_
          refine x_cS 16 1 [.int a3] [] cs_X5_358 (im_X5_isService hl a3) (by decide) rfl (Nat.le_of_ble_eq_true rfl) dX5_authorize_16 fun v74 => x_stI ?_
          refine x_if_eq 19 26 dX5_authorize_19 rfl (fun c75 => ?_) (fun c75 => ?_)
          · exact hj69 ()
          · refine x_iconst 22 1 (1 : Int32) dX5_authorize_22 rfl ?_
            refine x_goto 23 27 dX5_authorize_23 rfl ?_
            exact hj68 (1 : Int32)
def f_X5_newToken (i0 : Nat) (a1 : Int32) (a2 : Int32) (a3 : Int32) (a4 : Int32) (a5 : Int32) (a6 : Int32) : PT Int32 := gI 4 i0 52 fun v1 => gR 4 i0 57 fun v2 => isK 32 v2 fun i3 => bI 32 i3 v1 a1 <| gR 4 i0 53 fun v5 => isK 32 v5 fun i6 => bI 32 i6 v1 a2 <| gR 4 i0 54 fun v8 => isK 32 v8 fun i9 => bI 32 i9 v1 a3 <| gR 4 i0 55 fun v11 => isK 32 v11 fun i12 => bI 32 i12 v1 a4 <| gR 4 i0 56 fun v14 => isK 32 v14 fun i15 => bI 32 i15 v1 a5 <| gR 4 i0 59 fun v17 => isK 32 v17 fun i18 => bI 32 i18 v1 a6 <| gR 4 i0 58 fun v20 => gI 4 i0 61 fun v21 => isK 32 v20 fun i22 => bI 32 i22 v1 v21 <| gR 4 i0 50 fun v24 => isK 32 v24 fun i25 => bI 32 i25 a1 v1 <| gI 4 i0 52 fun v27 => pI 4 i0 52 (v27 + (1 : Int32)) <| rt v1
theorem im_X5_newToken {g : GP} {l : Launch} (hl : l.stackTraces = false) (i0 : Nat) (a1 : Int32) (a2 : Int32) (a3 : Int32) (a4 : Int32) (a5 : Int32) (a6 : Int32) : Im g l 0 yX5_newToken cX5_newToken 8 (some .int) eI [.ref (idc 4 i0), .int a1, .int a2, .int a3, .int a4, .int a5, .int a6] (f_X5_newToken i0 a1 a2 a3 a4 a5 a6) := by
  refine tx_start hl 0 _ _ _ _ (by decide) (Nat.le_of_ble_eq_true rfl) fun Γ Z hΓ hZ => ?_
  subst hΓ
  unfold f_X5_newToken
  show TX g Γ _ Z _ 0 [(0, .ref (idc 4 i0)), (1, .int a1), (2, .int a2), (3, .int a3), (4, .int a4), (5, .int a5), (6, .int a6)] [] _
  refine x_aload_n 0 0 dX5_newToken_0 rfl ?_
  refine x_getI 1 fa_X5_241_4 dX5_newToken_1 fun v1 => ?_
  refine x_istore 4 [(7, .int v1), (0, .ref (idc 4 i0)), (1, .int a1), (2, .int a2), (3, .int a3), (4, .int a4), (5, .int a5), (6, .int a6)] dX5_newToken_4 (by decide) rfl ?_
  refine x_aload_n 6 1 dX5_newToken_6 rfl ?_
  refine x_getR 7 fa_X5_161_4 dX5_newToken_7 fun v2 => ?_
  refine x_iload 10 0 dX5_newToken_10 rfl ?_
  refine x_iload_n 12 2 dX5_newToken_12 rfl ?_
  refine x_isK fun i3 h4 => ?_
  subst h4
  refine x_iast 13 dX5_newToken_13 ?_
  refine x_aload_n 14 1 dX5_newToken_14 rfl ?_
  refine x_getR 15 fa_X5_149_4 dX5_newToken_15 fun v5 => ?_
  refine x_iload 18 0 dX5_newToken_18 rfl ?_
  refine x_iload_n 20 3 dX5_newToken_20 rfl ?_
  refine x_isK fun i6 h7 => ?_
  subst h7
  refine x_iast 21 dX5_newToken_21 ?_
  refine x_aload_n 22 1 dX5_newToken_22 rfl ?_
  refine x_getR 23 fa_X5_152_4 dX5_newToken_23 fun v8 => ?_
  refine x_iload 26 0 dX5_newToken_26 rfl ?_
  refine x_iload_n 28 4 dX5_newToken_28 rfl ?_
  refine x_isK fun i9 h10 => ?_
  subst h10
  refine x_iast 29 dX5_newToken_29 ?_
  refine x_aload_n 30 1 dX5_newToken_30 rfl ?_
  refine x_getR 31 fa_X5_155_4 dX5_newToken_31 fun v11 => ?_
  refine x_iload 34 0 dX5_newToken_34 rfl ?_
  refine x_iload 36 5 dX5_newToken_36 rfl ?_
  refine x_isK fun i12 h13 => ?_
  subst h13
  refine x_iast 38 dX5_newToken_38 ?_
  refine x_aload_n 39 1 dX5_newToken_39 rfl ?_
  refine x_getR 40 fa_X5_158_4 dX5_newToken_40 fun v14 => ?_
  refine x_iload 43 0 dX5_newToken_43 rfl ?_
  refine x_iload 45 6 dX5_newToken_45 rfl ?_
  refine x_isK fun i15 h16 => ?_
  subst h16
  refine x_iast 47 dX5_newToken_47 ?_
  refine x_aload_n 48 1 dX5_newToken_48 rfl ?_
  refine x_getR 49 fa_X5_167_4 dX5_newToken_49 fun v17 => ?_
  refine x_iload 52 0 dX5_newToken_52 rfl ?_
  refine x_iload 54 7 dX5_newToken_54 rfl ?_
  refine x_isK fun i18 h19 => ?_
  subst h19
  refine x_iast 56 dX5_newToken_56 ?_
  refine x_aload_n 57 1 dX5_newToken_57 rfl ?_
  refine x_getR 58 fa_X5_164_4 dX5_newToken_58 fun v20 => ?_
  refine x_iload 61 0 dX5_newToken_61 rfl ?_
  refine x_aload_n 63 1 dX5_newToken_63 rfl ?_
  refine x_getI 64 fa_X5_281_4 dX5_newToken_64 fun v21 => ?_
  refine x_isK fun i22 h23 => ?_
  subst h23
  refine x_iast 67 dX5_newToken_67 ?_
  refine x_aload_n 68 1 dX5_newToken_68 rfl ?_
  refine x_getR 69 fa_X5_143_4 dX5_newToken_69 fun v24 => ?_
  refine x_iload_n 72 2 dX5_newToken_72 rfl ?_
  refine x_iload 73 0 dX5_newToken_73 rfl ?_
  refine x_isK fun i25 h26 => ?_
  subst h26
  refine x_iast 75 dX5_newToken_75 ?_
  refine x_aload_n 76 1 dX5_newToken_76 rfl ?_
  refine x_dup 77 dX5_newToken_77 rfl ?_
  refine x_getI 78 fa_X5_241_4 dX5_newToken_78 fun v27 => ?_
  refine x_iconst 81 1 (1 : Int32) dX5_newToken_81 rfl ?_
  refine x_iadd 82 dX5_newToken_82 ?_
  refine x_putI 83 fa_X5_241_4 rfl (Or.inl rfl) dX5_newToken_83 ?_
  refine x_iload 86 0 dX5_newToken_86 rfl ?_
  exact x_iret 88 hZ rfl dX5_newToken_88
def f_X5_firstToken (i0 : Nat) (a1 : Int32) : PT Unit := gR 4 i0 47 fun v1 => isK 32 v1 fun i2 => aI 32 i2 a1 fun v4 => gR 4 i0 41 fun v5 => isK 32 v5 fun i6 => aI 32 i6 v4 fun v8 => gR 4 i0 42 fun v9 => isK 32 v9 fun i10 => aI 32 i10 v4 fun v12 => gR 4 i0 43 fun v13 => isK 32 v13 fun i14 => aI 32 i14 v4 fun v16 => gI 4 i0 0 fun v17 => bn0 (f_X5_newToken i0 a1 v8 v12 v16 (0 : Int32) (v17 + (10 : Int32))) fun v18 => rt ()
theorem im_X5_firstToken {g : GP} {l : Launch} (hl : l.stackTraces = false) (i0 : Nat) (a1 : Int32) : Im g l 1 yX5_firstToken cX5_firstToken 3 none eV [.ref (idc 4 i0), .int a1] (f_X5_firstToken i0 a1) := by
  refine tx_start hl 1 _ _ _ _ (by decide) (Nat.le_of_ble_eq_true rfl) fun Γ Z hΓ hZ => ?_
  subst hΓ
  unfold f_X5_firstToken
  show TX g Γ _ Z _ 0 [(0, .ref (idc 4 i0)), (1, .int a1)] [] _
  refine x_aload_n 0 0 dX5_firstToken_0 rfl ?_
  refine x_getR 1 fa_X5_134_4 dX5_firstToken_1 fun v1 => ?_
  refine x_iload_n 4 1 dX5_firstToken_4 rfl ?_
  refine x_isK fun i2 h3 => ?_
  subst h3
  refine x_iald 5 dX5_firstToken_5 fun v4 => ?_
  refine x_istore_n 6 [(2, .int v4), (0, .ref (idc 4 i0)), (1, .int a1)] dX5_firstToken_6 (by decide) rfl ?_
  refine x_aload_n 7 1 dX5_firstToken_7 rfl ?_
  refine x_iload_n 8 2 dX5_firstToken_8 rfl ?_
  refine x_aload_n 9 1 dX5_firstToken_9 rfl ?_
  refine x_getR 10 fa_X5_119_4 dX5_firstToken_10 fun v5 => ?_
  refine x_iload_n 13 0 dX5_firstToken_13 rfl ?_
  refine x_isK fun i6 h7 => ?_
  subst h7
  refine x_iald 14 dX5_firstToken_14 fun v8 => ?_
  refine x_aload_n 15 1 dX5_firstToken_15 rfl ?_
  refine x_getR 16 fa_X5_122_4 dX5_firstToken_16 fun v9 => ?_
  refine x_iload_n 19 0 dX5_firstToken_19 rfl ?_
  refine x_isK fun i10 h11 => ?_
  subst h11
  refine x_iald 20 dX5_firstToken_20 fun v12 => ?_
  refine x_aload_n 21 1 dX5_firstToken_21 rfl ?_
  refine x_getR 22 fa_X5_125_4 dX5_firstToken_22 fun v13 => ?_
  refine x_iload_n 25 0 dX5_firstToken_25 rfl ?_
  refine x_isK fun i14 h15 => ?_
  subst h15
  refine x_iald 26 dX5_firstToken_26 fun v16 => ?_
  refine x_iconst 27 0 (0 : Int32) dX5_firstToken_27 rfl ?_
  refine x_aload_n 28 1 dX5_firstToken_28 rfl ?_
  refine x_getI 29 fa_X5_247_4 dX5_firstToken_29 fun v17 => ?_
  refine x_bipush 32 10 (10 : Int32) dX5_firstToken_32 rfl ?_
  refine x_iadd 34 dX5_firstToken_34 ?_
  refine x_cV 35 0 [.int a1, .int v8, .int v12, .int v16, .int (0 : Int32), .int (v17 + (10 : Int32))] [] ⟨by decide, rfl⟩ cv_X5_364 (im_X5_newToken hl i0 a1 v8 v12 v16 (0 : Int32) (v17 + (10 : Int32))) (by decide) rfl (Nat.le_of_ble_eq_true rfl) dX5_firstToken_35 fun v18 => x_stI ?_
  refine x_pop 38 dX5_firstToken_38 rfl ?_
  exact x_vret 39 hZ rfl dX5_firstToken_39
def f_X5_redeem (i0 : Nat) (a1 : Int32) : PT Int32 := gI 4 i0 39 fun v1 => bn0 (f_X5_isIn a1 (0 : Int32) (v1 - (1 : Int32))) fun v2 => bnd (ρ := _) (α := Int32) (jo (σ := Unit) (fun _ => rt (0 : Int32)) fun j46 => cnd (v2 = 0) (j46 ()) (gR 4 i0 45 fun v48 => isK 32 v48 fun i49 => aI 32 i49 a1 fun v51 => cnd (v51 = (-1 : Int32)) (gI 4 i0 0 fun v53 => gR 4 i0 44 fun v54 => isK 32 v54 fun i55 => aI 32 i55 a1 fun v57 => cnd ((5 : Int32) < (v53 - v57)) (j46 ()) (gR 4 i0 35 fun v59 => gR 4 i0 40 fun v60 => isK 32 v60 fun i61 => aI 32 i61 a1 fun v63 => isK 33 v59 fun i64 => aI 33 i64 v63 fun v66 => cnd (v66 = 0) (j46 ()) (rt (1 : Int32)))) (j46 ()))) (fun u3 => bnd (ρ := _) (α := Int32) (jo (σ := Unit) (fun _ => rt (1 : Int32)) fun j40 => cnd (u3 = 0) (j40 ()) (gI 4 i0 52 fun v42 => cnd ((200 : Int32) ≤ v42) (rt (0 : Int32)) (j40 ()))) (fun u4 => bn0 (f_X5_mayBoth i0 v2 u4) fun v5 => cnd (v5 = 0) (rt (0 : Int32)) (cnd (u3 = 0) (gR 4 i0 45 fun v8 => isK 32 v8 fun i9 => aI 32 i9 a1 fun v11 => cnd (v11 = (-1 : Int32)) (rt (-1 : Int32)) (gR 4 i0 45 fun v13 => isK 32 v13 fun i14 => aI 32 i14 a1 fun v16 => bn0 (f_X5_endFamily i0 v16) fun _ => rt (-1 : Int32))) (gI 4 i0 46 fun v18 => gR 4 i0 47 fun v19 => isK 32 v19 fun i20 => bI 32 i20 v18 a1 <| gR 4 i0 48 fun v22 => isK 32 v22 fun i23 => bI 32 i23 v18 (0 : Int32) <| gR 4 i0 49 fun v25 => gI 4 i0 0 fun v26 => isK 32 v25 fun i27 => bI 32 i27 v18 v26 <| gR 4 i0 51 fun v29 => isK 33 v29 fun i30 => bZ 33 i30 v18 (1 : Int32) <| gR 4 i0 45 fun v32 => isK 32 v32 fun i33 => bI 32 i33 a1 v18 <| gI 4 i0 46 fun v35 => pI 4 i0 46 (v35 + (1 : Int32)) <| bn0 (f_X5_write i0 (2 : Int32) v18) fun _ => bn0 (f_X5_firstToken i0 v18) fun _ => rt v18))))
theorem im_X5_redeem {g : GP} {l : Launch} (hl : l.stackTraces = false) (i0 : Nat) (a1 : Int32) : Im g l 2 yX5_redeem cX5_redeem 5 (some .int) eI [.ref (idc 4 i0), .int a1] (f_X5_redeem i0 a1) := by
  refine tx_start hl 2 _ _ _ _ (by decide) (Nat.le_of_ble_eq_true rfl) fun Γ Z hΓ hZ => ?_
  subst hΓ
  unfold f_X5_redeem
  show TX g Γ _ Z _ 0 [(0, .ref (idc 4 i0)), (1, .int a1)] [] _
  refine x_iload_n 0 1 dX5_redeem_0 rfl ?_
  refine x_iconst 1 0 (0 : Int32) dX5_redeem_1 rfl ?_
  refine x_aload_n 2 0 dX5_redeem_2 rfl ?_
  refine x_getI 3 fa_X5_361_4 dX5_redeem_3 fun v1 => ?_
  refine x_iconst 6 1 (1 : Int32) dX5_redeem_6 rfl ?_
  refine x_isub 7 dX5_redeem_7 ?_
  refine x_cS 8 0 [.int a1, .int (0 : Int32), .int (v1 - (1 : Int32))] [] cs_X5_228 (im_X5_isIn hl a1 (0 : Int32) (v1 - (1 : Int32))) (by decide) rfl (Nat.le_of_ble_eq_true rfl) dX5_redeem_8 fun v2 => x_stI ?_
  refine x_istore_n 11 [(2, .int v2), (0, .ref (idc 4 i0)), (1, .int a1)] dX5_redeem_11 (by decide) rfl ?_
  refine x_iload_n 12 0 dX5_redeem_12 rfl ?_
  refine x_bndj 60 (fun u3 => [(0, .ref (idc 4 i0)), (1, .int a1), (2, .int v2)]) (fun u3 => [.int u3]) (fun u3 => ?_) (fun hj44 => ?_)
  · show TX g Γ _ Z _ 60 [(0, .ref (idc 4 i0)), (1, .int a1), (2, .int v2)] [.int u3] _
    refine x_istore_n 60 [(3, .int u3), (0, .ref (idc 4 i0)), (1, .int a1), (2, .int v2)] dX5_redeem_60 (by decide) rfl ?_
    refine x_aload_n 61 1 dX5_redeem_61 rfl ?_
    refine x_iload_n 62 3 dX5_redeem_62 rfl ?_
    refine x_iload_n 63 0 dX5_redeem_63 rfl ?_
    refine x_bndj 82 (fun u4 => [(0, .ref (idc 4 i0)), (1, .int a1), (3, .int u3)]) (fun u4 => [.int u4, .int v2, .ref (idc 4 i0)]) (fun u4 => ?_) (fun hj38 => ?_)
    · show TX g Γ _ Z _ 82 [(0, .ref (idc 4 i0)), (1, .int a1), (3, .int u3)] [.int u4, .int v2, .ref (idc 4 i0)] _
      refine x_cV 82 0 [.int v2, .int u4] [] ⟨by decide, rfl⟩ cv_X5_274 (im_X5_mayBoth hl i0 v2 u4) (by decide) rfl (Nat.le_of_ble_eq_true rfl) dX5_redeem_82 fun v5 => x_stI ?_
      refine x_if_ne 85 90 dX5_redeem_85 rfl (fun c6 => ?_) (fun c6 => ?_)
      · refine x_iconst 88 0 (0 : Int32) dX5_redeem_88 rfl ?_
        exact x_iret 89 hZ rfl dX5_redeem_89
      · refine x_iload_n 90 2 dX5_redeem_90 rfl ?_
        refine x_if_ne 91 116 dX5_redeem_91 rfl (fun c7 => ?_) (fun c7 => ?_)
        · refine x_aload_n 94 0 dX5_redeem_94 rfl ?_
          refine x_getR 95 fa_X5_131_4 dX5_redeem_95 fun v8 => ?_
          refine x_iload_n 98 1 dX5_redeem_98 rfl ?_
          refine x_isK fun i9 h10 => ?_
          subst h10
          refine x_iald 99 dX5_redeem_99 fun v11 => ?_
          refine x_iconst 100 (-1) (-1 : Int32) dX5_redeem_100 rfl ?_
          refine x_icmp_eq 101 114 dX5_redeem_101 rfl (fun c12 => ?_) (fun c12 => ?_)
          · refine x_iconst 114 (-1) (-1 : Int32) dX5_redeem_114 rfl ?_
            exact x_iret 115 hZ rfl dX5_redeem_115
          · refine x_aload_n 104 0 dX5_redeem_104 rfl ?_
            refine x_aload_n 105 0 dX5_redeem_105 rfl ?_
            refine x_getR 106 fa_X5_131_4 dX5_redeem_106 fun v13 => ?_
            refine x_iload_n 109 1 dX5_redeem_109 rfl ?_
            refine x_isK fun i14 h15 => ?_
            subst h15
            refine x_iald 110 dX5_redeem_110 fun v16 => ?_
            refine x_cV 111 1 [.int v16] [] ⟨by decide, rfl⟩ cv_X5_263 (im_X5_endFamily hl i0 v16) (by decide) rfl (Nat.le_of_ble_eq_true rfl) dX5_redeem_111 fun v17 => x_stV ?_
            refine x_iconst 114 (-1) (-1 : Int32) dX5_redeem_114 rfl ?_
            exact x_iret 115 hZ rfl dX5_redeem_115
        · refine x_aload_n 116 0 dX5_redeem_116 rfl ?_
          refine x_getI 117 fa_X5_238_4 dX5_redeem_117 fun v18 => ?_
          refine x_istore 120 [(4, .int v18), (0, .ref (idc 4 i0)), (1, .int a1), (3, .int u3)] dX5_redeem_120 (by decide) rfl ?_
          refine x_aload_n 122 1 dX5_redeem_122 rfl ?_
          refine x_getR 123 fa_X5_134_4 dX5_redeem_123 fun v19 => ?_
          refine x_iload 126 0 dX5_redeem_126 rfl ?_
          refine x_iload_n 128 2 dX5_redeem_128 rfl ?_
          refine x_isK fun i20 h21 => ?_
          subst h21
          refine x_iast 129 dX5_redeem_129 ?_
          refine x_aload_n 130 1 dX5_redeem_130 rfl ?_
          refine x_getR 131 fa_X5_137_4 dX5_redeem_131 fun v22 => ?_
          refine x_iload 134 0 dX5_redeem_134 rfl ?_
          refine x_iconst 136 0 (0 : Int32) dX5_redeem_136 rfl ?_
          refine x_isK fun i23 h24 => ?_
          subst h24
          refine x_iast 137 dX5_redeem_137 ?_
          refine x_aload_n 138 1 dX5_redeem_138 rfl ?_
          refine x_getR 139 fa_X5_140_4 dX5_redeem_139 fun v25 => ?_
          refine x_iload 142 0 dX5_redeem_142 rfl ?_
          refine x_aload_n 144 1 dX5_redeem_144 rfl ?_
          refine x_getI 145 fa_X5_247_4 dX5_redeem_145 fun v26 => ?_
          refine x_isK fun i27 h28 => ?_
          subst h28
          refine x_iast 148 dX5_redeem_148 ?_
          refine x_aload_n 149 1 dX5_redeem_149 rfl ?_
          refine x_getR 150 fa_X5_146_4 dX5_redeem_150 fun v29 => ?_
          refine x_iload 153 0 dX5_redeem_153 rfl ?_
          refine x_iconst 155 1 (1 : Int32) dX5_redeem_155 rfl ?_
          refine x_isK fun i30 h31 => ?_
          subst h31
          refine x_zast 156 dX5_redeem_156 ?_
          refine x_aload_n 157 1 dX5_redeem_157 rfl ?_
          refine x_getR 158 fa_X5_131_4 dX5_redeem_158 fun v32 => ?_
          refine x_iload_n 161 2 dX5_redeem_161 rfl ?_
          refine x_iload 162 0 dX5_redeem_162 rfl ?_
          refine x_isK fun i33 h34 => ?_
          subst h34
          refine x_iast 164 dX5_redeem_164 ?_
          refine x_aload_n 165 1 dX5_redeem_165 rfl ?_
          refine x_dup 166 dX5_redeem_166 rfl ?_
          refine x_getI 167 fa_X5_238_4 dX5_redeem_167 fun v35 => ?_
          refine x_iconst 170 1 (1 : Int32) dX5_redeem_170 rfl ?_
          refine x_iadd 171 dX5_redeem_171 ?_
          refine x_putI 172 fa_X5_238_4 rfl (Or.inl rfl) dX5_redeem_172 ?_
          refine x_aload_n 175 1 dX5_redeem_175 rfl ?_
          refine x_iconst 176 2 (2 : Int32) dX5_redeem_176 rfl ?_
          refine x_iload 177 0 dX5_redeem_177 rfl ?_
          refine x_cV 179 0 [.int (2 : Int32), .int v18] [] ⟨by decide, rfl⟩ cv_X5_255 (im_X5_write hl i0 (2 : Int32) v18) (by decide) rfl (Nat.le_of_ble_eq_true rfl) dX5_redeem_179 fun v36 => x_stV ?_
          refine x_aload_n 182 1 dX5_redeem_182 rfl ?_
          refine x_iload 183 0 dX5_redeem_183 rfl ?_
          refine x_cV 185 1 [.int v18] [] ⟨by decide, rfl⟩ cv_X5_368 (im_X5_firstToken hl i0 v18) (by decide) rfl (Nat.le_of_ble_eq_true rfl) dX5_redeem_185 fun v37 => x_stV ?_
          refine x_iload 188 0 dX5_redeem_188 rfl ?_
          exact x_iret 190 hZ rfl dX5_redeem_190
    · refine x_jo 77 (Lf := fun _ => [(0, .ref (idc 4 i0)), (1, .int a1), (3, .int u3)]) (sf := fun _ => [.int v2, .ref (idc 4 i0)]) (fun _ => ?_) (fun j40 hj39 => ?_)
      · show TX g Γ _ Z _ 77 [(0, .ref (idc 4 i0)), (1, .int a1), (3, .int u3)] [.int v2, .ref (idc 4 i0)] _
        refine x_iconst 77 1 (1 : Int32) dX5_redeem_77 rfl ?_
        refine x_goto 78 82 dX5_redeem_78 rfl ?_
        exact hj38 (1 : Int32)
      · refine x_if_eq 64 77 dX5_redeem_64 rfl (fun c41 => ?_) (fun c41 => ?_)
        · refine x_sub [1, 2, 0] _ rfl ?_
          exact hj39 ()
        · refine x_aload_n 67 1 dX5_redeem_67 rfl ?_
          refine x_getI 68 fa_X5_241_4 dX5_redeem_68 fun v42 => ?_
          refine x_sipush 71 200 (200 : Int32) dX5_redeem_71 rfl ?_
          refine x_icmp_ge 74 81 dX5_redeem_74 rfl (fun c43 => ?_) (fun c43 => ?_)
          · refine x_iconst 81 0 (0 : Int32) dX5_redeem_81 rfl ?_
            refine x_sub [1, 2, 0] _ rfl ?_
            exact hj38 (0 : Int32)
          · refine x_sub [1, 2, 0] _ rfl ?_
            exact hj39 ()
  · refine x_jo 59 (Lf := fun _ => [(0, .ref (idc 4 i0)), (1, .int a1), (2, .int v2)]) (sf := fun _ => []) (fun _ => ?_) (fun j46 hj45 => ?_)
    · show TX g Γ _ Z _ 59 [(0, .ref (idc 4 i0)), (1, .int a1), (2, .int v2)] [] _
      refine x_iconst 59 0 (0 : Int32) dX5_redeem_59 rfl ?_
      exact hj44 (0 : Int32)
    · refine x_if_eq 13 59 dX5_redeem_13 rfl (fun c47 => ?_) (fun c47 => ?_)
      · refine x_sub [1, 2, 0] _ rfl ?_
        exact hj45 ()
      · refine x_aload_n 16 1 dX5_redeem_16 rfl ?_
        refine x_getR 17 fa_X5_131_4 dX5_redeem_17 fun v48 => ?_
        refine x_iload_n 20 2 dX5_redeem_20 rfl ?_
        refine x_isK fun i49 h50 => ?_
        subst h50
        refine x_iald 21 dX5_redeem_21 fun v51 => ?_
        refine x_iconst 22 (-1) (-1 : Int32) dX5_redeem_22 rfl ?_
        refine x_icmp_ne 23 59 dX5_redeem_23 rfl (fun c52 => ?_) (fun c52 => ?_)
        · refine x_aload_n 26 1 dX5_redeem_26 rfl ?_
          refine x_getI 27 fa_X5_247_4 dX5_redeem_27 fun v53 => ?_
          refine x_aload_n 30 1 dX5_redeem_30 rfl ?_
          refine x_getR 31 fa_X5_128_4 dX5_redeem_31 fun v54 => ?_
          refine x_iload_n 34 2 dX5_redeem_34 rfl ?_
          refine x_isK fun i55 h56 => ?_
          subst h56
          refine x_iald 35 dX5_redeem_35 fun v57 => ?_
          refine x_isub 36 dX5_redeem_36 ?_
          refine x_iconst 37 5 (5 : Int32) dX5_redeem_37 rfl ?_
          refine x_icmp_gt 38 59 dX5_redeem_38 rfl (fun c58 => ?_) (fun c58 => ?_)
          · refine x_sub [1, 2, 0] _ rfl ?_
            exact hj45 ()
          · refine x_aload_n 41 1 dX5_redeem_41 rfl ?_
            refine x_getR 42 fa_X5_104_4 dX5_redeem_42 fun v59 => ?_
            refine x_aload_n 45 1 dX5_redeem_45 rfl ?_
            refine x_getR 46 fa_X5_116_4 dX5_redeem_46 fun v60 => ?_
            refine x_iload_n 49 2 dX5_redeem_49 rfl ?_
            refine x_isK fun i61 h62 => ?_
            subst h62
            refine x_iald 50 dX5_redeem_50 fun v63 => ?_
            refine x_isK fun i64 h65 => ?_
            subst h65
            refine x_zald 51 dX5_redeem_51 fun v66 => ?_
            refine x_if_eq 52 59 dX5_redeem_52 rfl (fun c67 => ?_) (fun c67 => ?_)
            · refine x_sub [1, 2, 0] _ rfl ?_
              exact hj45 ()
            · refine x_iconst 55 1 (1 : Int32) dX5_redeem_55 rfl ?_
              refine x_goto 56 60 dX5_redeem_56 rfl ?_
              refine x_sub [1, 2, 0] _ rfl ?_
              exact hj44 (1 : Int32)
        · refine x_sub [1, 2, 0] _ rfl ?_
          exact hj45 ()
def f_X5_isFamily (i0 : Nat) (a1 : Int32) : PT Int32 := gI 4 i0 46 fun v1 => bn0 (f_X5_isIn a1 (0 : Int32) (v1 - (1 : Int32))) fun v2 => asr (v2 = 0 ∨ v2 = 1) (rt v2)
theorem im_X5_isFamily {g : GP} {l : Launch} (hl : l.stackTraces = false) (i0 : Nat) (a1 : Int32) : Im g l 1 yX5_isFamily cX5_isFamily 2 (some .boolean) eI [.ref (idc 4 i0), .int a1] (f_X5_isFamily i0 a1) := by
  refine tx_start hl 1 _ _ _ _ (by decide) (Nat.le_of_ble_eq_true rfl) fun Γ Z hΓ hZ => ?_
  subst hΓ
  unfold f_X5_isFamily
  show TX g Γ _ Z _ 0 [(0, .ref (idc 4 i0)), (1, .int a1)] [] _
  refine x_iload_n 0 1 dX5_isFamily_0 rfl ?_
  refine x_iconst 1 0 (0 : Int32) dX5_isFamily_1 rfl ?_
  refine x_aload_n 2 0 dX5_isFamily_2 rfl ?_
  refine x_getI 3 fa_X5_238_4 dX5_isFamily_3 fun v1 => ?_
  refine x_iconst 6 1 (1 : Int32) dX5_isFamily_6 rfl ?_
  refine x_isub 7 dX5_isFamily_7 ?_
  refine x_cS 8 0 [.int a1, .int (0 : Int32), .int (v1 - (1 : Int32))] [] cs_X5_228 (im_X5_isIn hl a1 (0 : Int32) (v1 - (1 : Int32))) (by decide) rfl (Nat.le_of_ble_eq_true rfl) dX5_isFamily_8 fun v2 => x_stI ?_
  exact x_zret 11 hZ rfl dX5_isFamily_11
def f_X5_refresh (i0 : Nat) (a1 : Int32) (a2 : Int32) : PT Int32 := bn0 (f_X5_isFamily i0 a1) fun v1 => bnd (ρ := _) (α := Int32) (jo (σ := Unit) (fun _ => rt (0 : Int32)) fun j93 => cnd (v1 = 0) (j93 ()) (gR 4 i0 48 fun v95 => isK 32 v95 fun i96 => aI 32 i96 a1 fun v98 => bn0 (f_X5_isIn a2 (0 : Int32) v98) fun v99 => cnd (v99 = 0) (j93 ()) (rt (1 : Int32)))) (fun u2 => bnd (ρ := _) (α := Int32) (jo (σ := Unit) (fun _ => rt (0 : Int32)) fun j71 => cnd (v1 = 0) (j71 ()) (gR 4 i0 51 fun v73 => isK 33 v73 fun i74 => aI 33 i74 a1 fun v76 => cnd (v76 = 0) (j71 ()) (gR 4 i0 35 fun v78 => gR 4 i0 40 fun v79 => gR 4 i0 47 fun v80 => isK 32 v80 fun i81 => aI 32 i81 a1 fun v83 => isK 32 v79 fun i84 => aI 32 i84 v83 fun v86 => isK 33 v78 fun i87 => aI 33 i87 v86 fun v89 => cnd (v89 = 0) (j71 ()) (rt (1 : Int32))))) (fun u3 => bnd (ρ := _) (α := Int32) (jo (σ := Unit) (fun _ => rt (0 : Int32)) fun j61 => cnd (u2 = 0) (j61 ()) (cnd (u3 = 0) (j61 ()) (gR 4 i0 48 fun v64 => isK 32 v64 fun i65 => aI 32 i65 a1 fun v67 => cnd (a2 = v67) (rt (1 : Int32)) (j61 ())))) (fun u4 => bnd (ρ := _) (α := Int32) (jo (σ := Unit) (fun _ => rt (1 : Int32)) fun j55 => cnd (u4 = 0) (j55 ()) (gI 4 i0 52 fun v57 => cnd ((200 : Int32) ≤ v57) (rt (0 : Int32)) (j55 ()))) (fun u5 => bn0 (f_X5_mayAll i0 v1 u2 u5) fun v6 => cnd (v6 = 0) (rt (0 : Int32)) (cnd (u3 = 0) (rt (-1 : Int32)) (cnd (u4 = 0) (gR 4 i0 48 fun v10 => isK 32 v10 fun i11 => aI 32 i11 a1 fun v13 => jo (σ := Unit) (fun _ => bn0 (f_X5_endFamily i0 a1) fun _ => rt (-1 : Int32)) fun j16 => cnd (a2 = (v13 - (1 : Int32))) (gI 4 i0 0 fun v18 => gR 4 i0 49 fun v19 => isK 32 v19 fun i20 => aI 32 i20 a1 fun v22 => cnd ((1 : Int32) < (v18 - v22)) (j16 ()) (gR 4 i0 48 fun v24 => isK 32 v24 fun i25 => aI 32 i25 a1 fun v27 => rt v27)) (j16 ())) (gR 4 i0 48 fun v28 => isK 32 v28 fun i29 => aI 32 i29 a1 fun v31 => bI 32 i29 a1 (v31 + (1 : Int32)) <| gR 4 i0 49 fun v32 => gI 4 i0 0 fun v33 => isK 32 v32 fun i34 => bI 32 i34 a1 v33 <| bn0 (f_X5_firstToken i0 a1) fun _ => gR 4 i0 33 fun v37 => gR 4 i0 40 fun v38 => gR 4 i0 47 fun v39 => isK 32 v39 fun i40 => aI 32 i40 a1 fun v42 => isK 32 v38 fun i43 => aI 32 i43 v42 fun v45 => gI 4 i0 0 fun v46 => isK 32 v37 fun i47 => bI 32 i47 v45 v46 <| gR 4 i0 48 fun v49 => isK 32 v49 fun i50 => aI 32 i50 a1 fun v52 => rt v52)))))))
theorem im_X5_refresh {g : GP} {l : Launch} (hl : l.stackTraces = false) (i0 : Nat) (a1 : Int32) (a2 : Int32) : Im g l 2 yX5_refresh cX5_refresh 7 (some .int) eI [.ref (idc 4 i0), .int a1, .int a2] (f_X5_refresh i0 a1 a2) := by
  refine tx_start hl 2 _ _ _ _ (by decide) (Nat.le_of_ble_eq_true rfl) fun Γ Z hΓ hZ => ?_
  subst hΓ
  unfold f_X5_refresh
  show TX g Γ _ Z _ 0 [(0, .ref (idc 4 i0)), (1, .int a1), (2, .int a2)] [] _
  refine x_aload_n 0 0 dX5_refresh_0 rfl ?_
  refine x_iload_n 1 1 dX5_refresh_1 rfl ?_
  refine x_cV 2 1 [.int a1] [] ⟨by decide, rfl⟩ cv_X5_371 (im_X5_isFamily hl i0 a1) (by decide) rfl (Nat.le_of_ble_eq_true rfl) dX5_refresh_2 fun v1 => x_stI ?_
  refine x_istore_n 5 [(3, .int v1), (0, .ref (idc 4 i0)), (1, .int a1), (2, .int a2)] dX5_refresh_5 (by decide) rfl ?_
  refine x_iload_n 6 0 dX5_refresh_6 rfl ?_
  refine x_bndj 29 (fun u2 => [(0, .ref (idc 4 i0)), (1, .int a1), (2, .int a2), (3, .int v1)]) (fun u2 => [.int u2]) (fun u2 => ?_) (fun hj91 => ?_)
  · show TX g Γ _ Z _ 29 [(0, .ref (idc 4 i0)), (1, .int a1), (2, .int a2), (3, .int v1)] [.int u2] _
    refine x_istore 29 [(4, .int u2), (0, .ref (idc 4 i0)), (1, .int a1), (2, .int a2), (3, .int v1)] dX5_refresh_29 (by decide) rfl ?_
    refine x_iload_n 31 4 dX5_refresh_31 rfl ?_
    refine x_bndj 68 (fun u3 => [(0, .ref (idc 4 i0)), (1, .int a1), (2, .int a2), (3, .int v1), (4, .int u2)]) (fun u3 => [.int u3]) (fun u3 => ?_) (fun hj69 => ?_)
    · show TX g Γ _ Z _ 68 [(0, .ref (idc 4 i0)), (1, .int a1), (2, .int a2), (3, .int v1), (4, .int u2)] [.int u3] _
      refine x_istore 68 [(5, .int u3), (0, .ref (idc 4 i0)), (1, .int a1), (2, .int a2), (3, .int v1), (4, .int u2)] dX5_refresh_68 (by decide) rfl ?_
      refine x_iload 70 5 dX5_refresh_70 rfl ?_
      refine x_bndj 95 (fun u4 => [(0, .ref (idc 4 i0)), (1, .int a1), (2, .int a2), (3, .int v1), (4, .int u2), (5, .int u3)]) (fun u4 => [.int u4]) (fun u4 => ?_) (fun hj59 => ?_)
      · show TX g Γ _ Z _ 95 [(0, .ref (idc 4 i0)), (1, .int a1), (2, .int a2), (3, .int v1), (4, .int u2), (5, .int u3)] [.int u4] _
        refine x_istore 95 [(6, .int u4), (0, .ref (idc 4 i0)), (1, .int a1), (2, .int a2), (3, .int v1), (4, .int u2), (5, .int u3)] dX5_refresh_95 (by decide) rfl ?_
        refine x_aload_n 97 1 dX5_refresh_97 rfl ?_
        refine x_iload_n 98 4 dX5_refresh_98 rfl ?_
        refine x_iload 99 5 dX5_refresh_99 rfl ?_
        refine x_iload 101 0 dX5_refresh_101 rfl ?_
        refine x_bndj 121 (fun u5 => [(0, .ref (idc 4 i0)), (1, .int a1), (2, .int a2), (5, .int u3), (6, .int u4)]) (fun u5 => [.int u5, .int u2, .int v1, .ref (idc 4 i0)]) (fun u5 => ?_) (fun hj53 => ?_)
        · show TX g Γ _ Z _ 121 [(0, .ref (idc 4 i0)), (1, .int a1), (2, .int a2), (5, .int u3), (6, .int u4)] [.int u5, .int u2, .int v1, .ref (idc 4 i0)] _
          refine x_cV 121 0 [.int v1, .int u2, .int u5] [] ⟨by decide, rfl⟩ cv_X5_344 (im_X5_mayAll hl i0 v1 u2 u5) (by decide) rfl (Nat.le_of_ble_eq_true rfl) dX5_refresh_121 fun v6 => x_stI ?_
          refine x_if_ne 124 129 dX5_refresh_124 rfl (fun c7 => ?_) (fun c7 => ?_)
          · refine x_iconst 127 0 (0 : Int32) dX5_refresh_127 rfl ?_
            exact x_iret 128 hZ rfl dX5_refresh_128
          · refine x_iload 129 3 dX5_refresh_129 rfl ?_
            refine x_if_ne 131 136 dX5_refresh_131 rfl (fun c8 => ?_) (fun c8 => ?_)
            · refine x_iconst 134 (-1) (-1 : Int32) dX5_refresh_134 rfl ?_
              exact x_iret 135 hZ rfl dX5_refresh_135
            · refine x_iload 136 4 dX5_refresh_136 rfl ?_
              refine x_if_eq 138 193 dX5_refresh_138 rfl (fun c9 => ?_) (fun c9 => ?_)
              · refine x_iload_n 193 2 dX5_refresh_193 rfl ?_
                refine x_aload_n 194 0 dX5_refresh_194 rfl ?_
                refine x_getR 195 fa_X5_137_4 dX5_refresh_195 fun v10 => ?_
                refine x_iload_n 198 1 dX5_refresh_198 rfl ?_
                refine x_isK fun i11 h12 => ?_
                subst h12
                refine x_iald 199 dX5_refresh_199 fun v13 => ?_
                refine x_iconst 200 1 (1 : Int32) dX5_refresh_200 rfl ?_
                refine x_isub 201 dX5_refresh_201 ?_
                refine x_jo 227 (Lf := fun _ => [(0, .ref (idc 4 i0)), (1, .int a1)]) (sf := fun _ => []) (fun _ => ?_) (fun j16 hj15 => ?_)
                · show TX g Γ _ Z _ 227 [(0, .ref (idc 4 i0)), (1, .int a1)] [] _
                  refine x_aload_n 227 0 dX5_refresh_227 rfl ?_
                  refine x_iload_n 228 1 dX5_refresh_228 rfl ?_
                  refine x_cV 229 1 [.int a1] [] ⟨by decide, rfl⟩ cv_X5_263 (im_X5_endFamily hl i0 a1) (by decide) rfl (Nat.le_of_ble_eq_true rfl) dX5_refresh_229 fun v14 => x_stV ?_
                  refine x_iconst 232 (-1) (-1 : Int32) dX5_refresh_232 rfl ?_
                  exact x_iret 233 hZ rfl dX5_refresh_233
                · refine x_icmp_ne 202 227 dX5_refresh_202 rfl (fun c17 => ?_) (fun c17 => ?_)
                  · refine x_aload_n 205 0 dX5_refresh_205 rfl ?_
                    refine x_getI 206 fa_X5_247_4 dX5_refresh_206 fun v18 => ?_
                    refine x_aload_n 209 0 dX5_refresh_209 rfl ?_
                    refine x_getR 210 fa_X5_140_4 dX5_refresh_210 fun v19 => ?_
                    refine x_iload_n 213 1 dX5_refresh_213 rfl ?_
                    refine x_isK fun i20 h21 => ?_
                    subst h21
                    refine x_iald 214 dX5_refresh_214 fun v22 => ?_
                    refine x_isub 215 dX5_refresh_215 ?_
                    refine x_iconst 216 1 (1 : Int32) dX5_refresh_216 rfl ?_
                    refine x_icmp_gt 217 227 dX5_refresh_217 rfl (fun c23 => ?_) (fun c23 => ?_)
                    · refine x_sub [0, 1] _ rfl ?_
                      exact hj15 ()
                    · refine x_aload_n 220 0 dX5_refresh_220 rfl ?_
                      refine x_getR 221 fa_X5_137_4 dX5_refresh_221 fun v24 => ?_
                      refine x_iload_n 224 1 dX5_refresh_224 rfl ?_
                      refine x_isK fun i25 h26 => ?_
                      subst h26
                      refine x_iald 225 dX5_refresh_225 fun v27 => ?_
                      exact x_iret 226 hZ rfl dX5_refresh_226
                  · refine x_sub [0, 1] _ rfl ?_
                    exact hj15 ()
              · refine x_aload_n 141 0 dX5_refresh_141 rfl ?_
                refine x_getR 142 fa_X5_137_4 dX5_refresh_142 fun v28 => ?_
                refine x_iload_n 145 1 dX5_refresh_145 rfl ?_
                refine x_dup2 146 dX5_refresh_146 rfl rfl ?_
                refine x_isK fun i29 h30 => ?_
                subst h30
                refine x_iald 147 dX5_refresh_147 fun v31 => ?_
                refine x_iconst 148 1 (1 : Int32) dX5_refresh_148 rfl ?_
                refine x_iadd 149 dX5_refresh_149 ?_
                refine x_iast 150 dX5_refresh_150 ?_
                refine x_aload_n 151 0 dX5_refresh_151 rfl ?_
                refine x_getR 152 fa_X5_140_4 dX5_refresh_152 fun v32 => ?_
                refine x_iload_n 155 1 dX5_refresh_155 rfl ?_
                refine x_aload_n 156 0 dX5_refresh_156 rfl ?_
                refine x_getI 157 fa_X5_247_4 dX5_refresh_157 fun v33 => ?_
                refine x_isK fun i34 h35 => ?_
                subst h35
                refine x_iast 160 dX5_refresh_160 ?_
                refine x_aload_n 161 0 dX5_refresh_161 rfl ?_
                refine x_iload_n 162 1 dX5_refresh_162 rfl ?_
                refine x_cV 163 1 [.int a1] [] ⟨by decide, rfl⟩ cv_X5_368 (im_X5_firstToken hl i0 a1) (by decide) rfl (Nat.le_of_ble_eq_true rfl) dX5_refresh_163 fun v36 => x_stV ?_
                refine x_aload_n 166 0 dX5_refresh_166 rfl ?_
                refine x_getR 167 fa_X5_98_4 dX5_refresh_167 fun v37 => ?_
                refine x_aload_n 170 0 dX5_refresh_170 rfl ?_
                refine x_getR 171 fa_X5_116_4 dX5_refresh_171 fun v38 => ?_
                refine x_aload_n 174 0 dX5_refresh_174 rfl ?_
                refine x_getR 175 fa_X5_134_4 dX5_refresh_175 fun v39 => ?_
                refine x_iload_n 178 1 dX5_refresh_178 rfl ?_
                refine x_isK fun i40 h41 => ?_
                subst h41
                refine x_iald 179 dX5_refresh_179 fun v42 => ?_
                refine x_isK fun i43 h44 => ?_
                subst h44
                refine x_iald 180 dX5_refresh_180 fun v45 => ?_
                refine x_aload_n 181 0 dX5_refresh_181 rfl ?_
                refine x_getI 182 fa_X5_247_4 dX5_refresh_182 fun v46 => ?_
                refine x_isK fun i47 h48 => ?_
                subst h48
                refine x_iast 185 dX5_refresh_185 ?_
                refine x_aload_n 186 0 dX5_refresh_186 rfl ?_
                refine x_getR 187 fa_X5_137_4 dX5_refresh_187 fun v49 => ?_
                refine x_iload_n 190 1 dX5_refresh_190 rfl ?_
                refine x_isK fun i50 h51 => ?_
                subst h51
                refine x_iald 191 dX5_refresh_191 fun v52 => ?_
                exact x_iret 192 hZ rfl dX5_refresh_192
        · refine x_jo 116 (Lf := fun _ => [(0, .ref (idc 4 i0)), (1, .int a1), (2, .int a2), (5, .int u3), (6, .int u4)]) (sf := fun _ => [.int u2, .int v1, .ref (idc 4 i0)]) (fun _ => ?_) (fun j55 hj54 => ?_)
          · show TX g Γ _ Z _ 116 [(0, .ref (idc 4 i0)), (1, .int a1), (2, .int a2), (5, .int u3), (6, .int u4)] [.int u2, .int v1, .ref (idc 4 i0)] _
            refine x_iconst 116 1 (1 : Int32) dX5_refresh_116 rfl ?_
            refine x_goto 117 121 dX5_refresh_117 rfl ?_
            exact hj53 (1 : Int32)
          · refine x_if_eq 103 116 dX5_refresh_103 rfl (fun c56 => ?_) (fun c56 => ?_)
            · refine x_sub [1, 2, 3, 6, 0] _ rfl ?_
              exact hj54 ()
            · refine x_aload_n 106 1 dX5_refresh_106 rfl ?_
              refine x_getI 107 fa_X5_241_4 dX5_refresh_107 fun v57 => ?_
              refine x_sipush 110 200 (200 : Int32) dX5_refresh_110 rfl ?_
              refine x_icmp_ge 113 120 dX5_refresh_113 rfl (fun c58 => ?_) (fun c58 => ?_)
              · refine x_iconst 120 0 (0 : Int32) dX5_refresh_120 rfl ?_
                refine x_sub [1, 2, 3, 6, 0] _ rfl ?_
                exact hj53 (0 : Int32)
              · refine x_sub [1, 2, 3, 6, 0] _ rfl ?_
                exact hj54 ()
      · refine x_jo 94 (Lf := fun _ => [(0, .ref (idc 4 i0)), (1, .int a1), (2, .int a2), (3, .int v1), (4, .int u2), (5, .int u3)]) (sf := fun _ => []) (fun _ => ?_) (fun j61 hj60 => ?_)
        · show TX g Γ _ Z _ 94 [(0, .ref (idc 4 i0)), (1, .int a1), (2, .int a2), (3, .int v1), (4, .int u2), (5, .int u3)] [] _
          refine x_iconst 94 0 (0 : Int32) dX5_refresh_94 rfl ?_
          exact hj59 (0 : Int32)
        · refine x_if_eq 72 94 dX5_refresh_72 rfl (fun c62 => ?_) (fun c62 => ?_)
          · refine x_sub [1, 2, 3, 4, 5, 0] _ rfl ?_
            exact hj60 ()
          · refine x_iload 75 0 dX5_refresh_75 rfl ?_
            refine x_if_eq 77 94 dX5_refresh_77 rfl (fun c63 => ?_) (fun c63 => ?_)
            · refine x_sub [1, 2, 3, 4, 5, 0] _ rfl ?_
              exact hj60 ()
            · refine x_iload_n 80 3 dX5_refresh_80 rfl ?_
              refine x_aload_n 81 1 dX5_refresh_81 rfl ?_
              refine x_getR 82 fa_X5_137_4 dX5_refresh_82 fun v64 => ?_
              refine x_iload_n 85 2 dX5_refresh_85 rfl ?_
              refine x_isK fun i65 h66 => ?_
              subst h66
              refine x_iald 86 dX5_refresh_86 fun v67 => ?_
              refine x_icmp_ne 87 94 dX5_refresh_87 rfl (fun c68 => ?_) (fun c68 => ?_)
              · refine x_iconst 90 1 (1 : Int32) dX5_refresh_90 rfl ?_
                refine x_goto 91 95 dX5_refresh_91 rfl ?_
                refine x_sub [1, 2, 3, 4, 5, 0] _ rfl ?_
                exact hj59 (1 : Int32)
              · refine x_sub [1, 2, 3, 4, 5, 0] _ rfl ?_
                exact hj60 ()
    · refine x_jo 67 (Lf := fun _ => [(0, .ref (idc 4 i0)), (1, .int a1), (2, .int a2), (3, .int v1), (4, .int u2)]) (sf := fun _ => []) (fun _ => ?_) (fun j71 hj70 => ?_)
      · show TX g Γ _ Z _ 67 [(0, .ref (idc 4 i0)), (1, .int a1), (2, .int a2), (3, .int v1), (4, .int u2)] [] _
        refine x_iconst 67 0 (0 : Int32) dX5_refresh_67 rfl ?_
        exact hj69 (0 : Int32)
      · refine x_if_eq 32 67 dX5_refresh_32 rfl (fun c72 => ?_) (fun c72 => ?_)
        · refine x_sub [1, 2, 3, 4, 0] _ rfl ?_
          exact hj70 ()
        · refine x_aload_n 35 1 dX5_refresh_35 rfl ?_
          refine x_getR 36 fa_X5_146_4 dX5_refresh_36 fun v73 => ?_
          refine x_iload_n 39 2 dX5_refresh_39 rfl ?_
          refine x_isK fun i74 h75 => ?_
          subst h75
          refine x_zald 40 dX5_refresh_40 fun v76 => ?_
          refine x_if_eq 41 67 dX5_refresh_41 rfl (fun c77 => ?_) (fun c77 => ?_)
          · refine x_sub [1, 2, 3, 4, 0] _ rfl ?_
            exact hj70 ()
          · refine x_aload_n 44 1 dX5_refresh_44 rfl ?_
            refine x_getR 45 fa_X5_104_4 dX5_refresh_45 fun v78 => ?_
            refine x_aload_n 48 1 dX5_refresh_48 rfl ?_
            refine x_getR 49 fa_X5_116_4 dX5_refresh_49 fun v79 => ?_
            refine x_aload_n 52 1 dX5_refresh_52 rfl ?_
            refine x_getR 53 fa_X5_134_4 dX5_refresh_53 fun v80 => ?_
            refine x_iload_n 56 2 dX5_refresh_56 rfl ?_
            refine x_isK fun i81 h82 => ?_
            subst h82
            refine x_iald 57 dX5_refresh_57 fun v83 => ?_
            refine x_isK fun i84 h85 => ?_
            subst h85
            refine x_iald 58 dX5_refresh_58 fun v86 => ?_
            refine x_isK fun i87 h88 => ?_
            subst h88
            refine x_zald 59 dX5_refresh_59 fun v89 => ?_
            refine x_if_eq 60 67 dX5_refresh_60 rfl (fun c90 => ?_) (fun c90 => ?_)
            · refine x_sub [1, 2, 3, 4, 0] _ rfl ?_
              exact hj70 ()
            · refine x_iconst 63 1 (1 : Int32) dX5_refresh_63 rfl ?_
              refine x_goto 64 68 dX5_refresh_64 rfl ?_
              refine x_sub [1, 2, 3, 4, 0] _ rfl ?_
              exact hj69 (1 : Int32)
  · refine x_jo 28 (Lf := fun _ => [(0, .ref (idc 4 i0)), (1, .int a1), (2, .int a2), (3, .int v1)]) (sf := fun _ => []) (fun _ => ?_) (fun j93 hj92 => ?_)
    · show TX g Γ _ Z _ 28 [(0, .ref (idc 4 i0)), (1, .int a1), (2, .int a2), (3, .int v1)] [] _
      refine x_iconst 28 0 (0 : Int32) dX5_refresh_28 rfl ?_
      exact hj91 (0 : Int32)
    · refine x_if_eq 7 28 dX5_refresh_7 rfl (fun c94 => ?_) (fun c94 => ?_)
      · refine x_sub [1, 2, 3, 0] _ rfl ?_
        exact hj92 ()
      · refine x_iload_n 10 3 dX5_refresh_10 rfl ?_
        refine x_iconst 11 0 (0 : Int32) dX5_refresh_11 rfl ?_
        refine x_aload_n 12 1 dX5_refresh_12 rfl ?_
        refine x_getR 13 fa_X5_137_4 dX5_refresh_13 fun v95 => ?_
        refine x_iload_n 16 2 dX5_refresh_16 rfl ?_
        refine x_isK fun i96 h97 => ?_
        subst h97
        refine x_iald 17 dX5_refresh_17 fun v98 => ?_
        refine x_cS 18 0 [.int a2, .int (0 : Int32), .int v98] [] cs_X5_228 (im_X5_isIn hl a2 (0 : Int32) v98) (by decide) rfl (Nat.le_of_ble_eq_true rfl) dX5_refresh_18 fun v99 => x_stI ?_
        refine x_if_eq 21 28 dX5_refresh_21 rfl (fun c100 => ?_) (fun c100 => ?_)
        · refine x_sub [1, 2, 3, 0] _ rfl ?_
          exact hj92 ()
        · refine x_iconst 24 1 (1 : Int32) dX5_refresh_24 rfl ?_
          refine x_goto 25 29 dX5_refresh_25 rfl ?_
          refine x_sub [1, 2, 3, 0] _ rfl ?_
          exact hj91 (1 : Int32)
def f_X5_isGood (i0 : Nat) (a1 : Int32) : PT Int32 := bn0 (f_X5_isFamily i0 a1) fun v1 => bn0 (f_X5_may i0 v1) fun v2 => cnd (v2 = 0) (asr ((0 : Int32) = 0 ∨ (0 : Int32) = 1) (rt (0 : Int32))) (gR 4 i0 51 fun v4 => isK 33 v4 fun i5 => aI 33 i5 a1 fun v7 => cnd (v7 = 0) (asr ((0 : Int32) = 0 ∨ (0 : Int32) = 1) (rt (0 : Int32))) (asr ((1 : Int32) = 0 ∨ (1 : Int32) = 1) (rt (1 : Int32))))
theorem im_X5_isGood {g : GP} {l : Launch} (hl : l.stackTraces = false) (i0 : Nat) (a1 : Int32) : Im g l 2 yX5_isGood cX5_isGood 2 (some .boolean) eI [.ref (idc 4 i0), .int a1] (f_X5_isGood i0 a1) := by
  refine tx_start hl 2 _ _ _ _ (by decide) (Nat.le_of_ble_eq_true rfl) fun Γ Z hΓ hZ => ?_
  subst hΓ
  unfold f_X5_isGood
  show TX g Γ _ Z _ 0 [(0, .ref (idc 4 i0)), (1, .int a1)] [] _
  refine x_aload_n 0 0 dX5_isGood_0 rfl ?_
  refine x_aload_n 1 0 dX5_isGood_1 rfl ?_
  refine x_iload_n 2 1 dX5_isGood_2 rfl ?_
  refine x_cV 3 1 [.int a1] [.ref (idc 4 i0)] ⟨by decide, rfl⟩ cv_X5_371 (im_X5_isFamily hl i0 a1) (by decide) rfl (Nat.le_of_ble_eq_true rfl) dX5_isGood_3 fun v1 => x_stI ?_
  refine x_cV 6 0 [.int v1] [] ⟨by decide, rfl⟩ cv_X5_251 (im_X5_may hl i0 v1) (by decide) rfl (Nat.le_of_ble_eq_true rfl) dX5_isGood_6 fun v2 => x_stI ?_
  refine x_if_eq 9 25 dX5_isGood_9 rfl (fun c3 => ?_) (fun c3 => ?_)
  · refine x_iconst 25 0 (0 : Int32) dX5_isGood_25 rfl ?_
    exact x_zret 26 hZ rfl dX5_isGood_26
  · refine x_aload_n 12 0 dX5_isGood_12 rfl ?_
    refine x_getR 13 fa_X5_146_4 dX5_isGood_13 fun v4 => ?_
    refine x_iload_n 16 1 dX5_isGood_16 rfl ?_
    refine x_isK fun i5 h6 => ?_
    subst h6
    refine x_zald 17 dX5_isGood_17 fun v7 => ?_
    refine x_if_eq 18 25 dX5_isGood_18 rfl (fun c8 => ?_) (fun c8 => ?_)
    · refine x_iconst 25 0 (0 : Int32) dX5_isGood_25 rfl ?_
      exact x_zret 26 hZ rfl dX5_isGood_26
    · refine x_iconst 21 1 (1 : Int32) dX5_isGood_21 rfl ?_
      refine x_goto 22 26 dX5_isGood_22 rfl ?_
      exact x_zret 26 hZ rfl dX5_isGood_26
def f_X5_tokenOf (i0 : Nat) (a1 : Int32) : PT Int32 := bn0 (f_X5_isFamily i0 a1) fun v1 => bn0 (f_X5_may i0 v1) fun v2 => cnd (v2 = 0) (rt (0 : Int32)) (gR 4 i0 50 fun v4 => isK 32 v4 fun i5 => aI 32 i5 a1 fun v7 => rt v7)
theorem im_X5_tokenOf {g : GP} {l : Launch} (hl : l.stackTraces = false) (i0 : Nat) (a1 : Int32) : Im g l 2 yX5_tokenOf cX5_tokenOf 2 (some .int) eI [.ref (idc 4 i0), .int a1] (f_X5_tokenOf i0 a1) := by
  refine tx_start hl 2 _ _ _ _ (by decide) (Nat.le_of_ble_eq_true rfl) fun Γ Z hΓ hZ => ?_
  subst hΓ
  unfold f_X5_tokenOf
  show TX g Γ _ Z _ 0 [(0, .ref (idc 4 i0)), (1, .int a1)] [] _
  refine x_aload_n 0 0 dX5_tokenOf_0 rfl ?_
  refine x_aload_n 1 0 dX5_tokenOf_1 rfl ?_
  refine x_iload_n 2 1 dX5_tokenOf_2 rfl ?_
  refine x_cV 3 1 [.int a1] [.ref (idc 4 i0)] ⟨by decide, rfl⟩ cv_X5_371 (im_X5_isFamily hl i0 a1) (by decide) rfl (Nat.le_of_ble_eq_true rfl) dX5_tokenOf_3 fun v1 => x_stI ?_
  refine x_cV 6 0 [.int v1] [] ⟨by decide, rfl⟩ cv_X5_251 (im_X5_may hl i0 v1) (by decide) rfl (Nat.le_of_ble_eq_true rfl) dX5_tokenOf_6 fun v2 => x_stI ?_
  refine x_if_eq 9 21 dX5_tokenOf_9 rfl (fun c3 => ?_) (fun c3 => ?_)
  · refine x_iconst 21 0 (0 : Int32) dX5_tokenOf_21 rfl ?_
    exact x_iret 22 hZ rfl dX5_tokenOf_22
  · refine x_aload_n 12 0 dX5_tokenOf_12 rfl ?_
    refine x_getR 13 fa_X5_143_4 dX5_tokenOf_13 fun v4 => ?_
    refine x_iload_n 16 1 dX5_tokenOf_16 rfl ?_
    refine x_isK fun i5 h6 => ?_
    subst h6
    refine x_iald 17 dX5_tokenOf_17 fun v7 => ?_
    refine x_goto 18 22 dX5_tokenOf_18 rfl ?_
    exact x_iret 22 hZ rfl dX5_tokenOf_22
def f_X5_isToken (i0 : Nat) (a1 : Int32) : PT Int32 := gI 4 i0 52 fun v1 => bn0 (f_X5_isIn a1 (0 : Int32) (v1 - (1 : Int32))) fun v2 => asr (v2 = 0 ∨ v2 = 1) (rt v2)
theorem im_X5_isToken {g : GP} {l : Launch} (hl : l.stackTraces = false) (i0 : Nat) (a1 : Int32) : Im g l 1 yX5_isToken cX5_isToken 2 (some .boolean) eI [.ref (idc 4 i0), .int a1] (f_X5_isToken i0 a1) := by
  refine tx_start hl 1 _ _ _ _ (by decide) (Nat.le_of_ble_eq_true rfl) fun Γ Z hΓ hZ => ?_
  subst hΓ
  unfold f_X5_isToken
  show TX g Γ _ Z _ 0 [(0, .ref (idc 4 i0)), (1, .int a1)] [] _
  refine x_iload_n 0 1 dX5_isToken_0 rfl ?_
  refine x_iconst 1 0 (0 : Int32) dX5_isToken_1 rfl ?_
  refine x_aload_n 2 0 dX5_isToken_2 rfl ?_
  refine x_getI 3 fa_X5_241_4 dX5_isToken_3 fun v1 => ?_
  refine x_iconst 6 1 (1 : Int32) dX5_isToken_6 rfl ?_
  refine x_isub 7 dX5_isToken_7 ?_
  refine x_cS 8 0 [.int a1, .int (0 : Int32), .int (v1 - (1 : Int32))] [] cs_X5_228 (im_X5_isIn hl a1 (0 : Int32) (v1 - (1 : Int32))) (by decide) rfl (Nat.le_of_ble_eq_true rfl) dX5_isToken_8 fun v2 => x_stI ?_
  exact x_zret 11 hZ rfl dX5_isToken_11
def f_X5_exchange (i0 : Nat) (a1 : Int32) (a2 : Int32) (a3 : Int32) : PT Int32 := bn0 (f_X5_isToken i0 a1) fun v1 => bnd (ρ := _) (α := Int32) (jo (σ := Unit) (fun _ => rt (0 : Int32)) fun j77 => cnd (v1 = 0) (j77 ()) (bn0 (f_X5_isService a2) fun v79 => cnd (v79 = 0) (j77 ()) (rt (1 : Int32)))) (fun u2 => bnd (ρ := _) (α := Int32) (jo (σ := Unit) (fun _ => rt (0 : Int32)) fun j66 => cnd (u2 = 0) (j66 ()) (bn0 (f_X5_isIn a3 (1 : Int32) (15 : Int32)) fun v68 => cnd (v68 = 0) (j66 ()) (gR 4 i0 55 fun v70 => isK 32 v70 fun i71 => aI 32 i71 a1 fun v73 => cnd ((a3 &&& (v73 ^^^ (-1 : Int32))) = 0) (rt (1 : Int32)) (j66 ())))) (fun u3 => bnd (ρ := _) (α := Int32) (jo (σ := Unit) (fun _ => rt (0 : Int32)) fun j40 => cnd (u2 = 0) (j40 ()) (gI 4 i0 0 fun v42 => gR 4 i0 59 fun v43 => isK 32 v43 fun i44 => aI 32 i44 a1 fun v46 => cnd (v46 < v42) (j40 ()) (gR 4 i0 51 fun v48 => gR 4 i0 57 fun v49 => isK 32 v49 fun i50 => aI 32 i50 a1 fun v52 => isK 33 v48 fun i53 => aI 33 i53 v52 fun v55 => cnd (v55 = 0) (j40 ()) (gR 4 i0 56 fun v57 => isK 32 v57 fun i58 => aI 32 i58 a1 fun v60 => cnd ((3 : Int32) ≤ v60) (j40 ()) (gI 4 i0 52 fun v62 => cnd ((200 : Int32) ≤ v62) (j40 ()) (rt (1 : Int32))))))) (fun u4 => bn0 (f_X5_mayAll i0 u2 u3 u4) fun v5 => cnd (v5 = 0) (rt (0 : Int32)) (gR 4 i0 57 fun v7 => isK 32 v7 fun i8 => aI 32 i8 a1 fun v10 => gR 4 i0 40 fun v11 => gR 4 i0 47 fun v12 => isK 32 v12 fun i13 => aI 32 i13 v10 fun v15 => isK 32 v11 fun i16 => aI 32 i16 v15 fun v18 => bn0 (f_X5_levelNow i0 v18) fun v19 => gR 4 i0 38 fun v20 => isK 32 v20 fun i21 => aI 32 i21 a2 fun v23 => cnd (v23 ≤ v19) (gR 4 i0 54 fun v25 => isK 32 v25 fun i26 => aI 32 i26 a1 fun v28 => gR 4 i0 56 fun v29 => isK 32 v29 fun i30 => aI 32 i30 a1 fun v32 => gR 4 i0 59 fun v33 => isK 32 v33 fun i34 => aI 32 i34 a1 fun v36 => bn0 (f_X5_newToken i0 v10 v28 a2 a3 (v32 + (1 : Int32)) v36) fun v37 => rt v37) (rt (-2 : Int32))))))
theorem im_X5_exchange {g : GP} {l : Launch} (hl : l.stackTraces = false) (i0 : Nat) (a1 : Int32) (a2 : Int32) (a3 : Int32) : Im g l 2 yX5_exchange cX5_exchange 8 (some .int) eI [.ref (idc 4 i0), .int a1, .int a2, .int a3] (f_X5_exchange i0 a1 a2 a3) := by
  refine tx_start hl 2 _ _ _ _ (by decide) (Nat.le_of_ble_eq_true rfl) fun Γ Z hΓ hZ => ?_
  subst hΓ
  unfold f_X5_exchange
  show TX g Γ _ Z _ 0 [(0, .ref (idc 4 i0)), (1, .int a1), (2, .int a2), (3, .int a3)] [] _
  refine x_aload_n 0 0 dX5_exchange_0 rfl ?_
  refine x_iload_n 1 1 dX5_exchange_1 rfl ?_
  refine x_cV 2 1 [.int a1] [] ⟨by decide, rfl⟩ cv_X5_374 (im_X5_isToken hl i0 a1) (by decide) rfl (Nat.le_of_ble_eq_true rfl) dX5_exchange_2 fun v1 => x_stI ?_
  refine x_bndj 20 (fun u2 => [(0, .ref (idc 4 i0)), (1, .int a1), (2, .int a2), (3, .int a3)]) (fun u2 => [.int u2]) (fun u2 => ?_) (fun hj75 => ?_)
  · show TX g Γ _ Z _ 20 [(0, .ref (idc 4 i0)), (1, .int a1), (2, .int a2), (3, .int a3)] [.int u2] _
    refine x_istore 20 [(4, .int u2), (0, .ref (idc 4 i0)), (1, .int a1), (2, .int a2), (3, .int a3)] dX5_exchange_20 (by decide) rfl ?_
    refine x_iload 22 0 dX5_exchange_22 rfl ?_
    refine x_bndj 55 (fun u3 => [(0, .ref (idc 4 i0)), (1, .int a1), (2, .int a2), (3, .int a3), (4, .int u2)]) (fun u3 => [.int u3]) (fun u3 => ?_) (fun hj64 => ?_)
    · show TX g Γ _ Z _ 55 [(0, .ref (idc 4 i0)), (1, .int a1), (2, .int a2), (3, .int a3), (4, .int u2)] [.int u3] _
      refine x_istore 55 [(5, .int u3), (0, .ref (idc 4 i0)), (1, .int a1), (2, .int a2), (3, .int a3), (4, .int u2)] dX5_exchange_55 (by decide) rfl ?_
      refine x_iload 57 5 dX5_exchange_57 rfl ?_
      refine x_bndj 114 (fun u4 => [(0, .ref (idc 4 i0)), (1, .int a1), (2, .int a2), (3, .int a3), (4, .int u2), (5, .int u3)]) (fun u4 => [.int u4]) (fun u4 => ?_) (fun hj38 => ?_)
      · show TX g Γ _ Z _ 114 [(0, .ref (idc 4 i0)), (1, .int a1), (2, .int a2), (3, .int a3), (4, .int u2), (5, .int u3)] [.int u4] _
        refine x_istore 114 [(6, .int u4), (0, .ref (idc 4 i0)), (1, .int a1), (2, .int a2), (3, .int a3), (4, .int u2), (5, .int u3)] dX5_exchange_114 (by decide) rfl ?_
        refine x_aload_n 116 1 dX5_exchange_116 rfl ?_
        refine x_iload 117 5 dX5_exchange_117 rfl ?_
        refine x_iload 119 6 dX5_exchange_119 rfl ?_
        refine x_iload 121 0 dX5_exchange_121 rfl ?_
        refine x_cV 123 0 [.int u2, .int u3, .int u4] [] ⟨by decide, rfl⟩ cv_X5_344 (im_X5_mayAll hl i0 u2 u3 u4) (by decide) rfl (Nat.le_of_ble_eq_true rfl) dX5_exchange_123 fun v5 => x_stI ?_
        refine x_if_ne 126 131 dX5_exchange_126 rfl (fun c6 => ?_) (fun c6 => ?_)
        · refine x_iconst 129 0 (0 : Int32) dX5_exchange_129 rfl ?_
          exact x_iret 130 hZ rfl dX5_exchange_130
        · refine x_aload_n 131 1 dX5_exchange_131 rfl ?_
          refine x_getR 132 fa_X5_161_4 dX5_exchange_132 fun v7 => ?_
          refine x_iload_n 135 2 dX5_exchange_135 rfl ?_
          refine x_isK fun i8 h9 => ?_
          subst h9
          refine x_iald 136 dX5_exchange_136 fun v10 => ?_
          refine x_istore 137 [(7, .int v10), (6, .int u4), (0, .ref (idc 4 i0)), (1, .int a1), (2, .int a2), (3, .int a3), (4, .int u2), (5, .int u3)] dX5_exchange_137 (by decide) rfl ?_
          refine x_aload_n 139 2 dX5_exchange_139 rfl ?_
          refine x_aload_n 140 2 dX5_exchange_140 rfl ?_
          refine x_getR 141 fa_X5_116_4 dX5_exchange_141 fun v11 => ?_
          refine x_aload_n 144 2 dX5_exchange_144 rfl ?_
          refine x_getR 145 fa_X5_134_4 dX5_exchange_145 fun v12 => ?_
          refine x_iload 148 0 dX5_exchange_148 rfl ?_
          refine x_isK fun i13 h14 => ?_
          subst h14
          refine x_iald 150 dX5_exchange_150 fun v15 => ?_
          refine x_isK fun i16 h17 => ?_
          subst h17
          refine x_iald 151 dX5_exchange_151 fun v18 => ?_
          refine x_cV 152 1 [.int v18] [] ⟨by decide, rfl⟩ cv_X5_355 (im_X5_levelNow hl i0 v18) (by decide) rfl (Nat.le_of_ble_eq_true rfl) dX5_exchange_152 fun v19 => x_stI ?_
          refine x_aload_n 155 2 dX5_exchange_155 rfl ?_
          refine x_getR 156 fa_X5_113_4 dX5_exchange_156 fun v20 => ?_
          refine x_iload_n 159 4 dX5_exchange_159 rfl ?_
          refine x_isK fun i21 h22 => ?_
          subst h22
          refine x_iald 160 dX5_exchange_160 fun v23 => ?_
          refine x_icmp_ge 161 167 dX5_exchange_161 rfl (fun c24 => ?_) (fun c24 => ?_)
          · refine x_aload_n 167 2 dX5_exchange_167 rfl ?_
            refine x_iload 168 0 dX5_exchange_168 rfl ?_
            refine x_aload_n 170 2 dX5_exchange_170 rfl ?_
            refine x_getR 171 fa_X5_152_4 dX5_exchange_171 fun v25 => ?_
            refine x_iload_n 174 3 dX5_exchange_174 rfl ?_
            refine x_isK fun i26 h27 => ?_
            subst h27
            refine x_iald 175 dX5_exchange_175 fun v28 => ?_
            refine x_iload_n 176 4 dX5_exchange_176 rfl ?_
            refine x_iload_n 177 5 dX5_exchange_177 rfl ?_
            refine x_aload_n 178 2 dX5_exchange_178 rfl ?_
            refine x_getR 179 fa_X5_158_4 dX5_exchange_179 fun v29 => ?_
            refine x_iload_n 182 3 dX5_exchange_182 rfl ?_
            refine x_isK fun i30 h31 => ?_
            subst h31
            refine x_iald 183 dX5_exchange_183 fun v32 => ?_
            refine x_iconst 184 1 (1 : Int32) dX5_exchange_184 rfl ?_
            refine x_iadd 185 dX5_exchange_185 ?_
            refine x_aload_n 186 2 dX5_exchange_186 rfl ?_
            refine x_getR 187 fa_X5_167_4 dX5_exchange_187 fun v33 => ?_
            refine x_iload_n 190 3 dX5_exchange_190 rfl ?_
            refine x_isK fun i34 h35 => ?_
            subst h35
            refine x_iald 191 dX5_exchange_191 fun v36 => ?_
            refine x_cV 192 0 [.int v10, .int v28, .int a2, .int a3, .int (v32 + (1 : Int32)), .int v36] [] ⟨by decide, rfl⟩ cv_X5_364 (im_X5_newToken hl i0 v10 v28 a2 a3 (v32 + (1 : Int32)) v36) (by decide) rfl (Nat.le_of_ble_eq_true rfl) dX5_exchange_192 fun v37 => x_stI ?_
            exact x_iret 195 hZ rfl dX5_exchange_195
          · refine x_bipush 164 (-2) (-2 : Int32) dX5_exchange_164 rfl ?_
            exact x_iret 166 hZ rfl dX5_exchange_166
      · refine x_jo 113 (Lf := fun _ => [(0, .ref (idc 4 i0)), (1, .int a1), (2, .int a2), (3, .int a3), (4, .int u2), (5, .int u3)]) (sf := fun _ => []) (fun _ => ?_) (fun j40 hj39 => ?_)
        · show TX g Γ _ Z _ 113 [(0, .ref (idc 4 i0)), (1, .int a1), (2, .int a2), (3, .int a3), (4, .int u2), (5, .int u3)] [] _
          refine x_iconst 113 0 (0 : Int32) dX5_exchange_113 rfl ?_
          exact hj38 (0 : Int32)
        · refine x_if_eq 59 113 dX5_exchange_59 rfl (fun c41 => ?_) (fun c41 => ?_)
          · refine x_sub [1, 2, 3, 4, 5, 0] _ rfl ?_
            exact hj39 ()
          · refine x_aload_n 62 1 dX5_exchange_62 rfl ?_
            refine x_getI 63 fa_X5_247_4 dX5_exchange_63 fun v42 => ?_
            refine x_aload_n 66 1 dX5_exchange_66 rfl ?_
            refine x_getR 67 fa_X5_167_4 dX5_exchange_67 fun v43 => ?_
            refine x_iload_n 70 2 dX5_exchange_70 rfl ?_
            refine x_isK fun i44 h45 => ?_
            subst h45
            refine x_iald 71 dX5_exchange_71 fun v46 => ?_
            refine x_icmp_gt 72 113 dX5_exchange_72 rfl (fun c47 => ?_) (fun c47 => ?_)
            · refine x_sub [1, 2, 3, 4, 5, 0] _ rfl ?_
              exact hj39 ()
            · refine x_aload_n 75 1 dX5_exchange_75 rfl ?_
              refine x_getR 76 fa_X5_146_4 dX5_exchange_76 fun v48 => ?_
              refine x_aload_n 79 1 dX5_exchange_79 rfl ?_
              refine x_getR 80 fa_X5_161_4 dX5_exchange_80 fun v49 => ?_
              refine x_iload_n 83 2 dX5_exchange_83 rfl ?_
              refine x_isK fun i50 h51 => ?_
              subst h51
              refine x_iald 84 dX5_exchange_84 fun v52 => ?_
              refine x_isK fun i53 h54 => ?_
              subst h54
              refine x_zald 85 dX5_exchange_85 fun v55 => ?_
              refine x_if_eq 86 113 dX5_exchange_86 rfl (fun c56 => ?_) (fun c56 => ?_)
              · refine x_sub [1, 2, 3, 4, 5, 0] _ rfl ?_
                exact hj39 ()
              · refine x_aload_n 89 1 dX5_exchange_89 rfl ?_
                refine x_getR 90 fa_X5_158_4 dX5_exchange_90 fun v57 => ?_
                refine x_iload_n 93 2 dX5_exchange_93 rfl ?_
                refine x_isK fun i58 h59 => ?_
                subst h59
                refine x_iald 94 dX5_exchange_94 fun v60 => ?_
                refine x_iconst 95 3 (3 : Int32) dX5_exchange_95 rfl ?_
                refine x_icmp_ge 96 113 dX5_exchange_96 rfl (fun c61 => ?_) (fun c61 => ?_)
                · refine x_sub [1, 2, 3, 4, 5, 0] _ rfl ?_
                  exact hj39 ()
                · refine x_aload_n 99 1 dX5_exchange_99 rfl ?_
                  refine x_getI 100 fa_X5_241_4 dX5_exchange_100 fun v62 => ?_
                  refine x_sipush 103 200 (200 : Int32) dX5_exchange_103 rfl ?_
                  refine x_icmp_ge 106 113 dX5_exchange_106 rfl (fun c63 => ?_) (fun c63 => ?_)
                  · refine x_sub [1, 2, 3, 4, 5, 0] _ rfl ?_
                    exact hj39 ()
                  · refine x_iconst 109 1 (1 : Int32) dX5_exchange_109 rfl ?_
                    refine x_goto 110 114 dX5_exchange_110 rfl ?_
                    refine x_sub [1, 2, 3, 4, 5, 0] _ rfl ?_
                    exact hj38 (1 : Int32)
    · refine x_jo 54 (Lf := fun _ => [(0, .ref (idc 4 i0)), (1, .int a1), (2, .int a2), (3, .int a3), (4, .int u2)]) (sf := fun _ => []) (fun _ => ?_) (fun j66 hj65 => ?_)
      · show TX g Γ _ Z _ 54 [(0, .ref (idc 4 i0)), (1, .int a1), (2, .int a2), (3, .int a3), (4, .int u2)] [] _
        refine x_iconst 54 0 (0 : Int32) dX5_exchange_54 rfl ?_
        exact hj64 (0 : Int32)
      · refine x_if_eq 24 54 dX5_exchange_24 rfl (fun c67 => ?_) (fun c67 => ?_)
        · refine x_sub [1, 2, 3, 4, 0] _ rfl ?_
          exact hj65 ()
        · refine x_iload_n 27 4 dX5_exchange_27 rfl ?_
          refine x_iconst 28 1 (1 : Int32) dX5_exchange_28 rfl ?_
          refine x_bipush 29 15 (15 : Int32) dX5_exchange_29 rfl ?_
          refine x_cS 31 0 [.int a3, .int (1 : Int32), .int (15 : Int32)] [] cs_X5_228 (im_X5_isIn hl a3 (1 : Int32) (15 : Int32)) (by decide) rfl (Nat.le_of_ble_eq_true rfl) dX5_exchange_31 fun v68 => x_stI ?_
          refine x_if_eq 34 54 dX5_exchange_34 rfl (fun c69 => ?_) (fun c69 => ?_)
          · refine x_sub [1, 2, 3, 4, 0] _ rfl ?_
            exact hj65 ()
          · refine x_iload_n 37 4 dX5_exchange_37 rfl ?_
            refine x_aload_n 38 1 dX5_exchange_38 rfl ?_
            refine x_getR 39 fa_X5_155_4 dX5_exchange_39 fun v70 => ?_
            refine x_iload_n 42 2 dX5_exchange_42 rfl ?_
            refine x_isK fun i71 h72 => ?_
            subst h72
            refine x_iald 43 dX5_exchange_43 fun v73 => ?_
            refine x_iconst 44 (-1) (-1 : Int32) dX5_exchange_44 rfl ?_
            refine x_ixor 45 dX5_exchange_45 ?_
            refine x_iand 46 dX5_exchange_46 ?_
            refine x_if_ne 47 54 dX5_exchange_47 rfl (fun c74 => ?_) (fun c74 => ?_)
            · refine x_iconst 50 1 (1 : Int32) dX5_exchange_50 rfl ?_
              refine x_goto 51 55 dX5_exchange_51 rfl ?_
              refine x_sub [1, 2, 3, 4, 0] _ rfl ?_
              exact hj64 (1 : Int32)
            · refine x_sub [1, 2, 3, 4, 0] _ rfl ?_
              exact hj65 ()
  · refine x_jo 19 (Lf := fun _ => [(0, .ref (idc 4 i0)), (1, .int a1), (2, .int a2), (3, .int a3)]) (sf := fun _ => []) (fun _ => ?_) (fun j77 hj76 => ?_)
    · show TX g Γ _ Z _ 19 [(0, .ref (idc 4 i0)), (1, .int a1), (2, .int a2), (3, .int a3)] [] _
      refine x_iconst 19 0 (0 : Int32) dX5_exchange_19 rfl ?_
      exact hj75 (0 : Int32)
    · refine x_if_eq 5 19 dX5_exchange_5 rfl (fun c78 => ?_) (fun c78 => ?_)
      · exact hj76 ()
      · refine x_iload_n 8 2 dX5_exchange_8 rfl ?_
        refine x_cS 9 1 [.int a2] [] cs_X5_358 (im_X5_isService hl a2) (by decide) rfl (Nat.le_of_ble_eq_true rfl) dX5_exchange_9 fun v79 => x_stI ?_
        refine x_if_eq 12 19 dX5_exchange_12 rfl (fun c80 => ?_) (fun c80 => ?_)
        · exact hj76 ()
        · refine x_iconst 15 1 (1 : Int32) dX5_exchange_15 rfl ?_
          refine x_goto 16 20 dX5_exchange_16 rfl ?_
          exact hj75 (1 : Int32)
def f_X5_token (i0 : Nat) (a1 : Int32) : PT Int32 := bn0 (f_X5_isToken i0 a1) fun v1 => bn0 (f_X5_may i0 v1) fun v2 => cnd (v2 = 0) (rt (0 : Int32)) (gR 4 i0 59 fun v4 => isK 32 v4 fun i5 => aI 32 i5 a1 fun v7 => gR 4 i0 53 fun v8 => isK 32 v8 fun i9 => aI 32 i9 a1 fun v11 => gR 4 i0 54 fun v12 => isK 32 v12 fun i13 => aI 32 i13 a1 fun v15 => gR 4 i0 56 fun v16 => isK 32 v16 fun i17 => aI 32 i17 a1 fun v19 => rt (((((1000 : Int32) * v7) + ((100 : Int32) * v11)) + ((10 : Int32) * v15)) + v19))
theorem im_X5_token {g : GP} {l : Launch} (hl : l.stackTraces = false) (i0 : Nat) (a1 : Int32) : Im g l 2 yX5_token cX5_token 2 (some .int) eI [.ref (idc 4 i0), .int a1] (f_X5_token i0 a1) := by
  refine tx_start hl 2 _ _ _ _ (by decide) (Nat.le_of_ble_eq_true rfl) fun Γ Z hΓ hZ => ?_
  subst hΓ
  unfold f_X5_token
  show TX g Γ _ Z _ 0 [(0, .ref (idc 4 i0)), (1, .int a1)] [] _
  refine x_aload_n 0 0 dX5_token_0 rfl ?_
  refine x_aload_n 1 0 dX5_token_1 rfl ?_
  refine x_iload_n 2 1 dX5_token_2 rfl ?_
  refine x_cV 3 1 [.int a1] [.ref (idc 4 i0)] ⟨by decide, rfl⟩ cv_X5_374 (im_X5_isToken hl i0 a1) (by decide) rfl (Nat.le_of_ble_eq_true rfl) dX5_token_3 fun v1 => x_stI ?_
  refine x_cV 6 0 [.int v1] [] ⟨by decide, rfl⟩ cv_X5_251 (im_X5_may hl i0 v1) (by decide) rfl (Nat.le_of_ble_eq_true rfl) dX5_token_6 fun v2 => x_stI ?_
  refine x_if_eq 9 52 dX5_token_9 rfl (fun c3 => ?_) (fun c3 => ?_)
  · refine x_iconst 52 0 (0 : Int32) dX5_token_52 rfl ?_
    exact x_iret 53 hZ rfl dX5_token_53
  · refine x_sipush 12 1000 (1000 : Int32) dX5_token_12 rfl ?_
    refine x_aload_n 15 0 dX5_token_15 rfl ?_
    refine x_getR 16 fa_X5_167_4 dX5_token_16 fun v4 => ?_
    refine x_iload_n 19 1 dX5_token_19 rfl ?_
    refine x_isK fun i5 h6 => ?_
    subst h6
    refine x_iald 20 dX5_token_20 fun v7 => ?_
    refine x_imul 21 dX5_token_21 ?_
    refine x_bipush 22 100 (100 : Int32) dX5_token_22 rfl ?_
    refine x_aload_n 24 0 dX5_token_24 rfl ?_
    refine x_getR 25 fa_X5_149_4 dX5_token_25 fun v8 => ?_
    refine x_iload_n 28 1 dX5_token_28 rfl ?_
    refine x_isK fun i9 h10 => ?_
    subst h10
    refine x_iald 29 dX5_token_29 fun v11 => ?_
    refine x_imul 30 dX5_token_30 ?_
    refine x_iadd 31 dX5_token_31 ?_
    refine x_bipush 32 10 (10 : Int32) dX5_token_32 rfl ?_
    refine x_aload_n 34 0 dX5_token_34 rfl ?_
    refine x_getR 35 fa_X5_152_4 dX5_token_35 fun v12 => ?_
    refine x_iload_n 38 1 dX5_token_38 rfl ?_
    refine x_isK fun i13 h14 => ?_
    subst h14
    refine x_iald 39 dX5_token_39 fun v15 => ?_
    refine x_imul 40 dX5_token_40 ?_
    refine x_iadd 41 dX5_token_41 ?_
    refine x_aload_n 42 0 dX5_token_42 rfl ?_
    refine x_getR 43 fa_X5_158_4 dX5_token_43 fun v16 => ?_
    refine x_iload_n 46 1 dX5_token_46 rfl ?_
    refine x_isK fun i17 h18 => ?_
    subst h18
    refine x_iald 47 dX5_token_47 fun v19 => ?_
    refine x_iadd 48 dX5_token_48 ?_
    refine x_goto 49 53 dX5_token_49 rfl ?_
    exact x_iret 53 hZ rfl dX5_token_53
def f_X5_turn (i0 : Nat) : PT Int32 := gI 4 i0 62 fun v1 => bnd (ρ := _) (α := Int32) (jo (σ := Unit) (fun _ => rt (0 : Int32)) fun j11 => cnd (v1 = (-1 : Int32)) (gI 4 i0 60 fun v13 => cnd ((20 : Int32) ≤ v13) (j11 ()) (rt (1 : Int32))) (j11 ())) (fun u2 => bn0 (f_X5_may i0 u2) fun v3 => cnd (v3 = 0) (rt (0 : Int32)) (gI 4 i0 60 fun v5 => pI 4 i0 62 v5 <| gI 4 i0 0 fun v6 => pI 4 i0 63 (v6 + (5 : Int32)) <| gI 4 i0 60 fun v7 => pI 4 i0 60 (v7 + (1 : Int32)) <| gI 4 i0 62 fun v8 => rt v8))
theorem im_X5_turn {g : GP} {l : Launch} (hl : l.stackTraces = false) (i0 : Nat) : Im g l 1 yX5_turn cX5_turn 1 (some .int) eI [.ref (idc 4 i0)] (f_X5_turn i0) := by
  refine tx_start hl 1 _ _ _ _ (by decide) (Nat.le_of_ble_eq_true rfl) fun Γ Z hΓ hZ => ?_
  subst hΓ
  unfold f_X5_turn
  show TX g Γ _ Z _ 0 [(0, .ref (idc 4 i0))] [] _
  refine x_aload_n 0 0 dX5_turn_0 rfl ?_
  refine x_aload_n 1 0 dX5_turn_1 rfl ?_
  refine x_getI 2 fa_X5_174_4 dX5_turn_2 fun v1 => ?_
  refine x_iconst 5 (-1) (-1 : Int32) dX5_turn_5 rfl ?_
  refine x_bndj 23 (fun u2 => [(0, .ref (idc 4 i0))]) (fun u2 => [.int u2, .ref (idc 4 i0)]) (fun u2 => ?_) (fun hj9 => ?_)
  · show TX g Γ _ Z _ 23 [(0, .ref (idc 4 i0))] [.int u2, .ref (idc 4 i0)] _
    refine x_cV 23 0 [.int u2] [] ⟨by decide, rfl⟩ cv_X5_251 (im_X5_may hl i0 u2) (by decide) rfl (Nat.le_of_ble_eq_true rfl) dX5_turn_23 fun v3 => x_stI ?_
    refine x_if_ne 26 31 dX5_turn_26 rfl (fun c4 => ?_) (fun c4 => ?_)
    · refine x_iconst 29 0 (0 : Int32) dX5_turn_29 rfl ?_
      exact x_iret 30 hZ rfl dX5_turn_30
    · refine x_aload_n 31 0 dX5_turn_31 rfl ?_
      refine x_aload_n 32 0 dX5_turn_32 rfl ?_
      refine x_getI 33 fa_X5_170_4 dX5_turn_33 fun v5 => ?_
      refine x_putI 36 fa_X5_174_4 rfl (Or.inl rfl) dX5_turn_36 ?_
      refine x_aload_n 39 0 dX5_turn_39 rfl ?_
      refine x_aload_n 40 0 dX5_turn_40 rfl ?_
      refine x_getI 41 fa_X5_247_4 dX5_turn_41 fun v6 => ?_
      refine x_iconst 44 5 (5 : Int32) dX5_turn_44 rfl ?_
      refine x_iadd 45 dX5_turn_45 ?_
      refine x_putI 46 fa_X5_278_4 rfl (Or.inl rfl) dX5_turn_46 ?_
      refine x_aload_n 49 0 dX5_turn_49 rfl ?_
      refine x_dup 50 dX5_turn_50 rfl ?_
      refine x_getI 51 fa_X5_170_4 dX5_turn_51 fun v7 => ?_
      refine x_iconst 54 1 (1 : Int32) dX5_turn_54 rfl ?_
      refine x_iadd 55 dX5_turn_55 ?_
      refine x_putI 56 fa_X5_170_4 rfl (Or.inl rfl) dX5_turn_56 ?_
      refine x_aload_n 59 0 dX5_turn_59 rfl ?_
      refine x_getI 60 fa_X5_174_4 dX5_turn_60 fun v8 => ?_
      exact x_iret 63 hZ rfl dX5_turn_63
  · refine x_jo 22 (Lf := fun _ => [(0, .ref (idc 4 i0))]) (sf := fun _ => [.ref (idc 4 i0)]) (fun _ => ?_) (fun j11 hj10 => ?_)
    · show TX g Γ _ Z _ 22 [(0, .ref (idc 4 i0))] [.ref (idc 4 i0)] _
      refine x_iconst 22 0 (0 : Int32) dX5_turn_22 rfl ?_
      exact hj9 (0 : Int32)
    · refine x_icmp_ne 6 22 dX5_turn_6 rfl (fun c12 => ?_) (fun c12 => ?_)
      · refine x_aload_n 9 0 dX5_turn_9 rfl ?_
        refine x_getI 10 fa_X5_170_4 dX5_turn_10 fun v13 => ?_
        refine x_bipush 13 20 (20 : Int32) dX5_turn_13 rfl ?_
        refine x_icmp_ge 15 22 dX5_turn_15 rfl (fun c14 => ?_) (fun c14 => ?_)
        · exact hj10 ()
        · refine x_iconst 18 1 (1 : Int32) dX5_turn_18 rfl ?_
          refine x_goto 19 23 dX5_turn_19 rfl ?_
          exact hj9 (1 : Int32)
      · exact hj10 ()
def f_X5_emergency (i0 : Nat) : PT Int32 := gI 4 i0 62 fun v1 => bnd (ρ := _) (α := Int32) (jo (σ := Unit) (fun _ => rt (1 : Int32)) fun j20 => cnd (v1 = (-1 : Int32)) (gI 4 i0 60 fun v22 => cnd ((20 : Int32) ≤ v22) (rt (0 : Int32)) (j20 ())) (j20 ())) (fun u2 => bn0 (f_X5_may i0 u2) fun v3 => cnd (v3 = 0) (rt (0 : Int32)) (gR 4 i0 64 fun v5 => gI 4 i0 61 fun v6 => isK 33 v5 fun i7 => bZ 33 i7 v6 (1 : Int32) <| gI 4 i0 62 fun v9 => bnd (ρ := _) (α := Unit) (cnd (v9 = (-1 : Int32)) (gI 4 i0 60 fun v16 => pI 4 i0 62 v16 <| gI 4 i0 60 fun v17 => pI 4 i0 60 (v17 + (1 : Int32)) <| rt ()) (rt ())) (fun _ => gI 4 i0 62 fun v10 => pI 4 i0 61 v10 <| pI 4 i0 62 (-1 : Int32) <| gI 4 i0 61 fun v11 => bn0 (f_X5_write i0 (5 : Int32) v11) fun _ => gI 4 i0 61 fun v13 => rt v13)))
theorem im_X5_emergency {g : GP} {l : Launch} (hl : l.stackTraces = false) (i0 : Nat) : Im g l 1 yX5_emergency cX5_emergency 1 (some .int) eI [.ref (idc 4 i0)] (f_X5_emergency i0) := by
  refine tx_start hl 1 _ _ _ _ (by decide) (Nat.le_of_ble_eq_true rfl) fun Γ Z hΓ hZ => ?_
  subst hΓ
  unfold f_X5_emergency
  show TX g Γ _ Z _ 0 [(0, .ref (idc 4 i0))] [] _
  refine x_aload_n 0 0 dX5_emergency_0 rfl ?_
  refine x_aload_n 1 0 dX5_emergency_1 rfl ?_
  refine x_getI 2 fa_X5_174_4 dX5_emergency_2 fun v1 => ?_
  refine x_iconst 5 (-1) (-1 : Int32) dX5_emergency_5 rfl ?_
  refine x_bndj 23 (fun u2 => [(0, .ref (idc 4 i0))]) (fun u2 => [.int u2, .ref (idc 4 i0)]) (fun u2 => ?_) (fun hj18 => ?_)
  · show TX g Γ _ Z _ 23 [(0, .ref (idc 4 i0))] [.int u2, .ref (idc 4 i0)] _
    refine x_cV 23 0 [.int u2] [] ⟨by decide, rfl⟩ cv_X5_251 (im_X5_may hl i0 u2) (by decide) rfl (Nat.le_of_ble_eq_true rfl) dX5_emergency_23 fun v3 => x_stI ?_
    refine x_if_ne 26 31 dX5_emergency_26 rfl (fun c4 => ?_) (fun c4 => ?_)
    · refine x_iconst 29 0 (0 : Int32) dX5_emergency_29 rfl ?_
      exact x_iret 30 hZ rfl dX5_emergency_30
    · refine x_aload_n 31 0 dX5_emergency_31 rfl ?_
      refine x_getR 32 fa_X5_177_4 dX5_emergency_32 fun v5 => ?_
      refine x_aload_n 35 0 dX5_emergency_35 rfl ?_
      refine x_getI 36 fa_X5_281_4 dX5_emergency_36 fun v6 => ?_
      refine x_iconst 39 1 (1 : Int32) dX5_emergency_39 rfl ?_
      refine x_isK fun i7 h8 => ?_
      subst h8
      refine x_zast 40 dX5_emergency_40 ?_
      refine x_aload_n 41 0 dX5_emergency_41 rfl ?_
      refine x_getI 42 fa_X5_174_4 dX5_emergency_42 fun v9 => ?_
      refine x_iconst 45 (-1) (-1 : Int32) dX5_emergency_45 rfl ?_
      refine x_bndj 67 (fun _ => [(0, .ref (idc 4 i0))]) (fun _ => []) (fun _ => ?_) (fun hj14 => ?_)
      · show TX g Γ _ Z _ 67 [(0, .ref (idc 4 i0))] [] _
        refine x_aload_n 67 0 dX5_emergency_67 rfl ?_
        refine x_aload_n 68 0 dX5_emergency_68 rfl ?_
        refine x_getI 69 fa_X5_174_4 dX5_emergency_69 fun v10 => ?_
        refine x_putI 72 fa_X5_281_4 rfl (Or.inl rfl) dX5_emergency_72 ?_
        refine x_aload_n 75 0 dX5_emergency_75 rfl ?_
        refine x_iconst 76 (-1) (-1 : Int32) dX5_emergency_76 rfl ?_
        refine x_putI 77 fa_X5_174_4 rfl (Or.inl rfl) dX5_emergency_77 ?_
        refine x_aload_n 80 0 dX5_emergency_80 rfl ?_
        refine x_iconst 81 5 (5 : Int32) dX5_emergency_81 rfl ?_
        refine x_aload_n 82 0 dX5_emergency_82 rfl ?_
        refine x_getI 83 fa_X5_281_4 dX5_emergency_83 fun v11 => ?_
        refine x_cV 86 0 [.int (5 : Int32), .int v11] [] ⟨by decide, rfl⟩ cv_X5_255 (im_X5_write hl i0 (5 : Int32) v11) (by decide) rfl (Nat.le_of_ble_eq_true rfl) dX5_emergency_86 fun v12 => x_stV ?_
        refine x_aload_n 89 0 dX5_emergency_89 rfl ?_
        refine x_getI 90 fa_X5_281_4 dX5_emergency_90 fun v13 => ?_
        exact x_iret 93 hZ rfl dX5_emergency_93
      · refine x_icmp_ne 46 67 dX5_emergency_46 rfl (fun c15 => ?_) (fun c15 => ?_)
        · refine x_aload_n 49 0 dX5_emergency_49 rfl ?_
          refine x_aload_n 50 0 dX5_emergency_50 rfl ?_
          refine x_getI 51 fa_X5_170_4 dX5_emergency_51 fun v16 => ?_
          refine x_putI 54 fa_X5_174_4 rfl (Or.inl rfl) dX5_emergency_54 ?_
          refine x_aload_n 57 0 dX5_emergency_57 rfl ?_
          refine x_dup 58 dX5_emergency_58 rfl ?_
          refine x_getI 59 fa_X5_170_4 dX5_emergency_59 fun v17 => ?_
          refine x_iconst 62 1 (1 : Int32) dX5_emergency_62 rfl ?_
          refine x_iadd 63 dX5_emergency_63 ?_
          refine x_putI 64 fa_X5_170_4 rfl (Or.inl rfl) dX5_emergency_64 ?_
          exact hj14 ()
        · exact hj14 ()
  · refine x_jo 18 (Lf := fun _ => [(0, .ref (idc 4 i0))]) (sf := fun _ => [.ref (idc 4 i0)]) (fun _ => ?_) (fun j20 hj19 => ?_)
    · show TX g Γ _ Z _ 18 [(0, .ref (idc 4 i0))] [.ref (idc 4 i0)] _
      refine x_iconst 18 1 (1 : Int32) dX5_emergency_18 rfl ?_
      refine x_goto 19 23 dX5_emergency_19 rfl ?_
      exact hj18 (1 : Int32)
    · refine x_icmp_ne 6 18 dX5_emergency_6 rfl (fun c21 => ?_) (fun c21 => ?_)
      · refine x_aload_n 9 0 dX5_emergency_9 rfl ?_
        refine x_getI 10 fa_X5_170_4 dX5_emergency_10 fun v22 => ?_
        refine x_bipush 13 20 (20 : Int32) dX5_emergency_13 rfl ?_
        refine x_icmp_ge 15 22 dX5_emergency_15 rfl (fun c23 => ?_) (fun c23 => ?_)
        · refine x_iconst 22 0 (0 : Int32) dX5_emergency_22 rfl ?_
          exact hj18 (0 : Int32)
        · exact hj19 ()
      · exact hj19 ()
def f_X5_signing (i0 : Nat) : PT Int32 := pI 4 i0 82 (0 : Int32) <| gI 4 i0 61 fun v1 => rt v1
theorem im_X5_signing {g : GP} {l : Launch} (hl : l.stackTraces = false) (i0 : Nat) : Im g l 0 yX5_signing cX5_signing 1 (some .int) eI [.ref (idc 4 i0)] (f_X5_signing i0) := by
  refine tx_start hl 0 _ _ _ _ (by decide) (Nat.le_of_ble_eq_true rfl) fun Γ Z hΓ hZ => ?_
  subst hΓ
  unfold f_X5_signing
  show TX g Γ _ Z _ 0 [(0, .ref (idc 4 i0))] [] _
  refine x_aload_n 0 0 dX5_signing_0 rfl ?_
  refine x_iconst 1 0 (0 : Int32) dX5_signing_1 rfl ?_
  refine x_putI 2 fa_X5_225_4 rfl (Or.inl rfl) dX5_signing_2 ?_
  refine x_aload_n 5 0 dX5_signing_5 rfl ?_
  refine x_getI 6 fa_X5_281_4 dX5_signing_6 fun v1 => ?_
  exact x_iret 9 hZ rfl dX5_signing_9
def f_X5_isOpenKey (i0 : Nat) (a1 : Int32) : PT Int32 := gI 4 i0 60 fun v1 => cnd (v1 ≤ a1) (asr ((0 : Int32) = 0 ∨ (0 : Int32) = 1) (rt (0 : Int32))) (gR 4 i0 64 fun v3 => isK 33 v3 fun i4 => aI 33 i4 a1 fun v6 => cnd (v6 = 0) (gR 4 i0 65 fun v8 => isK 32 v8 fun i9 => aI 32 i9 a1 fun v11 => cnd (v11 = (-1 : Int32)) (asr ((1 : Int32) = 0 ∨ (1 : Int32) = 1) (rt (1 : Int32))) (gI 4 i0 0 fun v13 => gR 4 i0 65 fun v14 => isK 32 v14 fun i15 => aI 32 i15 a1 fun v17 => cnd (v17 ≤ v13) (asr ((0 : Int32) = 0 ∨ (0 : Int32) = 1) (rt (0 : Int32))) (asr ((1 : Int32) = 0 ∨ (1 : Int32) = 1) (rt (1 : Int32))))) (asr ((0 : Int32) = 0 ∨ (0 : Int32) = 1) (rt (0 : Int32))))
theorem im_X5_isOpenKey {g : GP} {l : Launch} (hl : l.stackTraces = false) (i0 : Nat) (a1 : Int32) : Im g l 0 yX5_isOpenKey cX5_isOpenKey 2 (some .boolean) eI [.ref (idc 4 i0), .int a1] (f_X5_isOpenKey i0 a1) := by
  refine tx_start hl 0 _ _ _ _ (by decide) (Nat.le_of_ble_eq_true rfl) fun Γ Z hΓ hZ => ?_
  subst hΓ
  unfold f_X5_isOpenKey
  show TX g Γ _ Z _ 0 [(0, .ref (idc 4 i0)), (1, .int a1)] [] _
  refine x_iload_n 0 1 dX5_isOpenKey_0 rfl ?_
  refine x_aload_n 1 0 dX5_isOpenKey_1 rfl ?_
  refine x_getI 2 fa_X5_170_4 dX5_isOpenKey_2 fun v1 => ?_
  refine x_icmp_ge 5 44 dX5_isOpenKey_5 rfl (fun c2 => ?_) (fun c2 => ?_)
  · refine x_iconst 44 0 (0 : Int32) dX5_isOpenKey_44 rfl ?_
    exact x_zret 45 hZ rfl dX5_isOpenKey_45
  · refine x_aload_n 8 0 dX5_isOpenKey_8 rfl ?_
    refine x_getR 9 fa_X5_177_4 dX5_isOpenKey_9 fun v3 => ?_
    refine x_iload_n 12 1 dX5_isOpenKey_12 rfl ?_
    refine x_isK fun i4 h5 => ?_
    subst h5
    refine x_zald 13 dX5_isOpenKey_13 fun v6 => ?_
    refine x_if_ne 14 44 dX5_isOpenKey_14 rfl (fun c7 => ?_) (fun c7 => ?_)
    · refine x_aload_n 17 0 dX5_isOpenKey_17 rfl ?_
      refine x_getR 18 fa_X5_180_4 dX5_isOpenKey_18 fun v8 => ?_
      refine x_iload_n 21 1 dX5_isOpenKey_21 rfl ?_
      refine x_isK fun i9 h10 => ?_
      subst h10
      refine x_iald 22 dX5_isOpenKey_22 fun v11 => ?_
      refine x_iconst 23 (-1) (-1 : Int32) dX5_isOpenKey_23 rfl ?_
      refine x_icmp_eq 24 40 dX5_isOpenKey_24 rfl (fun c12 => ?_) (fun c12 => ?_)
      · refine x_iconst 40 1 (1 : Int32) dX5_isOpenKey_40 rfl ?_
        refine x_goto 41 45 dX5_isOpenKey_41 rfl ?_
        exact x_zret 45 hZ rfl dX5_isOpenKey_45
      · refine x_aload_n 27 0 dX5_isOpenKey_27 rfl ?_
        refine x_getI 28 fa_X5_247_4 dX5_isOpenKey_28 fun v13 => ?_
        refine x_aload_n 31 0 dX5_isOpenKey_31 rfl ?_
        refine x_getR 32 fa_X5_180_4 dX5_isOpenKey_32 fun v14 => ?_
        refine x_iload_n 35 1 dX5_isOpenKey_35 rfl ?_
        refine x_isK fun i15 h16 => ?_
        subst h16
        refine x_iald 36 dX5_isOpenKey_36 fun v17 => ?_
        refine x_icmp_ge 37 44 dX5_isOpenKey_37 rfl (fun c18 => ?_) (fun c18 => ?_)
        · refine x_iconst 44 0 (0 : Int32) dX5_isOpenKey_44 rfl ?_
          exact x_zret 45 hZ rfl dX5_isOpenKey_45
        · refine x_iconst 40 1 (1 : Int32) dX5_isOpenKey_40 rfl ?_
          refine x_goto 41 45 dX5_isOpenKey_41 rfl ?_
          exact x_zret 45 hZ rfl dX5_isOpenKey_45
    · refine x_iconst 44 0 (0 : Int32) dX5_isOpenKey_44 rfl ?_
      exact x_zret 45 hZ rfl dX5_isOpenKey_45
def f_X5_isPublished (i0 : Nat) (a1 : Int32) : PT Int32 := gI 4 i0 60 fun v1 => bn0 (f_X5_isIn a1 (0 : Int32) (v1 - (1 : Int32))) fun v2 => bn0 (f_X5_may i0 v2) fun v3 => cnd (v3 = 0) (asr ((0 : Int32) = 0 ∨ (0 : Int32) = 1) (rt (0 : Int32))) (bn0 (f_X5_isOpenKey i0 a1) fun v5 => cnd (v5 = 0) (asr ((0 : Int32) = 0 ∨ (0 : Int32) = 1) (rt (0 : Int32))) (asr ((1 : Int32) = 0 ∨ (1 : Int32) = 1) (rt (1 : Int32))))
theorem im_X5_isPublished {g : GP} {l : Launch} (hl : l.stackTraces = false) (i0 : Nat) (a1 : Int32) : Im g l 1 yX5_isPublished cX5_isPublished 2 (some .boolean) eI [.ref (idc 4 i0), .int a1] (f_X5_isPublished i0 a1) := by
  refine tx_start hl 1 _ _ _ _ (by decide) (Nat.le_of_ble_eq_true rfl) fun Γ Z hΓ hZ => ?_
  subst hΓ
  unfold f_X5_isPublished
  show TX g Γ _ Z _ 0 [(0, .ref (idc 4 i0)), (1, .int a1)] [] _
  refine x_aload_n 0 0 dX5_isPublished_0 rfl ?_
  refine x_iload_n 1 1 dX5_isPublished_1 rfl ?_
  refine x_iconst 2 0 (0 : Int32) dX5_isPublished_2 rfl ?_
  refine x_aload_n 3 0 dX5_isPublished_3 rfl ?_
  refine x_getI 4 fa_X5_170_4 dX5_isPublished_4 fun v1 => ?_
  refine x_iconst 7 1 (1 : Int32) dX5_isPublished_7 rfl ?_
  refine x_isub 8 dX5_isPublished_8 ?_
  refine x_cS 9 0 [.int a1, .int (0 : Int32), .int (v1 - (1 : Int32))] [.ref (idc 4 i0)] cs_X5_228 (im_X5_isIn hl a1 (0 : Int32) (v1 - (1 : Int32))) (by decide) rfl (Nat.le_of_ble_eq_true rfl) dX5_isPublished_9 fun v2 => x_stI ?_
  refine x_cV 12 0 [.int v2] [] ⟨by decide, rfl⟩ cv_X5_251 (im_X5_may hl i0 v2) (by decide) rfl (Nat.le_of_ble_eq_true rfl) dX5_isPublished_12 fun v3 => x_stI ?_
  refine x_if_eq 15 30 dX5_isPublished_15 rfl (fun c4 => ?_) (fun c4 => ?_)
  · refine x_iconst 30 0 (0 : Int32) dX5_isPublished_30 rfl ?_
    exact x_zret 31 hZ rfl dX5_isPublished_31
  · refine x_aload_n 18 0 dX5_isPublished_18 rfl ?_
    refine x_iload_n 19 1 dX5_isPublished_19 rfl ?_
    refine x_cV 20 0 [.int a1] [] ⟨by decide, rfl⟩ cv_X5_377 (im_X5_isOpenKey hl i0 a1) (by decide) rfl (Nat.le_of_ble_eq_true rfl) dX5_isPublished_20 fun v5 => x_stI ?_
    refine x_if_eq 23 30 dX5_isPublished_23 rfl (fun c6 => ?_) (fun c6 => ?_)
    · refine x_iconst 30 0 (0 : Int32) dX5_isPublished_30 rfl ?_
      exact x_zret 31 hZ rfl dX5_isPublished_31
    · refine x_iconst 26 1 (1 : Int32) dX5_isPublished_26 rfl ?_
      refine x_goto 27 31 dX5_isPublished_27 rfl ?_
      exact x_zret 31 hZ rfl dX5_isPublished_31
def f_X5_line (i0 : Nat) (a1 : Int32) : PT Int32 := bn0 (f_X5_isService a1) fun v1 => bn0 (f_X5_may i0 v1) fun v2 => cnd (v2 = 0) (rt (0 : Int32)) (gR 4 i0 66 fun v4 => gR 4 i0 66 fun v5 => isK 33 v5 fun i6 => aI 33 i6 a1 fun v8 => bnd (ρ := _) (α := Int32) (cnd (v8 = 0) (rt (1 : Int32)) (rt (0 : Int32))) (fun u9 => isK 33 v4 fun i10 => bZ 33 i10 a1 u9 <| lp (σ := Int32 × Int32) (fun r14 => un2 fun u12 u13 => gI 4 i0 46 fun v15 => cnd (v15 ≤ u13) (rt u12) (gR 4 i0 66 fun v17 => isK 33 v17 fun i18 => aI 33 i18 a1 fun v20 => cnd (v20 = 0) (gR 4 i0 51 fun v22 => isK 33 v22 fun i23 => aI 33 i23 u13 fun v25 => bnd (ρ := _) (α := Int32) (jo (σ := Unit) (fun _ => rt (0 : Int32)) fun j43 => cnd (v25 = 0) (gR 4 i0 69 fun v45 => isK 33 v45 fun i46 => aI 33 i46 (((60 : Int32) * a1) + u13) fun v48 => cnd (v48 = 0) (bn0 (f_X5_hears i0 a1 u13) fun v50 => cnd (v50 = 0) (j43 ()) (rt (1 : Int32))) (j43 ())) (j43 ())) (fun u26 => gR 4 i0 69 fun v27 => gR 4 i0 69 fun v28 => isK 33 v28 fun i29 => aI 33 i29 (((60 : Int32) * a1) + u13) fun v31 => bnd (ρ := _) (α := Int32) (jo (σ := Unit) (fun _ => rt (1 : Int32)) fun j38 => cnd (v31 = 0) (cnd (u26 = 0) (rt (0 : Int32)) (j38 ())) (j38 ())) (fun u32 => isK 33 v27 fun i33 => bZ 33 i33 (((60 : Int32) * a1) + u13) u32 <| cnd (u26 = 0) (r14 (u12 + (0 : Int32), u13 + (1 : Int32))) (r14 (u12 + (1 : Int32), u13 + (1 : Int32)))))) (rt u12))) ((0 : Int32), (0 : Int32))))
theorem im_X5_line {g : GP} {l : Launch} (hl : l.stackTraces = false) (i0 : Nat) (a1 : Int32) : Im g l 2 yX5_line cX5_line 5 (some .int) eI [.ref (idc 4 i0), .int a1] (f_X5_line i0 a1) := by
  refine tx_start hl 2 _ _ _ _ (by decide) (Nat.le_of_ble_eq_true rfl) fun Γ Z hΓ hZ => ?_
  subst hΓ
  unfold f_X5_line
  show TX g Γ _ Z _ 0 [(0, .ref (idc 4 i0)), (1, .int a1)] [] _
  refine x_aload_n 0 0 dX5_line_0 rfl ?_
  refine x_iload_n 1 1 dX5_line_1 rfl ?_
  refine x_cS 2 1 [.int a1] [.ref (idc 4 i0)] cs_X5_358 (im_X5_isService hl a1) (by decide) rfl (Nat.le_of_ble_eq_true rfl) dX5_line_2 fun v1 => x_stI ?_
  refine x_cV 5 0 [.int v1] [] ⟨by decide, rfl⟩ cv_X5_251 (im_X5_may hl i0 v1) (by decide) rfl (Nat.le_of_ble_eq_true rfl) dX5_line_5 fun v2 => x_stI ?_
  refine x_if_ne 8 13 dX5_line_8 rfl (fun c3 => ?_) (fun c3 => ?_)
  · refine x_iconst 11 0 (0 : Int32) dX5_line_11 rfl ?_
    exact x_iret 12 hZ rfl dX5_line_12
  · refine x_aload_n 13 0 dX5_line_13 rfl ?_
    refine x_getR 14 fa_X5_183_4 dX5_line_14 fun v4 => ?_
    refine x_iload_n 17 1 dX5_line_17 rfl ?_
    refine x_aload_n 18 0 dX5_line_18 rfl ?_
    refine x_getR 19 fa_X5_183_4 dX5_line_19 fun v5 => ?_
    refine x_iload_n 22 1 dX5_line_22 rfl ?_
    refine x_isK fun i6 h7 => ?_
    subst h7
    refine x_zald 23 dX5_line_23 fun v8 => ?_
    refine x_bndj 32 (fun u9 => [(0, .ref (idc 4 i0)), (1, .int a1)]) (fun u9 => [.int u9, .int a1, .ref v4]) (fun u9 => ?_) (fun hj52 => ?_)
    · show TX g Γ _ Z _ 32 [(0, .ref (idc 4 i0)), (1, .int a1)] [.int u9, .int a1, .ref v4] _
      refine x_isK fun i10 h11 => ?_
      subst h11
      refine x_zast 32 dX5_line_32 ?_
      refine x_iconst 33 0 (0 : Int32) dX5_line_33 rfl ?_
      refine x_istore_n 34 [(2, .int (0 : Int32)), (0, .ref (idc 4 i0)), (1, .int a1)] dX5_line_34 (by decide) rfl ?_
      refine x_iconst 35 0 (0 : Int32) dX5_line_35 rfl ?_
      refine x_istore_n 36 [(3, .int (0 : Int32)), (2, .int (0 : Int32)), (0, .ref (idc 4 i0)), (1, .int a1)] dX5_line_36 (by decide) rfl ?_
      refine x_sub [2, 3, 1, 0] [(0, .ref (idc 4 i0)), (1, .int a1), (2, .int (0 : Int32)), (3, .int (0 : Int32))] rfl ?_
      refine x_lp (Lf := fun u => [(0, .ref (idc 4 i0)), (1, .int a1), (2, .int u.1), (3, .int u.2)]) (sf := fun _ => []) (fun r14 hr14 u => ?_) ((0 : Int32), (0 : Int32))
      obtain ⟨u12, u13⟩ := u
      show TX g Γ _ Z _ 37 [(0, .ref (idc 4 i0)), (1, .int a1), (2, .int u12), (3, .int u13)] [] _
      refine x_un2 ?_
      refine x_iload_n 37 3 dX5_line_37 rfl ?_
      refine x_aload_n 38 0 dX5_line_38 rfl ?_
      refine x_getI 39 fa_X5_238_4 dX5_line_39 fun v15 => ?_
      refine x_icmp_ge 42 147 dX5_line_42 rfl (fun c16 => ?_) (fun c16 => ?_)
      · refine x_iload_n 147 2 dX5_line_147 rfl ?_
        exact x_iret 148 hZ rfl dX5_line_148
      · refine x_aload_n 45 0 dX5_line_45 rfl ?_
        refine x_getR 46 fa_X5_183_4 dX5_line_46 fun v17 => ?_
        refine x_iload_n 49 1 dX5_line_49 rfl ?_
        refine x_isK fun i18 h19 => ?_
        subst h19
        refine x_zald 50 dX5_line_50 fun v20 => ?_
        refine x_if_ne 51 147 dX5_line_51 rfl (fun c21 => ?_) (fun c21 => ?_)
        · refine x_aload_n 54 0 dX5_line_54 rfl ?_
          refine x_getR 55 fa_X5_146_4 dX5_line_55 fun v22 => ?_
          refine x_iload_n 58 3 dX5_line_58 rfl ?_
          refine x_isK fun i23 h24 => ?_
          subst h24
          refine x_zald 59 dX5_line_59 fun v25 => ?_
          refine x_bndj 91 (fun u26 => [(0, .ref (idc 4 i0)), (1, .int a1), (2, .int u12), (3, .int u13)]) (fun u26 => [.int u26]) (fun u26 => ?_) (fun hj41 => ?_)
          · show TX g Γ _ Z _ 91 [(0, .ref (idc 4 i0)), (1, .int a1), (2, .int u12), (3, .int u13)] [.int u26] _
            refine x_istore 91 [(4, .int u26), (0, .ref (idc 4 i0)), (1, .int a1), (2, .int u12), (3, .int u13)] dX5_line_91 (by decide) rfl ?_
            refine x_aload_n 93 1 dX5_line_93 rfl ?_
            refine x_getR 94 fa_X5_192_4 dX5_line_94 fun v27 => ?_
            refine x_bipush 97 60 (60 : Int32) dX5_line_97 rfl ?_
            refine x_iload_n 99 2 dX5_line_99 rfl ?_
            refine x_imul 100 dX5_line_100 ?_
            refine x_iload_n 101 4 dX5_line_101 rfl ?_
            refine x_iadd 102 dX5_line_102 ?_
            refine x_aload_n 103 1 dX5_line_103 rfl ?_
            refine x_getR 104 fa_X5_192_4 dX5_line_104 fun v28 => ?_
            refine x_bipush 107 60 (60 : Int32) dX5_line_107 rfl ?_
            refine x_iload_n 109 2 dX5_line_109 rfl ?_
            refine x_imul 110 dX5_line_110 ?_
            refine x_iload_n 111 4 dX5_line_111 rfl ?_
            refine x_iadd 112 dX5_line_112 ?_
            refine x_isK fun i29 h30 => ?_
            subst h30
            refine x_zald 113 dX5_line_113 fun v31 => ?_
            refine x_bndj 127 (fun u32 => [(0, .ref (idc 4 i0)), (1, .int a1), (2, .int u12), (3, .int u13), (4, .int u26)]) (fun u32 => [.int u32, .int (((60 : Int32) * a1) + u13), .ref v27]) (fun u32 => ?_) (fun hj36 => ?_)
            · show TX g Γ _ Z _ 127 [(0, .ref (idc 4 i0)), (1, .int a1), (2, .int u12), (3, .int u13), (4, .int u26)] [.int u32, .int (((60 : Int32) * a1) + u13), .ref v27] _
              refine x_isK fun i33 h34 => ?_
              subst h34
              refine x_zast 127 dX5_line_127 ?_
              refine x_iload_n 128 2 dX5_line_128 rfl ?_
              refine x_iload 129 4 dX5_line_129 rfl ?_
              refine x_if_eq 131 138 dX5_line_131 rfl (fun c35 => ?_) (fun c35 => ?_)
              · refine x_iconst 138 0 (0 : Int32) dX5_line_138 rfl ?_
                refine x_iadd 139 dX5_line_139 ?_
                refine x_istore_n 140 [(2, .int (u12 + (0 : Int32))), (0, .ref (idc 4 i0)), (1, .int a1), (3, .int u13), (4, .int u26)] dX5_line_140 (by decide) rfl ?_
                refine x_iinc 141 3 [(3, .int (u13 + (1 : Int32))), (2, .int (u12 + (0 : Int32))), (0, .ref (idc 4 i0)), (1, .int a1), (4, .int u26)] dX5_line_141 rfl rfl (by decide) rfl ?_
                refine x_goto 144 37 dX5_line_144 rfl ?_
                refine x_sub [2, 3, 1, 0] _ rfl ?_
                exact hr14 (u12 + (0 : Int32), u13 + (1 : Int32))
              · refine x_iconst 134 1 (1 : Int32) dX5_line_134 rfl ?_
                refine x_goto 135 139 dX5_line_135 rfl ?_
                refine x_iadd 139 dX5_line_139 ?_
                refine x_istore_n 140 [(2, .int (u12 + (1 : Int32))), (0, .ref (idc 4 i0)), (1, .int a1), (3, .int u13), (4, .int u26)] dX5_line_140 (by decide) rfl ?_
                refine x_iinc 141 3 [(3, .int (u13 + (1 : Int32))), (2, .int (u12 + (1 : Int32))), (0, .ref (idc 4 i0)), (1, .int a1), (4, .int u26)] dX5_line_141 rfl rfl (by decide) rfl ?_
                refine x_goto 144 37 dX5_line_144 rfl ?_
                refine x_sub [2, 3, 1, 0] _ rfl ?_
                exact hr14 (u12 + (1 : Int32), u13 + (1 : Int32))
            · refine x_jo 122 (Lf := fun _ => [(0, .ref (idc 4 i0)), (1, .int a1), (2, .int u12), (3, .int u13), (4, .int u26)]) (sf := fun _ => [.int (((60 : Int32) * a1) + u13), .ref v27]) (fun _ => ?_) (fun j38 hj37 => ?_)
              · show TX g Γ _ Z _ 122 [(0, .ref (idc 4 i0)), (1, .int a1), (2, .int u12), (3, .int u13), (4, .int u26)] [.int (((60 : Int32) * a1) + u13), .ref v27] _
                refine x_iconst 122 1 (1 : Int32) dX5_line_122 rfl ?_
                refine x_goto 123 127 dX5_line_123 rfl ?_
                exact hj36 (1 : Int32)
              · refine x_if_ne 114 122 dX5_line_114 rfl (fun c39 => ?_) (fun c39 => ?_)
                · refine x_iload 117 0 dX5_line_117 rfl ?_
                  refine x_if_eq 119 126 dX5_line_119 rfl (fun c40 => ?_) (fun c40 => ?_)
                  · refine x_iconst 126 0 (0 : Int32) dX5_line_126 rfl ?_
                    refine x_sub [1, 2, 3, 4, 0] _ rfl ?_
                    exact hj36 (0 : Int32)
                  · refine x_sub [1, 2, 3, 4, 0] _ rfl ?_
                    exact hj37 ()
                · refine x_sub [1, 2, 3, 4, 0] _ rfl ?_
                  exact hj37 ()
          · refine x_jo 90 (Lf := fun _ => [(0, .ref (idc 4 i0)), (1, .int a1), (2, .int u12), (3, .int u13)]) (sf := fun _ => []) (fun _ => ?_) (fun j43 hj42 => ?_)
            · show TX g Γ _ Z _ 90 [(0, .ref (idc 4 i0)), (1, .int a1), (2, .int u12), (3, .int u13)] [] _
              refine x_iconst 90 0 (0 : Int32) dX5_line_90 rfl ?_
              exact hj41 (0 : Int32)
            · refine x_if_ne 60 90 dX5_line_60 rfl (fun c44 => ?_) (fun c44 => ?_)
              · refine x_aload_n 63 0 dX5_line_63 rfl ?_
                refine x_getR 64 fa_X5_192_4 dX5_line_64 fun v45 => ?_
                refine x_bipush 67 60 (60 : Int32) dX5_line_67 rfl ?_
                refine x_iload_n 69 1 dX5_line_69 rfl ?_
                refine x_imul 70 dX5_line_70 ?_
                refine x_iload_n 71 3 dX5_line_71 rfl ?_
                refine x_iadd 72 dX5_line_72 ?_
                refine x_isK fun i46 h47 => ?_
                subst h47
                refine x_zald 73 dX5_line_73 fun v48 => ?_
                refine x_if_ne 74 90 dX5_line_74 rfl (fun c49 => ?_) (fun c49 => ?_)
                · refine x_aload_n 77 0 dX5_line_77 rfl ?_
                  refine x_iload_n 78 1 dX5_line_78 rfl ?_
                  refine x_iload_n 79 3 dX5_line_79 rfl ?_
                  refine x_cV 80 0 [.int a1, .int u13] [] ⟨by decide, rfl⟩ cv_X5_259 (im_X5_hears hl i0 a1 u13) (by decide) rfl (Nat.le_of_ble_eq_true rfl) dX5_line_80 fun v50 => x_stI ?_
                  refine x_if_eq 83 90 dX5_line_83 rfl (fun c51 => ?_) (fun c51 => ?_)
                  · exact hj42 ()
                  · refine x_iconst 86 1 (1 : Int32) dX5_line_86 rfl ?_
                    refine x_goto 87 91 dX5_line_87 rfl ?_
                    exact hj41 (1 : Int32)
                · exact hj42 ()
              · exact hj42 ()
        · refine x_iload_n 147 2 dX5_line_147 rfl ?_
          exact x_iret 148 hZ rfl dX5_line_148
    · refine x_if_ne 24 31 dX5_line_24 rfl (fun c53 => ?_) (fun c53 => ?_)
      · refine x_iconst 27 1 (1 : Int32) dX5_line_27 rfl ?_
        refine x_goto 28 32 dX5_line_28 rfl ?_
        exact hj52 (1 : Int32)
      · refine x_iconst 31 0 (0 : Int32) dX5_line_31 rfl ?_
        exact hj52 (0 : Int32)
def f_X5_check (i0 : Nat) (a1 : Int32) (a2 : Int32) (a3 : Int32) : PT Int32 := bn0 (f_X5_isService a1) fun v1 => bnd (ρ := _) (α := Int32) (jo (σ := Unit) (fun _ => rt (0 : Int32)) fun j84 => cnd (v1 = 0) (j84 ()) (bn0 (f_X5_isToken i0 a2) fun v86 => cnd (v86 = 0) (j84 ()) (rt (1 : Int32)))) (fun u2 => bn0 (f_X5_isIn a3 (0 : Int32) (3 : Int32)) fun v3 => bn0 (f_X5_mayBoth i0 u2 v3) fun v4 => cnd (v4 = 0) (rt (0 : Int32)) (gR 4 i0 54 fun v6 => isK 32 v6 fun i7 => aI 32 i7 a2 fun v9 => cnd (v9 = a1) (gI 4 i0 0 fun v11 => gR 4 i0 59 fun v12 => isK 32 v12 fun i13 => aI 32 i13 a2 fun v15 => cnd (v11 ≤ v15) (gR 4 i0 66 fun v17 => isK 33 v17 fun i18 => aI 33 i18 a1 fun v20 => bnd (ρ := _) (α := Unit) (cnd (v20 = 0) (gI 4 i0 0 fun v46 => gR 4 i0 68 fun v47 => isK 32 v47 fun i48 => aI 32 i48 a1 fun v50 => jo (σ := Unit) (fun _ => gR 4 i0 67 fun v51 => isK 32 v51 fun i52 => bI 32 i52 a1 (0 : Int32) <| bnd (lp (σ := Int32) (ρ := Unit) (fun r55 => fun u54 => cnd ((20 : Int32) ≤ u54) (rt ()) (gR 4 i0 67 fun v58 => isK 32 v58 fun i59 => aI 32 i59 a1 fun v61 => bn0 (f_X5_isOpenKey i0 u54) fun v62 => bnd (ρ := _) (α := Int32) (cnd (v62 = 0) (rt (0 : Int32)) (rt ((1 : Int32) <<< (u54 &&& 31)))) (fun u63 => bI 32 i59 a1 (v61 ||| u63) <| r55 (u54 + (1 : Int32))))) (0 : Int32)) (fun _ => gR 4 i0 68 fun v66 => gI 4 i0 0 fun v67 => isK 32 v66 fun i68 => bI 32 i68 a1 v67 <| rt ())) fun j71 => cnd ((15 : Int32) < (v46 - v50)) (j71 ()) (gR 4 i0 67 fun v73 => isK 32 v73 fun i74 => aI 32 i74 a1 fun v76 => gR 4 i0 58 fun v77 => isK 32 v77 fun i78 => aI 32 i78 a2 fun v80 => cnd (((v76 >>> (v80 &&& 31)) &&& (1 : Int32)) = 0) (j71 ()) (rt ()))) (rt ())) (fun _ => gR 4 i0 67 fun v21 => isK 32 v21 fun i22 => aI 32 i22 a1 fun v24 => gR 4 i0 58 fun v25 => isK 32 v25 fun i26 => aI 32 i26 a2 fun v28 => cnd (((v24 >>> (v28 &&& 31)) &&& (1 : Int32)) = 0) (rt (3 : Int32)) (gR 4 i0 69 fun v30 => gR 4 i0 57 fun v31 => isK 32 v31 fun i32 => aI 32 i32 a2 fun v34 => isK 33 v30 fun i35 => aI 33 i35 (((60 : Int32) * a1) + v34) fun v37 => cnd (v37 = 0) (gR 4 i0 55 fun v39 => isK 32 v39 fun i40 => aI 32 i40 a2 fun v42 => cnd (((v42 >>> (a3 &&& 31)) &&& (1 : Int32)) = 0) (rt (5 : Int32)) (rt (0 : Int32))) (rt (4 : Int32))))) (rt (2 : Int32))) (rt (1 : Int32))))
theorem im_X5_check {g : GP} {l : Launch} (hl : l.stackTraces = false) (i0 : Nat) (a1 : Int32) (a2 : Int32) (a3 : Int32) : Im g l 2 yX5_check cX5_check 6 (some .int) eI [.ref (idc 4 i0), .int a1, .int a2, .int a3] (f_X5_check i0 a1 a2 a3) := by
  refine tx_start hl 2 _ _ _ _ (by decide) (Nat.le_of_ble_eq_true rfl) fun Γ Z hΓ hZ => ?_
  subst hΓ
  unfold f_X5_check
  show TX g Γ _ Z _ 0 [(0, .ref (idc 4 i0)), (1, .int a1), (2, .int a2), (3, .int a3)] [] _
  refine x_iload_n 0 1 dX5_check_0 rfl ?_
  refine x_cS 1 1 [.int a1] [] cs_X5_358 (im_X5_isService hl a1) (by decide) rfl (Nat.le_of_ble_eq_true rfl) dX5_check_1 fun v1 => x_stI ?_
  refine x_bndj 20 (fun u2 => [(0, .ref (idc 4 i0)), (1, .int a1), (2, .int a2), (3, .int a3)]) (fun u2 => [.int u2]) (fun u2 => ?_) (fun hj82 => ?_)
  · show TX g Γ _ Z _ 20 [(0, .ref (idc 4 i0)), (1, .int a1), (2, .int a2), (3, .int a3)] [.int u2] _
    refine x_istore 20 [(4, .int u2), (0, .ref (idc 4 i0)), (1, .int a1), (2, .int a2), (3, .int a3)] dX5_check_20 (by decide) rfl ?_
    refine x_aload_n 22 1 dX5_check_22 rfl ?_
    refine x_iload 23 0 dX5_check_23 rfl ?_
    refine x_iload_n 25 4 dX5_check_25 rfl ?_
    refine x_iconst 26 0 (0 : Int32) dX5_check_26 rfl ?_
    refine x_iconst 27 3 (3 : Int32) dX5_check_27 rfl ?_
    refine x_cS 28 0 [.int a3, .int (0 : Int32), .int (3 : Int32)] [.int u2, .ref (idc 4 i0)] cs_X5_228 (im_X5_isIn hl a3 (0 : Int32) (3 : Int32)) (by decide) rfl (Nat.le_of_ble_eq_true rfl) dX5_check_28 fun v3 => x_stI ?_
    refine x_cV 31 0 [.int u2, .int v3] [] ⟨by decide, rfl⟩ cv_X5_274 (im_X5_mayBoth hl i0 u2 v3) (by decide) rfl (Nat.le_of_ble_eq_true rfl) dX5_check_31 fun v4 => x_stI ?_
    refine x_if_ne 34 39 dX5_check_34 rfl (fun c5 => ?_) (fun c5 => ?_)
    · refine x_iconst 37 0 (0 : Int32) dX5_check_37 rfl ?_
      exact x_iret 38 hZ rfl dX5_check_38
    · refine x_aload_n 39 1 dX5_check_39 rfl ?_
      refine x_getR 40 fa_X5_152_4 dX5_check_40 fun v6 => ?_
      refine x_iload_n 43 3 dX5_check_43 rfl ?_
      refine x_isK fun i7 h8 => ?_
      subst h8
      refine x_iald 44 dX5_check_44 fun v9 => ?_
      refine x_iload_n 45 2 dX5_check_45 rfl ?_
      refine x_icmp_eq 46 51 dX5_check_46 rfl (fun c10 => ?_) (fun c10 => ?_)
      · refine x_aload_n 51 1 dX5_check_51 rfl ?_
        refine x_getI 52 fa_X5_247_4 dX5_check_52 fun v11 => ?_
        refine x_aload_n 55 1 dX5_check_55 rfl ?_
        refine x_getR 56 fa_X5_167_4 dX5_check_56 fun v12 => ?_
        refine x_iload_n 59 3 dX5_check_59 rfl ?_
        refine x_isK fun i13 h14 => ?_
        subst h14
        refine x_iald 60 dX5_check_60 fun v15 => ?_
        refine x_icmp_le 61 66 dX5_check_61 rfl (fun c16 => ?_) (fun c16 => ?_)
        · refine x_aload_n 66 1 dX5_check_66 rfl ?_
          refine x_getR 67 fa_X5_183_4 dX5_check_67 fun v17 => ?_
          refine x_iload_n 70 2 dX5_check_70 rfl ?_
          refine x_isK fun i18 h19 => ?_
          subst h19
          refine x_zald 71 dX5_check_71 fun v20 => ?_
          refine x_bndj 168 (fun _ => [(0, .ref (idc 4 i0)), (1, .int a1), (2, .int a2), (3, .int a3)]) (fun _ => []) (fun _ => ?_) (fun hj44 => ?_)
          · show TX g Γ _ Z _ 168 [(0, .ref (idc 4 i0)), (1, .int a1), (2, .int a2), (3, .int a3)] [] _
            refine x_aload_n 168 0 dX5_check_168 rfl ?_
            refine x_getR 169 fa_X5_186_4 dX5_check_169 fun v21 => ?_
            refine x_iload_n 172 1 dX5_check_172 rfl ?_
            refine x_isK fun i22 h23 => ?_
            subst h23
            refine x_iald 173 dX5_check_173 fun v24 => ?_
            refine x_aload_n 174 0 dX5_check_174 rfl ?_
            refine x_getR 175 fa_X5_164_4 dX5_check_175 fun v25 => ?_
            refine x_iload_n 178 2 dX5_check_178 rfl ?_
            refine x_isK fun i26 h27 => ?_
            subst h27
            refine x_iald 179 dX5_check_179 fun v28 => ?_
            refine x_ishr 180 dX5_check_180 ?_
            refine x_iconst 181 1 (1 : Int32) dX5_check_181 rfl ?_
            refine x_iand 182 dX5_check_182 ?_
            refine x_if_ne 183 188 dX5_check_183 rfl (fun c29 => ?_) (fun c29 => ?_)
            · refine x_iconst 186 3 (3 : Int32) dX5_check_186 rfl ?_
              exact x_iret 187 hZ rfl dX5_check_187
            · refine x_aload_n 188 0 dX5_check_188 rfl ?_
              refine x_getR 189 fa_X5_192_4 dX5_check_189 fun v30 => ?_
              refine x_bipush 192 60 (60 : Int32) dX5_check_192 rfl ?_
              refine x_iload_n 194 1 dX5_check_194 rfl ?_
              refine x_imul 195 dX5_check_195 ?_
              refine x_aload_n 196 0 dX5_check_196 rfl ?_
              refine x_getR 197 fa_X5_161_4 dX5_check_197 fun v31 => ?_
              refine x_iload_n 200 2 dX5_check_200 rfl ?_
              refine x_isK fun i32 h33 => ?_
              subst h33
              refine x_iald 201 dX5_check_201 fun v34 => ?_
              refine x_iadd 202 dX5_check_202 ?_
              refine x_isK fun i35 h36 => ?_
              subst h36
              refine x_zald 203 dX5_check_203 fun v37 => ?_
              refine x_if_eq 204 209 dX5_check_204 rfl (fun c38 => ?_) (fun c38 => ?_)
              · refine x_aload_n 209 0 dX5_check_209 rfl ?_
                refine x_getR 210 fa_X5_155_4 dX5_check_210 fun v39 => ?_
                refine x_iload_n 213 2 dX5_check_213 rfl ?_
                refine x_isK fun i40 h41 => ?_
                subst h41
                refine x_iald 214 dX5_check_214 fun v42 => ?_
                refine x_iload_n 215 3 dX5_check_215 rfl ?_
                refine x_ishr 216 dX5_check_216 ?_
                refine x_iconst 217 1 (1 : Int32) dX5_check_217 rfl ?_
                refine x_iand 218 dX5_check_218 ?_
                refine x_if_ne 219 226 dX5_check_219 rfl (fun c43 => ?_) (fun c43 => ?_)
                · refine x_iconst 222 5 (5 : Int32) dX5_check_222 rfl ?_
                  refine x_goto 223 227 dX5_check_223 rfl ?_
                  exact x_iret 227 hZ rfl dX5_check_227
                · refine x_iconst 226 0 (0 : Int32) dX5_check_226 rfl ?_
                  exact x_iret 227 hZ rfl dX5_check_227
              · refine x_iconst 207 4 (4 : Int32) dX5_check_207 rfl ?_
                exact x_iret 208 hZ rfl dX5_check_208
          · refine x_if_ne 72 168 dX5_check_72 rfl (fun c45 => ?_) (fun c45 => ?_)
            · refine x_aload_n 75 1 dX5_check_75 rfl ?_
              refine x_getI 76 fa_X5_247_4 dX5_check_76 fun v46 => ?_
              refine x_aload_n 79 1 dX5_check_79 rfl ?_
              refine x_getR 80 fa_X5_189_4 dX5_check_80 fun v47 => ?_
              refine x_iload_n 83 2 dX5_check_83 rfl ?_
              refine x_isK fun i48 h49 => ?_
              subst h49
              refine x_iald 84 dX5_check_84 fun v50 => ?_
              refine x_isub 85 dX5_check_85 ?_
              refine x_bipush 86 15 (15 : Int32) dX5_check_86 rfl ?_
              refine x_jo 109 (Lf := fun _ => [(0, .ref (idc 4 i0)), (1, .int a1), (2, .int a2), (3, .int a3)]) (sf := fun _ => []) (fun _ => ?_) (fun j71 hj70 => ?_)
              · show TX g Γ _ Z _ 109 [(0, .ref (idc 4 i0)), (1, .int a1), (2, .int a2), (3, .int a3)] [] _
                refine x_aload_n 109 0 dX5_check_109 rfl ?_
                refine x_getR 110 fa_X5_186_4 dX5_check_110 fun v51 => ?_
                refine x_iload_n 113 1 dX5_check_113 rfl ?_
                refine x_iconst 114 0 (0 : Int32) dX5_check_114 rfl ?_
                refine x_isK fun i52 h53 => ?_
                subst h53
                refine x_iast 115 dX5_check_115 ?_
                refine x_iconst 116 0 (0 : Int32) dX5_check_116 rfl ?_
                refine x_istore 117 [(5, .int (0 : Int32)), (0, .ref (idc 4 i0)), (1, .int a1), (2, .int a2), (3, .int a3)] dX5_check_117 (by decide) rfl ?_
                refine x_sub [1, 2, 3, 4, 0] [(0, .ref (idc 4 i0)), (1, .int a1), (2, .int a2), (3, .int a3), (5, .int (0 : Int32))] rfl ?_
                refine x_bndj 158 (fun _ => [(0, .ref (idc 4 i0)), (1, .int a1), (2, .int a2), (3, .int a3)]) (fun _ => []) (fun _ => ?_) (fun hj56 => ?_)
                · show TX g Γ _ Z _ 158 [(0, .ref (idc 4 i0)), (1, .int a1), (2, .int a2), (3, .int a3)] [] _
                  refine x_aload_n 158 0 dX5_check_158 rfl ?_
                  refine x_getR 159 fa_X5_189_4 dX5_check_159 fun v66 => ?_
                  refine x_iload_n 162 1 dX5_check_162 rfl ?_
                  refine x_aload_n 163 0 dX5_check_163 rfl ?_
                  refine x_getI 164 fa_X5_247_4 dX5_check_164 fun v67 => ?_
                  refine x_isK fun i68 h69 => ?_
                  subst h69
                  refine x_iast 167 dX5_check_167 ?_
                  exact hj44 ()
                · refine x_lp (Lf := fun u54 => [(0, .ref (idc 4 i0)), (1, .int a1), (2, .int a2), (3, .int a3), (5, .int u54)]) (sf := fun _ => []) (fun r55 hr55 u54 => ?_) (0 : Int32)
                  show TX g Γ _ Z _ 119 [(0, .ref (idc 4 i0)), (1, .int a1), (2, .int a2), (3, .int a3), (5, .int u54)] [] _
                  refine x_iload 119 4 dX5_check_119 rfl ?_
                  refine x_bipush 121 20 (20 : Int32) dX5_check_121 rfl ?_
                  refine x_icmp_ge 123 158 dX5_check_123 rfl (fun c57 => ?_) (fun c57 => ?_)
                  · refine x_sub [0, 1, 2, 3] _ rfl ?_
                    exact hj56 ()
                  · refine x_aload_n 126 0 dX5_check_126 rfl ?_
                    refine x_getR 127 fa_X5_186_4 dX5_check_127 fun v58 => ?_
                    refine x_iload_n 130 1 dX5_check_130 rfl ?_
                    refine x_dup2 131 dX5_check_131 rfl rfl ?_
                    refine x_isK fun i59 h60 => ?_
                    subst h60
                    refine x_iald 132 dX5_check_132 fun v61 => ?_
                    refine x_aload_n 133 0 dX5_check_133 rfl ?_
                    refine x_iload 134 4 dX5_check_134 rfl ?_
                    refine x_cV 136 0 [.int u54] [.int v61, .int a1, .ref (idc 32 i59)] ⟨by decide, rfl⟩ cv_X5_377 (im_X5_isOpenKey hl i0 u54) (by decide) rfl (Nat.le_of_ble_eq_true rfl) dX5_check_136 fun v62 => x_stI ?_
                    refine x_bndj 150 (fun u63 => [(0, .ref (idc 4 i0)), (1, .int a1), (2, .int a2), (3, .int a3), (5, .int u54)]) (fun u63 => [.int u63, .int v61, .int a1, .ref (idc 32 i59)]) (fun u63 => ?_) (fun hj64 => ?_)
                    · show TX g Γ _ Z _ 150 [(0, .ref (idc 4 i0)), (1, .int a1), (2, .int a2), (3, .int a3), (5, .int u54)] [.int u63, .int v61, .int a1, .ref (idc 32 i59)] _
                      refine x_ior 150 dX5_check_150 ?_
                      refine x_iast 151 dX5_check_151 ?_
                      refine x_iinc 152 4 [(5, .int (u54 + (1 : Int32))), (0, .ref (idc 4 i0)), (1, .int a1), (2, .int a2), (3, .int a3)] dX5_check_152 rfl rfl (by decide) rfl ?_
                      refine x_goto 155 119 dX5_check_155 rfl ?_
                      refine x_sub [1, 2, 3, 4, 0] _ rfl ?_
                      exact hr55 (u54 + (1 : Int32))
                    · refine x_if_eq 139 149 dX5_check_139 rfl (fun c65 => ?_) (fun c65 => ?_)
                      · refine x_iconst 149 0 (0 : Int32) dX5_check_149 rfl ?_
                        exact hj64 (0 : Int32)
                      · refine x_iconst 142 1 (1 : Int32) dX5_check_142 rfl ?_
                        refine x_iload 143 4 dX5_check_143 rfl ?_
                        refine x_ishl 145 dX5_check_145 ?_
                        refine x_goto 146 150 dX5_check_146 rfl ?_
                        exact hj64 ((1 : Int32) <<< (u54 &&& 31))
              · refine x_icmp_gt 88 109 dX5_check_88 rfl (fun c72 => ?_) (fun c72 => ?_)
                · refine x_sub [1, 2, 3, 4] _ rfl ?_
                  exact hj70 ()
                · refine x_aload_n 91 1 dX5_check_91 rfl ?_
                  refine x_getR 92 fa_X5_186_4 dX5_check_92 fun v73 => ?_
                  refine x_iload_n 95 2 dX5_check_95 rfl ?_
                  refine x_isK fun i74 h75 => ?_
                  subst h75
                  refine x_iald 96 dX5_check_96 fun v76 => ?_
                  refine x_aload_n 97 1 dX5_check_97 rfl ?_
                  refine x_getR 98 fa_X5_164_4 dX5_check_98 fun v77 => ?_
                  refine x_iload_n 101 3 dX5_check_101 rfl ?_
                  refine x_isK fun i78 h79 => ?_
                  subst h79
                  refine x_iald 102 dX5_check_102 fun v80 => ?_
                  refine x_ishr 103 dX5_check_103 ?_
                  refine x_iconst 104 1 (1 : Int32) dX5_check_104 rfl ?_
                  refine x_iand 105 dX5_check_105 ?_
                  refine x_if_ne 106 168 dX5_check_106 rfl (fun c81 => ?_) (fun c81 => ?_)
                  · refine x_sub [1, 2, 3, 4] _ rfl ?_
                    exact hj70 ()
                  · refine x_sub [1, 2, 3, 4] _ rfl ?_
                    exact hj44 ()
            · refine x_sub [1, 2, 3, 4] _ rfl ?_
              exact hj44 ()
        · refine x_iconst 64 2 (2 : Int32) dX5_check_64 rfl ?_
          exact x_iret 65 hZ rfl dX5_check_65
      · refine x_iconst 49 1 (1 : Int32) dX5_check_49 rfl ?_
        exact x_iret 50 hZ rfl dX5_check_50
  · refine x_jo 19 (Lf := fun _ => [(0, .ref (idc 4 i0)), (1, .int a1), (2, .int a2), (3, .int a3)]) (sf := fun _ => []) (fun _ => ?_) (fun j84 hj83 => ?_)
    · show TX g Γ _ Z _ 19 [(0, .ref (idc 4 i0)), (1, .int a1), (2, .int a2), (3, .int a3)] [] _
      refine x_iconst 19 0 (0 : Int32) dX5_check_19 rfl ?_
      exact hj82 (0 : Int32)
    · refine x_if_eq 4 19 dX5_check_4 rfl (fun c85 => ?_) (fun c85 => ?_)
      · exact hj83 ()
      · refine x_aload_n 7 0 dX5_check_7 rfl ?_
        refine x_iload_n 8 2 dX5_check_8 rfl ?_
        refine x_cV 9 1 [.int a2] [] ⟨by decide, rfl⟩ cv_X5_374 (im_X5_isToken hl i0 a2) (by decide) rfl (Nat.le_of_ble_eq_true rfl) dX5_check_9 fun v86 => x_stI ?_
        refine x_if_eq 12 19 dX5_check_12 rfl (fun c87 => ?_) (fun c87 => ?_)
        · exact hj83 ()
        · refine x_iconst 15 1 (1 : Int32) dX5_check_15 rfl ?_
          refine x_goto 16 20 dX5_check_16 rfl ?_
          exact hj82 (1 : Int32)
def f_X5_lag (i0 : Nat) (a1 : Int32) : PT Int32 := bn0 (f_X5_isToken i0 a1) fun v1 => bn0 (f_X5_may i0 v1) fun v2 => cnd (v2 = 0) (rt (0 : Int32)) (gR 4 i0 51 fun v4 => gR 4 i0 57 fun v5 => isK 32 v5 fun i6 => aI 32 i6 a1 fun v8 => isK 33 v4 fun i9 => aI 33 i9 v8 fun v11 => bnd (ρ := _) (α := Int32) (jo (σ := Unit) (fun _ => rt (0 : Int32)) fun j21 => cnd (v11 = 0) (gR 4 i0 69 fun v23 => gR 4 i0 54 fun v24 => isK 32 v24 fun i25 => aI 32 i25 a1 fun v27 => gR 4 i0 57 fun v28 => isK 32 v28 fun i29 => aI 32 i29 a1 fun v31 => isK 33 v23 fun i32 => aI 33 i32 (((60 : Int32) * v27) + v31) fun v34 => cnd (v34 = 0) (gI 4 i0 0 fun v36 => gR 4 i0 59 fun v37 => isK 32 v37 fun i38 => aI 32 i38 a1 fun v40 => cnd (v40 < v36) (j21 ()) (rt (1 : Int32))) (j21 ())) (j21 ())) (fun u12 => cnd (u12 = 0) (rt (0 : Int32)) (gR 4 i0 59 fun v14 => isK 32 v14 fun i15 => aI 32 i15 a1 fun v17 => gI 4 i0 0 fun v18 => rt ((v17 - v18) + (1 : Int32)))))
theorem im_X5_lag {g : GP} {l : Launch} (hl : l.stackTraces = false) (i0 : Nat) (a1 : Int32) : Im g l 2 yX5_lag cX5_lag 3 (some .int) eI [.ref (idc 4 i0), .int a1] (f_X5_lag i0 a1) := by
  refine tx_start hl 2 _ _ _ _ (by decide) (Nat.le_of_ble_eq_true rfl) fun Γ Z hΓ hZ => ?_
  subst hΓ
  unfold f_X5_lag
  show TX g Γ _ Z _ 0 [(0, .ref (idc 4 i0)), (1, .int a1)] [] _
  refine x_aload_n 0 0 dX5_lag_0 rfl ?_
  refine x_aload_n 1 0 dX5_lag_1 rfl ?_
  refine x_iload_n 2 1 dX5_lag_2 rfl ?_
  refine x_cV 3 1 [.int a1] [.ref (idc 4 i0)] ⟨by decide, rfl⟩ cv_X5_374 (im_X5_isToken hl i0 a1) (by decide) rfl (Nat.le_of_ble_eq_true rfl) dX5_lag_3 fun v1 => x_stI ?_
  refine x_cV 6 0 [.int v1] [] ⟨by decide, rfl⟩ cv_X5_251 (im_X5_may hl i0 v1) (by decide) rfl (Nat.le_of_ble_eq_true rfl) dX5_lag_6 fun v2 => x_stI ?_
  refine x_if_ne 9 14 dX5_lag_9 rfl (fun c3 => ?_) (fun c3 => ?_)
  · refine x_iconst 12 0 (0 : Int32) dX5_lag_12 rfl ?_
    exact x_iret 13 hZ rfl dX5_lag_13
  · refine x_aload_n 14 0 dX5_lag_14 rfl ?_
    refine x_getR 15 fa_X5_146_4 dX5_lag_15 fun v4 => ?_
    refine x_aload_n 18 0 dX5_lag_18 rfl ?_
    refine x_getR 19 fa_X5_161_4 dX5_lag_19 fun v5 => ?_
    refine x_iload_n 22 1 dX5_lag_22 rfl ?_
    refine x_isK fun i6 h7 => ?_
    subst h7
    refine x_iald 23 dX5_lag_23 fun v8 => ?_
    refine x_isK fun i9 h10 => ?_
    subst h10
    refine x_zald 24 dX5_lag_24 fun v11 => ?_
    refine x_bndj 70 (fun u12 => [(0, .ref (idc 4 i0)), (1, .int a1)]) (fun u12 => [.int u12]) (fun u12 => ?_) (fun hj19 => ?_)
    · show TX g Γ _ Z _ 70 [(0, .ref (idc 4 i0)), (1, .int a1)] [.int u12] _
      refine x_istore_n 70 [(2, .int u12), (0, .ref (idc 4 i0)), (1, .int a1)] dX5_lag_70 (by decide) rfl ?_
      refine x_iload_n 71 0 dX5_lag_71 rfl ?_
      refine x_if_eq 72 91 dX5_lag_72 rfl (fun c13 => ?_) (fun c13 => ?_)
      · refine x_iconst 91 0 (0 : Int32) dX5_lag_91 rfl ?_
        exact x_iret 92 hZ rfl dX5_lag_92
      · refine x_aload_n 75 1 dX5_lag_75 rfl ?_
        refine x_getR 76 fa_X5_167_4 dX5_lag_76 fun v14 => ?_
        refine x_iload_n 79 2 dX5_lag_79 rfl ?_
        refine x_isK fun i15 h16 => ?_
        subst h16
        refine x_iald 80 dX5_lag_80 fun v17 => ?_
        refine x_aload_n 81 1 dX5_lag_81 rfl ?_
        refine x_getI 82 fa_X5_247_4 dX5_lag_82 fun v18 => ?_
        refine x_isub 85 dX5_lag_85 ?_
        refine x_iconst 86 1 (1 : Int32) dX5_lag_86 rfl ?_
        refine x_iadd 87 dX5_lag_87 ?_
        refine x_goto 88 92 dX5_lag_88 rfl ?_
        exact x_iret 92 hZ rfl dX5_lag_92
    · refine x_jo 69 (Lf := fun _ => [(0, .ref (idc 4 i0)), (1, .int a1)]) (sf := fun _ => []) (fun _ => ?_) (fun j21 hj20 => ?_)
      · show TX g Γ _ Z _ 69 [(0, .ref (idc 4 i0)), (1, .int a1)] [] _
        refine x_iconst 69 0 (0 : Int32) dX5_lag_69 rfl ?_
        exact hj19 (0 : Int32)
      · refine x_if_ne 25 69 dX5_lag_25 rfl (fun c22 => ?_) (fun c22 => ?_)
        · refine x_aload_n 28 0 dX5_lag_28 rfl ?_
          refine x_getR 29 fa_X5_192_4 dX5_lag_29 fun v23 => ?_
          refine x_bipush 32 60 (60 : Int32) dX5_lag_32 rfl ?_
          refine x_aload_n 34 0 dX5_lag_34 rfl ?_
          refine x_getR 35 fa_X5_152_4 dX5_lag_35 fun v24 => ?_
          refine x_iload_n 38 1 dX5_lag_38 rfl ?_
          refine x_isK fun i25 h26 => ?_
          subst h26
          refine x_iald 39 dX5_lag_39 fun v27 => ?_
          refine x_imul 40 dX5_lag_40 ?_
          refine x_aload_n 41 0 dX5_lag_41 rfl ?_
          refine x_getR 42 fa_X5_161_4 dX5_lag_42 fun v28 => ?_
          refine x_iload_n 45 1 dX5_lag_45 rfl ?_
          refine x_isK fun i29 h30 => ?_
          subst h30
          refine x_iald 46 dX5_lag_46 fun v31 => ?_
          refine x_iadd 47 dX5_lag_47 ?_
          refine x_isK fun i32 h33 => ?_
          subst h33
          refine x_zald 48 dX5_lag_48 fun v34 => ?_
          refine x_if_ne 49 69 dX5_lag_49 rfl (fun c35 => ?_) (fun c35 => ?_)
          · refine x_aload_n 52 0 dX5_lag_52 rfl ?_
            refine x_getI 53 fa_X5_247_4 dX5_lag_53 fun v36 => ?_
            refine x_aload_n 56 0 dX5_lag_56 rfl ?_
            refine x_getR 57 fa_X5_167_4 dX5_lag_57 fun v37 => ?_
            refine x_iload_n 60 1 dX5_lag_60 rfl ?_
            refine x_isK fun i38 h39 => ?_
            subst h39
            refine x_iald 61 dX5_lag_61 fun v40 => ?_
            refine x_icmp_gt 62 69 dX5_lag_62 rfl (fun c41 => ?_) (fun c41 => ?_)
            · exact hj20 ()
            · refine x_iconst 65 1 (1 : Int32) dX5_lag_65 rfl ?_
              refine x_goto 66 70 dX5_lag_66 rfl ?_
              exact hj19 (1 : Int32)
          · exact hj20 ()
        · exact hj20 ()
def f_X5_recover (i0 : Nat) (a1 : Int32) : PT Int32 := bn0 (f_X5_isSix a1) fun v1 => bnd (ρ := _) (α := Int32) (jo (σ := Unit) (fun _ => rt (0 : Int32)) fun j43 => cnd (v1 = 0) (j43 ()) (gR 4 i0 7 fun v45 => isK 33 v45 fun i46 => aI 33 i46 a1 fun v48 => cnd (v48 = 0) (gI 4 i0 70 fun v50 => cnd ((20 : Int32) ≤ v50) (j43 ()) (rt (1 : Int32))) (j43 ()))) (fun u2 => bnd (lp (σ := Int32 × Int32) (ρ := Int32) (fun r5 => un2 fun u3 u4 => gI 4 i0 70 fun v8 => cnd (v8 ≤ u4) (rt u3) (cnd (u3 = 0) (r5 ((0 : Int32), u4 + (1 : Int32))) (gR 4 i0 73 fun v11 => isK 33 v11 fun i12 => aI 33 i12 u4 fun v14 => jo (σ := Int32) (fun u15 => r5 ((1 : Int32), u15 + (1 : Int32))) fun j17 => cnd (v14 = 0) (j17 u4) (gR 4 i0 71 fun v19 => isK 32 v19 fun i20 => aI 32 i20 u4 fun v22 => cnd (v22 = a1) (r5 ((0 : Int32), u4 + (1 : Int32))) (j17 u4))))) (u2, (0 : Int32))) (fun u6 => bn0 (f_X5_mayBoth i0 v1 u6) fun v24 => cnd (v24 = 0) (rt (0 : Int32)) (gR 4 i0 71 fun v26 => gI 4 i0 70 fun v27 => isK 32 v26 fun i28 => bI 32 i28 v27 a1 <| gR 4 i0 72 fun v30 => gI 4 i0 70 fun v31 => gI 4 i0 0 fun v32 => isK 32 v30 fun i33 => bI 32 i33 v31 v32 <| gR 4 i0 73 fun v35 => gI 4 i0 70 fun v36 => isK 33 v35 fun i37 => bZ 33 i37 v36 (1 : Int32) <| gI 4 i0 70 fun v39 => pI 4 i0 70 (v39 + (1 : Int32)) <| gI 4 i0 70 fun v40 => rt (v40 - (1 : Int32)))))
theorem im_X5_recover {g : GP} {l : Launch} (hl : l.stackTraces = false) (i0 : Nat) (a1 : Int32) : Im g l 2 yX5_recover cX5_recover 5 (some .int) eI [.ref (idc 4 i0), .int a1] (f_X5_recover i0 a1) := by
  refine tx_start hl 2 _ _ _ _ (by decide) (Nat.le_of_ble_eq_true rfl) fun Γ Z hΓ hZ => ?_
  subst hΓ
  unfold f_X5_recover
  show TX g Γ _ Z _ 0 [(0, .ref (idc 4 i0)), (1, .int a1)] [] _
  refine x_iload_n 0 1 dX5_recover_0 rfl ?_
  refine x_cS 1 1 [.int a1] [] cs_X5_284 (im_X5_isSix hl a1) (by decide) rfl (Nat.le_of_ble_eq_true rfl) dX5_recover_1 fun v1 => x_stI ?_
  refine x_istore_n 4 [(2, .int v1), (0, .ref (idc 4 i0)), (1, .int a1)] dX5_recover_4 (by decide) rfl ?_
  refine x_iload_n 5 0 dX5_recover_5 rfl ?_
  refine x_bndj 32 (fun u2 => [(0, .ref (idc 4 i0)), (1, .int a1), (2, .int v1)]) (fun u2 => [.int u2]) (fun u2 => ?_) (fun hj41 => ?_)
  · show TX g Γ _ Z _ 32 [(0, .ref (idc 4 i0)), (1, .int a1), (2, .int v1)] [.int u2] _
    refine x_istore_n 32 [(3, .int u2), (0, .ref (idc 4 i0)), (1, .int a1), (2, .int v1)] dX5_recover_32 (by decide) rfl ?_
    refine x_iconst 33 0 (0 : Int32) dX5_recover_33 rfl ?_
    refine x_istore 34 [(4, .int (0 : Int32)), (3, .int u2), (0, .ref (idc 4 i0)), (1, .int a1), (2, .int v1)] dX5_recover_34 (by decide) rfl ?_
    refine x_sub [2, 3, 4, 1, 0] [(0, .ref (idc 4 i0)), (1, .int a1), (2, .int v1), (3, .int u2), (4, .int (0 : Int32))] rfl ?_
    refine x_bndj 82 (fun u6 => [(0, .ref (idc 4 i0)), (1, .int a1), (2, .int v1), (3, .int u6)]) (fun u6 => []) (fun u6 => ?_) (fun hj7 => ?_)
    · show TX g Γ _ Z _ 82 [(0, .ref (idc 4 i0)), (1, .int a1), (2, .int v1), (3, .int u6)] [] _
      refine x_aload_n 82 0 dX5_recover_82 rfl ?_
      refine x_iload_n 83 2 dX5_recover_83 rfl ?_
      refine x_iload_n 84 3 dX5_recover_84 rfl ?_
      refine x_cV 85 0 [.int v1, .int u6] [] ⟨by decide, rfl⟩ cv_X5_274 (im_X5_mayBoth hl i0 v1 u6) (by decide) rfl (Nat.le_of_ble_eq_true rfl) dX5_recover_85 fun v24 => x_stI ?_
      refine x_if_ne 88 93 dX5_recover_88 rfl (fun c25 => ?_) (fun c25 => ?_)
      · refine x_iconst 91 0 (0 : Int32) dX5_recover_91 rfl ?_
        exact x_iret 92 hZ rfl dX5_recover_92
      · refine x_aload_n 93 0 dX5_recover_93 rfl ?_
        refine x_getR 94 fa_X5_195_4 dX5_recover_94 fun v26 => ?_
        refine x_aload_n 97 0 dX5_recover_97 rfl ?_
        refine x_getI 98 fa_X5_380_4 dX5_recover_98 fun v27 => ?_
        refine x_iload_n 101 1 dX5_recover_101 rfl ?_
        refine x_isK fun i28 h29 => ?_
        subst h29
        refine x_iast 102 dX5_recover_102 ?_
        refine x_aload_n 103 0 dX5_recover_103 rfl ?_
        refine x_getR 104 fa_X5_198_4 dX5_recover_104 fun v30 => ?_
        refine x_aload_n 107 0 dX5_recover_107 rfl ?_
        refine x_getI 108 fa_X5_380_4 dX5_recover_108 fun v31 => ?_
        refine x_aload_n 111 0 dX5_recover_111 rfl ?_
        refine x_getI 112 fa_X5_247_4 dX5_recover_112 fun v32 => ?_
        refine x_isK fun i33 h34 => ?_
        subst h34
        refine x_iast 115 dX5_recover_115 ?_
        refine x_aload_n 116 0 dX5_recover_116 rfl ?_
        refine x_getR 117 fa_X5_201_4 dX5_recover_117 fun v35 => ?_
        refine x_aload_n 120 0 dX5_recover_120 rfl ?_
        refine x_getI 121 fa_X5_380_4 dX5_recover_121 fun v36 => ?_
        refine x_iconst 124 1 (1 : Int32) dX5_recover_124 rfl ?_
        refine x_isK fun i37 h38 => ?_
        subst h38
        refine x_zast 125 dX5_recover_125 ?_
        refine x_aload_n 126 0 dX5_recover_126 rfl ?_
        refine x_dup 127 dX5_recover_127 rfl ?_
        refine x_getI 128 fa_X5_380_4 dX5_recover_128 fun v39 => ?_
        refine x_iconst 131 1 (1 : Int32) dX5_recover_131 rfl ?_
        refine x_iadd 132 dX5_recover_132 ?_
        refine x_putI 133 fa_X5_380_4 rfl (Or.inl rfl) dX5_recover_133 ?_
        refine x_aload_n 136 0 dX5_recover_136 rfl ?_
        refine x_getI 137 fa_X5_380_4 dX5_recover_137 fun v40 => ?_
        refine x_iconst 140 1 (1 : Int32) dX5_recover_140 rfl ?_
        refine x_isub 141 dX5_recover_141 ?_
        exact x_iret 142 hZ rfl dX5_recover_142
    · refine x_lp (Lf := fun u => [(0, .ref (idc 4 i0)), (1, .int a1), (2, .int v1), (3, .int u.1), (4, .int u.2)]) (sf := fun _ => []) (fun r5 hr5 u => ?_) (u2, (0 : Int32))
      obtain ⟨u3, u4⟩ := u
      show TX g Γ _ Z _ 36 [(0, .ref (idc 4 i0)), (1, .int a1), (2, .int v1), (3, .int u3), (4, .int u4)] [] _
      refine x_un2 ?_
      refine x_iload 36 4 dX5_recover_36 rfl ?_
      refine x_aload_n 38 0 dX5_recover_38 rfl ?_
      refine x_getI 39 fa_X5_380_4 dX5_recover_39 fun v8 => ?_
      refine x_icmp_ge 42 82 dX5_recover_42 rfl (fun c9 => ?_) (fun c9 => ?_)
      · refine x_sub [0, 1, 2, 3] _ rfl ?_
        exact hj7 u3
      · refine x_iload_n 45 3 dX5_recover_45 rfl ?_
        refine x_if_eq 46 74 dX5_recover_46 rfl (fun c10 => ?_) (fun c10 => ?_)
        · refine x_iconst 74 0 (0 : Int32) dX5_recover_74 rfl ?_
          refine x_istore_n 75 [(3, .int (0 : Int32)), (0, .ref (idc 4 i0)), (1, .int a1), (2, .int v1), (4, .int u4)] dX5_recover_75 (by decide) rfl ?_
          refine x_iinc 76 4 [(4, .int (u4 + (1 : Int32))), (3, .int (0 : Int32)), (0, .ref (idc 4 i0)), (1, .int a1), (2, .int v1)] dX5_recover_76 rfl rfl (by decide) rfl ?_
          refine x_goto 79 36 dX5_recover_79 rfl ?_
          refine x_sub [2, 3, 4, 1, 0] _ rfl ?_
          exact hr5 ((0 : Int32), u4 + (1 : Int32))
        · refine x_aload_n 49 0 dX5_recover_49 rfl ?_
          refine x_getR 50 fa_X5_201_4 dX5_recover_50 fun v11 => ?_
          refine x_iload 53 4 dX5_recover_53 rfl ?_
          refine x_isK fun i12 h13 => ?_
          subst h13
          refine x_zald 55 dX5_recover_55 fun v14 => ?_
          refine x_jo 70 (Lf := fun u15 => [(0, .ref (idc 4 i0)), (1, .int a1), (2, .int v1), (4, .int u15)]) (sf := fun u15 => []) (fun u15 => ?_) (fun j17 hj16 => ?_)
          · show TX g Γ _ Z _ 70 [(0, .ref (idc 4 i0)), (1, .int a1), (2, .int v1), (4, .int u15)] [] _
            refine x_iconst 70 1 (1 : Int32) dX5_recover_70 rfl ?_
            refine x_goto 71 75 dX5_recover_71 rfl ?_
            refine x_istore_n 75 [(3, .int (1 : Int32)), (0, .ref (idc 4 i0)), (1, .int a1), (2, .int v1), (4, .int u15)] dX5_recover_75 (by decide) rfl ?_
            refine x_iinc 76 4 [(4, .int (u15 + (1 : Int32))), (3, .int (1 : Int32)), (0, .ref (idc 4 i0)), (1, .int a1), (2, .int v1)] dX5_recover_76 rfl rfl (by decide) rfl ?_
            refine x_goto 79 36 dX5_recover_79 rfl ?_
            refine x_sub [2, 3, 4, 1, 0] _ rfl ?_
            exact hr5 ((1 : Int32), u15 + (1 : Int32))
          · refine x_if_eq 56 70 dX5_recover_56 rfl (fun c18 => ?_) (fun c18 => ?_)
            · refine x_sub [0, 1, 2, 4] _ rfl ?_
              exact hj16 u4
            · refine x_aload_n 59 0 dX5_recover_59 rfl ?_
              refine x_getR 60 fa_X5_195_4 dX5_recover_60 fun v19 => ?_
              refine x_iload 63 4 dX5_recover_63 rfl ?_
              refine x_isK fun i20 h21 => ?_
              subst h21
              refine x_iald 65 dX5_recover_65 fun v22 => ?_
              refine x_iload_n 66 1 dX5_recover_66 rfl ?_
              refine x_icmp_eq 67 74 dX5_recover_67 rfl (fun c23 => ?_) (fun c23 => ?_)
              · refine x_iconst 74 0 (0 : Int32) dX5_recover_74 rfl ?_
                refine x_istore_n 75 [(3, .int (0 : Int32)), (0, .ref (idc 4 i0)), (1, .int a1), (2, .int v1), (4, .int u4)] dX5_recover_75 (by decide) rfl ?_
                refine x_iinc 76 4 [(4, .int (u4 + (1 : Int32))), (3, .int (0 : Int32)), (0, .ref (idc 4 i0)), (1, .int a1), (2, .int v1)] dX5_recover_76 rfl rfl (by decide) rfl ?_
                refine x_goto 79 36 dX5_recover_79 rfl ?_
                refine x_sub [2, 3, 4, 1, 0] _ rfl ?_
                exact hr5 ((0 : Int32), u4 + (1 : Int32))
              · refine x_sub [0, 1, 2, 4] _ rfl ?_
                exact hj16 u4
  · refine x_jo 31 (Lf := fun _ => [(0, .ref (idc 4 i0)), (1, .int a1), (2, .int v1)]) (sf := fun _ => []) (fun _ => ?_) (fun j43 hj42 => ?_)
    · show TX g Γ _ Z _ 31 [(0, .ref (idc 4 i0)), (1, .int a1), (2, .int v1)] [] _
      refine x_iconst 31 0 (0 : Int32) dX5_recover_31 rfl ?_
      exact hj41 (0 : Int32)
    · refine x_if_eq 6 31 dX5_recover_6 rfl (fun c44 => ?_) (fun c44 => ?_)
      · refine x_sub [1, 2, 0] _ rfl ?_
        exact hj42 ()
      · refine x_aload_n 9 1 dX5_recover_9 rfl ?_
        refine x_getR 10 fa_X5_29_4 dX5_recover_10 fun v45 => ?_
        refine x_iload_n 13 2 dX5_recover_13 rfl ?_
        refine x_isK fun i46 h47 => ?_
        subst h47
        refine x_zald 14 dX5_recover_14 fun v48 => ?_
        refine x_if_ne 15 31 dX5_recover_15 rfl (fun c49 => ?_) (fun c49 => ?_)
        · refine x_aload_n 18 1 dX5_recover_18 rfl ?_
          refine x_getI 19 fa_X5_380_4 dX5_recover_19 fun v50 => ?_
          refine x_bipush 22 20 (20 : Int32) dX5_recover_22 rfl ?_
          refine x_icmp_ge 24 31 dX5_recover_24 rfl (fun c51 => ?_) (fun c51 => ?_)
          · refine x_sub [1, 2, 0] _ rfl ?_
            exact hj42 ()
          · refine x_iconst 27 1 (1 : Int32) dX5_recover_27 rfl ?_
            refine x_goto 28 32 dX5_recover_28 rfl ?_
            refine x_sub [1, 2, 0] _ rfl ?_
            exact hj41 (1 : Int32)
        · refine x_sub [1, 2, 0] _ rfl ?_
          exact hj42 ()
def f_X5_isRecovery (i0 : Nat) (a1 : Int32) : PT Int32 := gI 4 i0 70 fun v1 => bn0 (f_X5_isIn a1 (0 : Int32) (v1 - (1 : Int32))) fun v2 => asr (v2 = 0 ∨ v2 = 1) (rt v2)
theorem im_X5_isRecovery {g : GP} {l : Launch} (hl : l.stackTraces = false) (i0 : Nat) (a1 : Int32) : Im g l 1 yX5_isRecovery cX5_isRecovery 2 (some .boolean) eI [.ref (idc 4 i0), .int a1] (f_X5_isRecovery i0 a1) := by
  refine tx_start hl 1 _ _ _ _ (by decide) (Nat.le_of_ble_eq_true rfl) fun Γ Z hΓ hZ => ?_
  subst hΓ
  unfold f_X5_isRecovery
  show TX g Γ _ Z _ 0 [(0, .ref (idc 4 i0)), (1, .int a1)] [] _
  refine x_iload_n 0 1 dX5_isRecovery_0 rfl ?_
  refine x_iconst 1 0 (0 : Int32) dX5_isRecovery_1 rfl ?_
  refine x_aload_n 2 0 dX5_isRecovery_2 rfl ?_
  refine x_getI 3 fa_X5_380_4 dX5_isRecovery_3 fun v1 => ?_
  refine x_iconst 6 1 (1 : Int32) dX5_isRecovery_6 rfl ?_
  refine x_isub 7 dX5_isRecovery_7 ?_
  refine x_cS 8 0 [.int a1, .int (0 : Int32), .int (v1 - (1 : Int32))] [] cs_X5_228 (im_X5_isIn hl a1 (0 : Int32) (v1 - (1 : Int32))) (by decide) rfl (Nat.le_of_ble_eq_true rfl) dX5_isRecovery_8 fun v2 => x_stI ?_
  exact x_zret 11 hZ rfl dX5_isRecovery_11
def f_X5_speaks (i0 : Nat) (a1 : Int32) : PT Int32 := gR 4 i0 35 fun v1 => isK 33 v1 fun i2 => aI 33 i2 a1 fun v4 => cnd (v4 = 0) (asr ((0 : Int32) = 0 ∨ (0 : Int32) = 1) (rt (0 : Int32))) (gR 4 i0 34 fun v6 => isK 32 v6 fun i7 => aI 32 i7 a1 fun v9 => cnd (v9 = (-1 : Int32)) (asr ((1 : Int32) = 0 ∨ (1 : Int32) = 1) (rt (1 : Int32))) (asr ((0 : Int32) = 0 ∨ (0 : Int32) = 1) (rt (0 : Int32))))
theorem im_X5_speaks {g : GP} {l : Launch} (hl : l.stackTraces = false) (i0 : Nat) (a1 : Int32) : Im g l 0 yX5_speaks cX5_speaks 2 (some .boolean) eI [.ref (idc 4 i0), .int a1] (f_X5_speaks i0 a1) := by
  refine tx_start hl 0 _ _ _ _ (by decide) (Nat.le_of_ble_eq_true rfl) fun Γ Z hΓ hZ => ?_
  subst hΓ
  unfold f_X5_speaks
  show TX g Γ _ Z _ 0 [(0, .ref (idc 4 i0)), (1, .int a1)] [] _
  refine x_aload_n 0 0 dX5_speaks_0 rfl ?_
  refine x_getR 1 fa_X5_104_4 dX5_speaks_1 fun v1 => ?_
  refine x_iload_n 4 1 dX5_speaks_4 rfl ?_
  refine x_isK fun i2 h3 => ?_
  subst h3
  refine x_zald 5 dX5_speaks_5 fun v4 => ?_
  refine x_if_eq 6 23 dX5_speaks_6 rfl (fun c5 => ?_) (fun c5 => ?_)
  · refine x_iconst 23 0 (0 : Int32) dX5_speaks_23 rfl ?_
    exact x_zret 24 hZ rfl dX5_speaks_24
  · refine x_aload_n 9 0 dX5_speaks_9 rfl ?_
    refine x_getR 10 fa_X5_101_4 dX5_speaks_10 fun v6 => ?_
    refine x_iload_n 13 1 dX5_speaks_13 rfl ?_
    refine x_isK fun i7 h8 => ?_
    subst h8
    refine x_iald 14 dX5_speaks_14 fun v9 => ?_
    refine x_iconst 15 (-1) (-1 : Int32) dX5_speaks_15 rfl ?_
    refine x_icmp_ne 16 23 dX5_speaks_16 rfl (fun c10 => ?_) (fun c10 => ?_)
    · refine x_iconst 19 1 (1 : Int32) dX5_speaks_19 rfl ?_
      refine x_goto 20 24 dX5_speaks_20 rfl ?_
      exact x_zret 24 hZ rfl dX5_speaks_24
    · refine x_iconst 23 0 (0 : Int32) dX5_speaks_23 rfl ?_
      exact x_zret 24 hZ rfl dX5_speaks_24
def f_X5_vouch (i0 : Nat) (a1 : Int32) (a2 : Int32) : PT Int32 := bn0 (f_X5_isRecovery i0 a1) fun v1 => bnd (ρ := _) (α := Int32) (jo (σ := Unit) (fun _ => rt (0 : Int32)) fun j61 => cnd (v1 = 0) (j61 ()) (bn0 (f_X5_isSession i0 a2) fun v63 => cnd (v63 = 0) (j61 ()) (rt (1 : Int32)))) (fun u2 => bnd (ρ := _) (α := Int32) (jo (σ := Unit) (fun _ => rt (0 : Int32)) fun j39 => cnd (u2 = 0) (j39 ()) (gR 4 i0 73 fun v41 => isK 33 v41 fun i42 => aI 33 i42 a1 fun v44 => cnd (v44 = 0) (j39 ()) (bn0 (f_X5_speaks i0 a2) fun v46 => cnd (v46 = 0) (j39 ()) (bn0 (f_X5_levelNow i0 a2) fun v48 => cnd (v48 < (3 : Int32)) (j39 ()) (gR 4 i0 31 fun v50 => isK 32 v50 fun i51 => aI 32 i51 a2 fun v53 => gR 4 i0 71 fun v54 => isK 32 v54 fun i55 => aI 32 i55 a1 fun v57 => cnd (v53 = v57) (j39 ()) (rt (1 : Int32))))))) (fun u3 => bnd (ρ := _) (α := Int32) (jo (σ := Unit) (fun _ => rt (0 : Int32)) fun j26 => cnd (u3 = 0) (j26 ()) (gR 4 i0 74 fun v28 => isK 32 v28 fun i29 => aI 32 i29 a1 fun v31 => gR 4 i0 31 fun v32 => isK 32 v32 fun i33 => aI 32 i33 a2 fun v35 => cnd (((v31 >>> (v35 &&& 31)) &&& (1 : Int32)) = 0) (rt (1 : Int32)) (j26 ()))) (fun u4 => bn0 (f_X5_mayBoth i0 u2 u4) fun v5 => cnd (v5 = 0) (rt (0 : Int32)) (gR 4 i0 74 fun v7 => isK 32 v7 fun i8 => aI 32 i8 a1 fun v10 => gR 4 i0 31 fun v11 => isK 32 v11 fun i12 => aI 32 i12 a2 fun v14 => bI 32 i8 a1 (v10 ||| ((1 : Int32) <<< (v14 &&& 31))) <| gR 4 i0 75 fun v15 => isK 32 v15 fun i16 => aI 32 i16 a1 fun v18 => bn0 (f_X5_levelNow i0 a2) fun v19 => bI 32 i16 a1 (v18 + v19) <| gR 4 i0 75 fun v20 => isK 32 v20 fun i21 => aI 32 i21 a1 fun v23 => rt v23))))
theorem im_X5_vouch {g : GP} {l : Launch} (hl : l.stackTraces = false) (i0 : Nat) (a1 : Int32) (a2 : Int32) : Im g l 2 yX5_vouch cX5_vouch 5 (some .int) eI [.ref (idc 4 i0), .int a1, .int a2] (f_X5_vouch i0 a1 a2) := by
  refine tx_start hl 2 _ _ _ _ (by decide) (Nat.le_of_ble_eq_true rfl) fun Γ Z hΓ hZ => ?_
  subst hΓ
  unfold f_X5_vouch
  show TX g Γ _ Z _ 0 [(0, .ref (idc 4 i0)), (1, .int a1), (2, .int a2)] [] _
  refine x_aload_n 0 0 dX5_vouch_0 rfl ?_
  refine x_iload_n 1 1 dX5_vouch_1 rfl ?_
  refine x_cV 2 1 [.int a1] [] ⟨by decide, rfl⟩ cv_X5_383 (im_X5_isRecovery hl i0 a1) (by decide) rfl (Nat.le_of_ble_eq_true rfl) dX5_vouch_2 fun v1 => x_stI ?_
  refine x_bndj 21 (fun u2 => [(0, .ref (idc 4 i0)), (1, .int a1), (2, .int a2)]) (fun u2 => [.int u2]) (fun u2 => ?_) (fun hj59 => ?_)
  · show TX g Γ _ Z _ 21 [(0, .ref (idc 4 i0)), (1, .int a1), (2, .int a2)] [.int u2] _
    refine x_istore_n 21 [(3, .int u2), (0, .ref (idc 4 i0)), (1, .int a1), (2, .int a2)] dX5_vouch_21 (by decide) rfl ?_
    refine x_iload_n 22 0 dX5_vouch_22 rfl ?_
    refine x_bndj 72 (fun u3 => [(0, .ref (idc 4 i0)), (1, .int a1), (2, .int a2), (3, .int u2)]) (fun u3 => [.int u3]) (fun u3 => ?_) (fun hj37 => ?_)
    · show TX g Γ _ Z _ 72 [(0, .ref (idc 4 i0)), (1, .int a1), (2, .int a2), (3, .int u2)] [.int u3] _
      refine x_istore 72 [(4, .int u3), (0, .ref (idc 4 i0)), (1, .int a1), (2, .int a2), (3, .int u2)] dX5_vouch_72 (by decide) rfl ?_
      refine x_aload_n 74 1 dX5_vouch_74 rfl ?_
      refine x_iload_n 75 4 dX5_vouch_75 rfl ?_
      refine x_iload 76 0 dX5_vouch_76 rfl ?_
      refine x_bndj 104 (fun u4 => [(0, .ref (idc 4 i0)), (1, .int a1), (2, .int a2)]) (fun u4 => [.int u4, .int u2, .ref (idc 4 i0)]) (fun u4 => ?_) (fun hj24 => ?_)
      · show TX g Γ _ Z _ 104 [(0, .ref (idc 4 i0)), (1, .int a1), (2, .int a2)] [.int u4, .int u2, .ref (idc 4 i0)] _
        refine x_cV 104 0 [.int u2, .int u4] [] ⟨by decide, rfl⟩ cv_X5_274 (im_X5_mayBoth hl i0 u2 u4) (by decide) rfl (Nat.le_of_ble_eq_true rfl) dX5_vouch_104 fun v5 => x_stI ?_
        refine x_if_ne 107 112 dX5_vouch_107 rfl (fun c6 => ?_) (fun c6 => ?_)
        · refine x_iconst 110 0 (0 : Int32) dX5_vouch_110 rfl ?_
          exact x_iret 111 hZ rfl dX5_vouch_111
        · refine x_aload_n 112 0 dX5_vouch_112 rfl ?_
          refine x_getR 113 fa_X5_204_4 dX5_vouch_113 fun v7 => ?_
          refine x_iload_n 116 1 dX5_vouch_116 rfl ?_
          refine x_dup2 117 dX5_vouch_117 rfl rfl ?_
          refine x_isK fun i8 h9 => ?_
          subst h9
          refine x_iald 118 dX5_vouch_118 fun v10 => ?_
          refine x_iconst 119 1 (1 : Int32) dX5_vouch_119 rfl ?_
          refine x_aload_n 120 0 dX5_vouch_120 rfl ?_
          refine x_getR 121 fa_X5_92_4 dX5_vouch_121 fun v11 => ?_
          refine x_iload_n 124 2 dX5_vouch_124 rfl ?_
          refine x_isK fun i12 h13 => ?_
          subst h13
          refine x_iald 125 dX5_vouch_125 fun v14 => ?_
          refine x_ishl 126 dX5_vouch_126 ?_
          refine x_ior 127 dX5_vouch_127 ?_
          refine x_iast 128 dX5_vouch_128 ?_
          refine x_aload_n 129 0 dX5_vouch_129 rfl ?_
          refine x_getR 130 fa_X5_207_4 dX5_vouch_130 fun v15 => ?_
          refine x_iload_n 133 1 dX5_vouch_133 rfl ?_
          refine x_dup2 134 dX5_vouch_134 rfl rfl ?_
          refine x_isK fun i16 h17 => ?_
          subst h17
          refine x_iald 135 dX5_vouch_135 fun v18 => ?_
          refine x_aload_n 136 0 dX5_vouch_136 rfl ?_
          refine x_iload_n 137 2 dX5_vouch_137 rfl ?_
          refine x_cV 138 1 [.int a2] [.int v18, .int a1, .ref (idc 32 i16)] ⟨by decide, rfl⟩ cv_X5_355 (im_X5_levelNow hl i0 a2) (by decide) rfl (Nat.le_of_ble_eq_true rfl) dX5_vouch_138 fun v19 => x_stI ?_
          refine x_iadd 141 dX5_vouch_141 ?_
          refine x_iast 142 dX5_vouch_142 ?_
          refine x_aload_n 143 0 dX5_vouch_143 rfl ?_
          refine x_getR 144 fa_X5_207_4 dX5_vouch_144 fun v20 => ?_
          refine x_iload_n 147 1 dX5_vouch_147 rfl ?_
          refine x_isK fun i21 h22 => ?_
          subst h22
          refine x_iald 148 dX5_vouch_148 fun v23 => ?_
          exact x_iret 149 hZ rfl dX5_vouch_149
      · refine x_jo 103 (Lf := fun _ => [(0, .ref (idc 4 i0)), (1, .int a1), (2, .int a2)]) (sf := fun _ => [.int u2, .ref (idc 4 i0)]) (fun _ => ?_) (fun j26 hj25 => ?_)
        · show TX g Γ _ Z _ 103 [(0, .ref (idc 4 i0)), (1, .int a1), (2, .int a2)] [.int u2, .ref (idc 4 i0)] _
          refine x_iconst 103 0 (0 : Int32) dX5_vouch_103 rfl ?_
          exact hj24 (0 : Int32)
        · refine x_if_eq 78 103 dX5_vouch_78 rfl (fun c27 => ?_) (fun c27 => ?_)
          · refine x_sub [1, 2, 3] _ rfl ?_
            exact hj25 ()
          · refine x_aload_n 81 1 dX5_vouch_81 rfl ?_
            refine x_getR 82 fa_X5_204_4 dX5_vouch_82 fun v28 => ?_
            refine x_iload_n 85 2 dX5_vouch_85 rfl ?_
            refine x_isK fun i29 h30 => ?_
            subst h30
            refine x_iald 86 dX5_vouch_86 fun v31 => ?_
            refine x_aload_n 87 1 dX5_vouch_87 rfl ?_
            refine x_getR 88 fa_X5_92_4 dX5_vouch_88 fun v32 => ?_
            refine x_iload_n 91 3 dX5_vouch_91 rfl ?_
            refine x_isK fun i33 h34 => ?_
            subst h34
            refine x_iald 92 dX5_vouch_92 fun v35 => ?_
            refine x_ishr 93 dX5_vouch_93 ?_
            refine x_iconst 94 1 (1 : Int32) dX5_vouch_94 rfl ?_
            refine x_iand 95 dX5_vouch_95 ?_
            refine x_if_ne 96 103 dX5_vouch_96 rfl (fun c36 => ?_) (fun c36 => ?_)
            · refine x_iconst 99 1 (1 : Int32) dX5_vouch_99 rfl ?_
              refine x_goto 100 104 dX5_vouch_100 rfl ?_
              refine x_sub [1, 2, 3] _ rfl ?_
              exact hj24 (1 : Int32)
            · refine x_sub [1, 2, 3] _ rfl ?_
              exact hj25 ()
    · refine x_jo 71 (Lf := fun _ => [(0, .ref (idc 4 i0)), (1, .int a1), (2, .int a2), (3, .int u2)]) (sf := fun _ => []) (fun _ => ?_) (fun j39 hj38 => ?_)
      · show TX g Γ _ Z _ 71 [(0, .ref (idc 4 i0)), (1, .int a1), (2, .int a2), (3, .int u2)] [] _
        refine x_iconst 71 0 (0 : Int32) dX5_vouch_71 rfl ?_
        exact hj37 (0 : Int32)
      · refine x_if_eq 23 71 dX5_vouch_23 rfl (fun c40 => ?_) (fun c40 => ?_)
        · refine x_sub [1, 2, 3, 0] _ rfl ?_
          exact hj38 ()
        · refine x_aload_n 26 1 dX5_vouch_26 rfl ?_
          refine x_getR 27 fa_X5_201_4 dX5_vouch_27 fun v41 => ?_
          refine x_iload_n 30 2 dX5_vouch_30 rfl ?_
          refine x_isK fun i42 h43 => ?_
          subst h43
          refine x_zald 31 dX5_vouch_31 fun v44 => ?_
          refine x_if_eq 32 71 dX5_vouch_32 rfl (fun c45 => ?_) (fun c45 => ?_)
          · refine x_sub [1, 2, 3, 0] _ rfl ?_
            exact hj38 ()
          · refine x_aload_n 35 1 dX5_vouch_35 rfl ?_
            refine x_iload_n 36 3 dX5_vouch_36 rfl ?_
            refine x_cV 37 0 [.int a2] [] ⟨by decide, rfl⟩ cv_X5_386 (im_X5_speaks hl i0 a2) (by decide) rfl (Nat.le_of_ble_eq_true rfl) dX5_vouch_37 fun v46 => x_stI ?_
            refine x_if_eq 40 71 dX5_vouch_40 rfl (fun c47 => ?_) (fun c47 => ?_)
            · refine x_sub [1, 2, 3, 0] _ rfl ?_
              exact hj38 ()
            · refine x_aload_n 43 1 dX5_vouch_43 rfl ?_
              refine x_iload_n 44 3 dX5_vouch_44 rfl ?_
              refine x_cV 45 1 [.int a2] [] ⟨by decide, rfl⟩ cv_X5_355 (im_X5_levelNow hl i0 a2) (by decide) rfl (Nat.le_of_ble_eq_true rfl) dX5_vouch_45 fun v48 => x_stI ?_
              refine x_iconst 48 3 (3 : Int32) dX5_vouch_48 rfl ?_
              refine x_icmp_lt 49 71 dX5_vouch_49 rfl (fun c49 => ?_) (fun c49 => ?_)
              · refine x_sub [1, 2, 3, 0] _ rfl ?_
                exact hj38 ()
              · refine x_aload_n 52 1 dX5_vouch_52 rfl ?_
                refine x_getR 53 fa_X5_92_4 dX5_vouch_53 fun v50 => ?_
                refine x_iload_n 56 3 dX5_vouch_56 rfl ?_
                refine x_isK fun i51 h52 => ?_
                subst h52
                refine x_iald 57 dX5_vouch_57 fun v53 => ?_
                refine x_aload_n 58 1 dX5_vouch_58 rfl ?_
                refine x_getR 59 fa_X5_195_4 dX5_vouch_59 fun v54 => ?_
                refine x_iload_n 62 2 dX5_vouch_62 rfl ?_
                refine x_isK fun i55 h56 => ?_
                subst h56
                refine x_iald 63 dX5_vouch_63 fun v57 => ?_
                refine x_icmp_eq 64 71 dX5_vouch_64 rfl (fun c58 => ?_) (fun c58 => ?_)
                · refine x_sub [1, 2, 3, 0] _ rfl ?_
                  exact hj38 ()
                · refine x_iconst 67 1 (1 : Int32) dX5_vouch_67 rfl ?_
                  refine x_goto 68 72 dX5_vouch_68 rfl ?_
                  refine x_sub [1, 2, 3, 0] _ rfl ?_
                  exact hj37 (1 : Int32)
  · refine x_jo 20 (Lf := fun _ => [(0, .ref (idc 4 i0)), (1, .int a1), (2, .int a2)]) (sf := fun _ => []) (fun _ => ?_) (fun j61 hj60 => ?_)
    · show TX g Γ _ Z _ 20 [(0, .ref (idc 4 i0)), (1, .int a1), (2, .int a2)] [] _
      refine x_iconst 20 0 (0 : Int32) dX5_vouch_20 rfl ?_
      exact hj59 (0 : Int32)
    · refine x_if_eq 5 20 dX5_vouch_5 rfl (fun c62 => ?_) (fun c62 => ?_)
      · exact hj60 ()
      · refine x_aload_n 8 0 dX5_vouch_8 rfl ?_
        refine x_iload_n 9 2 dX5_vouch_9 rfl ?_
        refine x_cV 10 1 [.int a2] [] ⟨by decide, rfl⟩ cv_X5_352 (im_X5_isSession hl i0 a2) (by decide) rfl (Nat.le_of_ble_eq_true rfl) dX5_vouch_10 fun v63 => x_stI ?_
        refine x_if_eq 13 20 dX5_vouch_13 rfl (fun c64 => ?_) (fun c64 => ?_)
        · exact hj60 ()
        · refine x_iconst 16 1 (1 : Int32) dX5_vouch_16 rfl ?_
          refine x_goto 17 21 dX5_vouch_17 rfl ?_
          exact hj59 (1 : Int32)
def f_X5_many (a1 : Int32) : PT Int32 := lp (σ := Int32 × Int32) (fun r3 => un2 fun u1 u2 => cnd ((6 : Int32) ≤ u2) (rt u1) (bnd (rt (u1 + ((a1 >>> (u2 &&& 31)) &&& (1 : Int32)))) fun v5 => r3 (v5, u2 + (1 : Int32)))) ((0 : Int32), (0 : Int32))
theorem im_X5_many {g : GP} {l : Launch} (hl : l.stackTraces = false) (a1 : Int32) : Im g l 0 yX5_many cX5_many 3 (some .int) eI [.int a1] (f_X5_many a1) := by
  refine tx_start hl 0 _ _ _ _ (by decide) (Nat.le_of_ble_eq_true rfl) fun Γ Z hΓ hZ => ?_
  subst hΓ
  unfold f_X5_many
  show TX g Γ _ Z _ 0 [(0, .int a1)] [] _
  refine x_iconst 0 0 (0 : Int32) dX5_many_0 rfl ?_
  refine x_istore_n 1 [(1, .int (0 : Int32)), (0, .int a1)] dX5_many_1 (by decide) rfl ?_
  refine x_iconst 2 0 (0 : Int32) dX5_many_2 rfl ?_
  refine x_istore_n 3 [(2, .int (0 : Int32)), (1, .int (0 : Int32)), (0, .int a1)] dX5_many_3 (by decide) rfl ?_
  refine x_sub [2, 1, 0] [(0, .int a1), (1, .int (0 : Int32)), (2, .int (0 : Int32))] rfl ?_
  refine x_lp (Lf := fun u => [(0, .int a1), (1, .int u.1), (2, .int u.2)]) (sf := fun _ => []) (fun r3 hr3 u => ?_) ((0 : Int32), (0 : Int32))
  obtain ⟨u1, u2⟩ := u
  show TX g Γ _ Z _ 4 [(0, .int a1), (1, .int u1), (2, .int u2)] [] _
  refine x_un2 ?_
  refine x_iload_n 4 2 dX5_many_4 rfl ?_
  refine x_bipush 5 6 (6 : Int32) dX5_many_5 rfl ?_
  refine x_icmp_ge 7 24 dX5_many_7 rfl (fun c4 => ?_) (fun c4 => ?_)
  · refine x_iload_n 24 1 dX5_many_24 rfl ?_
    exact x_iret 25 hZ rfl dX5_many_25
  · refine x_iload_n 10 1 dX5_many_10 rfl ?_
    refine x_iload_n 11 0 dX5_many_11 rfl ?_
    refine x_iload_n 12 2 dX5_many_12 rfl ?_
    refine x_ishr 13 dX5_many_13 ?_
    refine x_iconst 14 1 (1 : Int32) dX5_many_14 rfl ?_
    refine x_iand 15 dX5_many_15 ?_
    refine x_iadd 16 dX5_many_16 ?_
    refine x_genI fun v5 _ => ?_
    refine x_istore_n 17 [(1, .int v5), (0, .int a1), (2, .int u2)] dX5_many_17 (by decide) rfl ?_
    refine x_iinc 18 2 [(2, .int (u2 + (1 : Int32))), (1, .int v5), (0, .int a1)] dX5_many_18 rfl rfl (by decide) rfl ?_
    refine x_goto 21 4 dX5_many_21 rfl ?_
    refine x_sub [2, 1, 0] _ rfl ?_
    exact hr3 (v5, u2 + (1 : Int32))
def f_X5_stop (i0 : Nat) (a1 : Int32) (a2 : Int32) : PT Int32 := bn0 (f_X5_isRecovery i0 a1) fun v1 => bnd (ρ := _) (α := Int32) (jo (σ := Unit) (fun _ => rt (0 : Int32)) fun j36 => cnd (v1 = 0) (j36 ()) (bn0 (f_X5_isSession i0 a2) fun v38 => cnd (v38 = 0) (j36 ()) (rt (1 : Int32)))) (fun u2 => bnd (ρ := _) (α := Int32) (jo (σ := Unit) (fun _ => rt (0 : Int32)) fun j16 => cnd (u2 = 0) (j16 ()) (gR 4 i0 73 fun v18 => isK 33 v18 fun i19 => aI 33 i19 a1 fun v21 => cnd (v21 = 0) (j16 ()) (bn0 (f_X5_speaks i0 a2) fun v23 => cnd (v23 = 0) (j16 ()) (gR 4 i0 31 fun v25 => isK 32 v25 fun i26 => aI 32 i26 a2 fun v28 => gR 4 i0 71 fun v29 => isK 32 v29 fun i30 => aI 32 i30 a1 fun v32 => cnd (v28 = v32) (rt (1 : Int32)) (j16 ()))))) (fun u3 => bn0 (f_X5_mayBoth i0 u2 u3) fun v4 => cnd (v4 = 0) (rt (0 : Int32)) (gR 4 i0 73 fun v6 => isK 33 v6 fun i7 => bZ 33 i7 a1 (0 : Int32) <| gR 4 i0 74 fun v9 => isK 32 v9 fun i10 => aI 32 i10 a1 fun v12 => bn0 (f_X5_many v12) fun v13 => rt v13)))
theorem im_X5_stop {g : GP} {l : Launch} (hl : l.stackTraces = false) (i0 : Nat) (a1 : Int32) (a2 : Int32) : Im g l 2 yX5_stop cX5_stop 4 (some .int) eI [.ref (idc 4 i0), .int a1, .int a2] (f_X5_stop i0 a1 a2) := by
  refine tx_start hl 2 _ _ _ _ (by decide) (Nat.le_of_ble_eq_true rfl) fun Γ Z hΓ hZ => ?_
  subst hΓ
  unfold f_X5_stop
  show TX g Γ _ Z _ 0 [(0, .ref (idc 4 i0)), (1, .int a1), (2, .int a2)] [] _
  refine x_aload_n 0 0 dX5_stop_0 rfl ?_
  refine x_iload_n 1 1 dX5_stop_1 rfl ?_
  refine x_cV 2 1 [.int a1] [] ⟨by decide, rfl⟩ cv_X5_383 (im_X5_isRecovery hl i0 a1) (by decide) rfl (Nat.le_of_ble_eq_true rfl) dX5_stop_2 fun v1 => x_stI ?_
  refine x_bndj 21 (fun u2 => [(0, .ref (idc 4 i0)), (1, .int a1), (2, .int a2)]) (fun u2 => [.int u2]) (fun u2 => ?_) (fun hj34 => ?_)
  · show TX g Γ _ Z _ 21 [(0, .ref (idc 4 i0)), (1, .int a1), (2, .int a2)] [.int u2] _
    refine x_istore_n 21 [(3, .int u2), (0, .ref (idc 4 i0)), (1, .int a1), (2, .int a2)] dX5_stop_21 (by decide) rfl ?_
    refine x_aload_n 22 1 dX5_stop_22 rfl ?_
    refine x_iload_n 23 0 dX5_stop_23 rfl ?_
    refine x_iload_n 24 0 dX5_stop_24 rfl ?_
    refine x_bndj 65 (fun u3 => [(0, .ref (idc 4 i0)), (1, .int a1)]) (fun u3 => [.int u3, .int u2, .ref (idc 4 i0)]) (fun u3 => ?_) (fun hj14 => ?_)
    · show TX g Γ _ Z _ 65 [(0, .ref (idc 4 i0)), (1, .int a1)] [.int u3, .int u2, .ref (idc 4 i0)] _
      refine x_cV 65 0 [.int u2, .int u3] [] ⟨by decide, rfl⟩ cv_X5_274 (im_X5_mayBoth hl i0 u2 u3) (by decide) rfl (Nat.le_of_ble_eq_true rfl) dX5_stop_65 fun v4 => x_stI ?_
      refine x_if_ne 68 73 dX5_stop_68 rfl (fun c5 => ?_) (fun c5 => ?_)
      · refine x_iconst 71 0 (0 : Int32) dX5_stop_71 rfl ?_
        exact x_iret 72 hZ rfl dX5_stop_72
      · refine x_aload_n 73 0 dX5_stop_73 rfl ?_
        refine x_getR 74 fa_X5_201_4 dX5_stop_74 fun v6 => ?_
        refine x_iload_n 77 1 dX5_stop_77 rfl ?_
        refine x_iconst 78 0 (0 : Int32) dX5_stop_78 rfl ?_
        refine x_isK fun i7 h8 => ?_
        subst h8
        refine x_zast 79 dX5_stop_79 ?_
        refine x_aload_n 80 0 dX5_stop_80 rfl ?_
        refine x_getR 81 fa_X5_204_4 dX5_stop_81 fun v9 => ?_
        refine x_iload_n 84 1 dX5_stop_84 rfl ?_
        refine x_isK fun i10 h11 => ?_
        subst h11
        refine x_iald 85 dX5_stop_85 fun v12 => ?_
        refine x_cS 86 0 [.int v12] [] cs_X5_389 (im_X5_many hl v12) (by decide) rfl (Nat.le_of_ble_eq_true rfl) dX5_stop_86 fun v13 => x_stI ?_
        exact x_iret 89 hZ rfl dX5_stop_89
    · refine x_jo 64 (Lf := fun _ => [(0, .ref (idc 4 i0)), (1, .int a1)]) (sf := fun _ => [.int u2, .ref (idc 4 i0)]) (fun _ => ?_) (fun j16 hj15 => ?_)
      · show TX g Γ _ Z _ 64 [(0, .ref (idc 4 i0)), (1, .int a1)] [.int u2, .ref (idc 4 i0)] _
        refine x_iconst 64 0 (0 : Int32) dX5_stop_64 rfl ?_
        exact hj14 (0 : Int32)
      · refine x_if_eq 25 64 dX5_stop_25 rfl (fun c17 => ?_) (fun c17 => ?_)
        · refine x_sub [1, 2] _ rfl ?_
          exact hj15 ()
        · refine x_aload_n 28 1 dX5_stop_28 rfl ?_
          refine x_getR 29 fa_X5_201_4 dX5_stop_29 fun v18 => ?_
          refine x_iload_n 32 2 dX5_stop_32 rfl ?_
          refine x_isK fun i19 h20 => ?_
          subst h20
          refine x_zald 33 dX5_stop_33 fun v21 => ?_
          refine x_if_eq 34 64 dX5_stop_34 rfl (fun c22 => ?_) (fun c22 => ?_)
          · refine x_sub [1, 2] _ rfl ?_
            exact hj15 ()
          · refine x_aload_n 37 1 dX5_stop_37 rfl ?_
            refine x_iload_n 38 3 dX5_stop_38 rfl ?_
            refine x_cV 39 0 [.int a2] [.int u2, .ref (idc 4 i0)] ⟨by decide, rfl⟩ cv_X5_386 (im_X5_speaks hl i0 a2) (by decide) rfl (Nat.le_of_ble_eq_true rfl) dX5_stop_39 fun v23 => x_stI ?_
            refine x_if_eq 42 64 dX5_stop_42 rfl (fun c24 => ?_) (fun c24 => ?_)
            · refine x_sub [1, 2] _ rfl ?_
              exact hj15 ()
            · refine x_aload_n 45 1 dX5_stop_45 rfl ?_
              refine x_getR 46 fa_X5_92_4 dX5_stop_46 fun v25 => ?_
              refine x_iload_n 49 3 dX5_stop_49 rfl ?_
              refine x_isK fun i26 h27 => ?_
              subst h27
              refine x_iald 50 dX5_stop_50 fun v28 => ?_
              refine x_aload_n 51 1 dX5_stop_51 rfl ?_
              refine x_getR 52 fa_X5_195_4 dX5_stop_52 fun v29 => ?_
              refine x_iload_n 55 2 dX5_stop_55 rfl ?_
              refine x_isK fun i30 h31 => ?_
              subst h31
              refine x_iald 56 dX5_stop_56 fun v32 => ?_
              refine x_icmp_ne 57 64 dX5_stop_57 rfl (fun c33 => ?_) (fun c33 => ?_)
              · refine x_iconst 60 1 (1 : Int32) dX5_stop_60 rfl ?_
                refine x_goto 61 65 dX5_stop_61 rfl ?_
                refine x_sub [1, 2] _ rfl ?_
                exact hj14 (1 : Int32)
              · refine x_sub [1, 2] _ rfl ?_
                exact hj15 ()
  · refine x_jo 20 (Lf := fun _ => [(0, .ref (idc 4 i0)), (1, .int a1), (2, .int a2)]) (sf := fun _ => []) (fun _ => ?_) (fun j36 hj35 => ?_)
    · show TX g Γ _ Z _ 20 [(0, .ref (idc 4 i0)), (1, .int a1), (2, .int a2)] [] _
      refine x_iconst 20 0 (0 : Int32) dX5_stop_20 rfl ?_
      exact hj34 (0 : Int32)
    · refine x_if_eq 5 20 dX5_stop_5 rfl (fun c37 => ?_) (fun c37 => ?_)
      · exact hj35 ()
      · refine x_aload_n 8 0 dX5_stop_8 rfl ?_
        refine x_iload_n 9 2 dX5_stop_9 rfl ?_
        refine x_cV 10 1 [.int a2] [] ⟨by decide, rfl⟩ cv_X5_352 (im_X5_isSession hl i0 a2) (by decide) rfl (Nat.le_of_ble_eq_true rfl) dX5_stop_10 fun v38 => x_stI ?_
        refine x_if_eq 13 20 dX5_stop_13 rfl (fun c39 => ?_) (fun c39 => ?_)
        · exact hj35 ()
        · refine x_iconst 16 1 (1 : Int32) dX5_stop_16 rfl ?_
          refine x_goto 17 21 dX5_stop_17 rfl ?_
          exact hj34 (1 : Int32)
def f_X5_weight (a1 : Int32) : PT Int32 := rt (a1 + (1 : Int32))
theorem im_X5_weight {g : GP} {l : Launch} (hl : l.stackTraces = false) (a1 : Int32) : Im g l 0 yX5_weight cX5_weight 1 (some .int) eI [.int a1] (f_X5_weight a1) := by
  refine tx_start hl 0 _ _ _ _ (by decide) (Nat.le_of_ble_eq_true rfl) fun Γ Z hΓ hZ => ?_
  subst hΓ
  unfold f_X5_weight
  show TX g Γ _ Z _ 0 [(0, .int a1)] [] _
  refine x_iload_n 0 0 dX5_weight_0 rfl ?_
  refine x_iconst 1 1 (1 : Int32) dX5_weight_1 rfl ?_
  refine x_iadd 2 dX5_weight_2 ?_
  exact x_iret 3 hZ rfl dX5_weight_3
def f_X5_endAllOf (i0 : Nat) (a1 : Int32) : PT Int32 := lp (σ := Int32 × Int32) (fun r3 => un2 fun u1 u2 => gI 4 i0 30 fun v4 => cnd (v4 ≤ u2) (rt u1) (gR 4 i0 35 fun v6 => isK 33 v6 fun i7 => aI 33 i7 u2 fun v9 => jo (σ := Int32) (fun u10 => r3 (u1 + (0 : Int32), u10 + (1 : Int32))) fun j12 => cnd (v9 = 0) (j12 u2) (gR 4 i0 31 fun v14 => isK 32 v14 fun i15 => aI 32 i15 u2 fun v17 => cnd (v17 = a1) (bn0 (f_X5_endSession i0 u2) fun v19 => r3 (u1 + v19, u2 + (1 : Int32))) (j12 u2)))) ((0 : Int32), (0 : Int32))
theorem im_X5_endAllOf {g : GP} {l : Launch} (hl : l.stackTraces = false) (i0 : Nat) (a1 : Int32) : Im g l 4 yX5_endAllOf cX5_endAllOf 4 (some .int) eI [.ref (idc 4 i0), .int a1] (f_X5_endAllOf i0 a1) := by
  refine tx_start hl 4 _ _ _ _ (by decide) (Nat.le_of_ble_eq_true rfl) fun Γ Z hΓ hZ => ?_
  subst hΓ
  unfold f_X5_endAllOf
  show TX g Γ _ Z _ 0 [(0, .ref (idc 4 i0)), (1, .int a1)] [] _
  refine x_iconst 0 0 (0 : Int32) dX5_endAllOf_0 rfl ?_
  refine x_istore_n 1 [(2, .int (0 : Int32)), (0, .ref (idc 4 i0)), (1, .int a1)] dX5_endAllOf_1 (by decide) rfl ?_
  refine x_iconst 2 0 (0 : Int32) dX5_endAllOf_2 rfl ?_
  refine x_istore_n 3 [(3, .int (0 : Int32)), (2, .int (0 : Int32)), (0, .ref (idc 4 i0)), (1, .int a1)] dX5_endAllOf_3 (by decide) rfl ?_
  refine x_sub [2, 3, 1, 0] [(0, .ref (idc 4 i0)), (1, .int a1), (2, .int (0 : Int32)), (3, .int (0 : Int32))] rfl ?_
  refine x_lp (Lf := fun u => [(0, .ref (idc 4 i0)), (1, .int a1), (2, .int u.1), (3, .int u.2)]) (sf := fun _ => []) (fun r3 hr3 u => ?_) ((0 : Int32), (0 : Int32))
  obtain ⟨u1, u2⟩ := u
  show TX g Γ _ Z _ 4 [(0, .ref (idc 4 i0)), (1, .int a1), (2, .int u1), (3, .int u2)] [] _
  refine x_un2 ?_
  refine x_iload_n 4 3 dX5_endAllOf_4 rfl ?_
  refine x_aload_n 5 0 dX5_endAllOf_5 rfl ?_
  refine x_getI 6 fa_X5_235_4 dX5_endAllOf_6 fun v4 => ?_
  refine x_icmp_ge 9 49 dX5_endAllOf_9 rfl (fun c5 => ?_) (fun c5 => ?_)
  · refine x_iload_n 49 2 dX5_endAllOf_49 rfl ?_
    exact x_iret 50 hZ rfl dX5_endAllOf_50
  · refine x_iload_n 12 2 dX5_endAllOf_12 rfl ?_
    refine x_aload_n 13 0 dX5_endAllOf_13 rfl ?_
    refine x_getR 14 fa_X5_104_4 dX5_endAllOf_14 fun v6 => ?_
    refine x_iload_n 17 3 dX5_endAllOf_17 rfl ?_
    refine x_isK fun i7 h8 => ?_
    subst h8
    refine x_zald 18 dX5_endAllOf_18 fun v9 => ?_
    refine x_jo 40 (Lf := fun u10 => [(0, .ref (idc 4 i0)), (1, .int a1), (3, .int u10)]) (sf := fun u10 => [.int u1]) (fun u10 => ?_) (fun j12 hj11 => ?_)
    · show TX g Γ _ Z _ 40 [(0, .ref (idc 4 i0)), (1, .int a1), (3, .int u10)] [.int u1] _
      refine x_iconst 40 0 (0 : Int32) dX5_endAllOf_40 rfl ?_
      refine x_iadd 41 dX5_endAllOf_41 ?_
      refine x_istore_n 42 [(2, .int (u1 + (0 : Int32))), (0, .ref (idc 4 i0)), (1, .int a1), (3, .int u10)] dX5_endAllOf_42 (by decide) rfl ?_
      refine x_iinc 43 3 [(3, .int (u10 + (1 : Int32))), (2, .int (u1 + (0 : Int32))), (0, .ref (idc 4 i0)), (1, .int a1)] dX5_endAllOf_43 rfl rfl (by decide) rfl ?_
      refine x_goto 46 4 dX5_endAllOf_46 rfl ?_
      refine x_sub [2, 3, 1, 0] _ rfl ?_
      exact hr3 (u1 + (0 : Int32), u10 + (1 : Int32))
    · refine x_if_eq 19 40 dX5_endAllOf_19 rfl (fun c13 => ?_) (fun c13 => ?_)
      · refine x_sub [0, 1, 3] _ rfl ?_
        exact hj11 u2
      · refine x_aload_n 22 0 dX5_endAllOf_22 rfl ?_
        refine x_getR 23 fa_X5_92_4 dX5_endAllOf_23 fun v14 => ?_
        refine x_iload_n 26 3 dX5_endAllOf_26 rfl ?_
        refine x_isK fun i15 h16 => ?_
        subst h16
        refine x_iald 27 dX5_endAllOf_27 fun v17 => ?_
        refine x_iload_n 28 1 dX5_endAllOf_28 rfl ?_
        refine x_icmp_ne 29 40 dX5_endAllOf_29 rfl (fun c18 => ?_) (fun c18 => ?_)
        · refine x_aload_n 32 0 dX5_endAllOf_32 rfl ?_
          refine x_iload_n 33 3 dX5_endAllOf_33 rfl ?_
          refine x_cV 34 3 [.int u2] [.int u1] ⟨by decide, rfl⟩ cv_X5_270 (im_X5_endSession hl i0 u2) (by decide) rfl (Nat.le_of_ble_eq_true rfl) dX5_endAllOf_34 fun v19 => x_stI ?_
          refine x_goto 37 41 dX5_endAllOf_37 rfl ?_
          refine x_iadd 41 dX5_endAllOf_41 ?_
          refine x_istore_n 42 [(2, .int (u1 + v19)), (0, .ref (idc 4 i0)), (1, .int a1), (3, .int u2)] dX5_endAllOf_42 (by decide) rfl ?_
          refine x_iinc 43 3 [(3, .int (u2 + (1 : Int32))), (2, .int (u1 + v19)), (0, .ref (idc 4 i0)), (1, .int a1)] dX5_endAllOf_43 rfl rfl (by decide) rfl ?_
          refine x_goto 46 4 dX5_endAllOf_46 rfl ?_
          refine x_sub [2, 3, 1, 0] _ rfl ?_
          exact hr3 (u1 + v19, u2 + (1 : Int32))
        · refine x_sub [0, 1, 3] _ rfl ?_
          exact hj11 u2
def f_X5_finish (i0 : Nat) (a1 : Int32) : PT Int32 := bn0 (f_X5_isRecovery i0 a1) fun v1 => bnd (ρ := _) (α := Int32) (jo (σ := Unit) (fun _ => rt (0 : Int32)) fun j51 => cnd (v1 = 0) (j51 ()) (gR 4 i0 73 fun v53 => isK 33 v53 fun i54 => aI 33 i54 a1 fun v56 => cnd (v56 = 0) (j51 ()) (gI 4 i0 0 fun v58 => gR 4 i0 72 fun v59 => isK 32 v59 fun i60 => aI 32 i60 a1 fun v62 => cnd ((v58 - v62) < (60 : Int32)) (j51 ()) (gR 4 i0 74 fun v64 => isK 32 v64 fun i65 => aI 32 i65 a1 fun v67 => bn0 (f_X5_many v67) fun v68 => cnd (v68 < (2 : Int32)) (j51 ()) (rt (1 : Int32)))))) (fun u2 => bnd (lp (σ := Int32 × Int32) (ρ := Int32) (fun r5 => un2 fun u3 u4 => cnd ((3 : Int32) ≤ u4) (rt u3) (cnd (v1 = 0) (rt u3) (gR 4 i0 1 fun v10 => gR 4 i0 71 fun v11 => isK 32 v11 fun i12 => aI 32 i12 a1 fun v14 => isK 32 v10 fun i15 => aI 32 i15 (((3 : Int32) * v14) + u4) fun v17 => cnd (v17 = 0) (r5 (u3 + (0 : Int32), u4 + (1 : Int32))) (bn0 (f_X5_weight u4) fun v19 => r5 (u3 + v19, u4 + (1 : Int32)))))) ((0 : Int32), (0 : Int32))) (fun u6 => bnd (ρ := _) (α := Int32) (jo (σ := Unit) (fun _ => rt (0 : Int32)) fun j42 => cnd (u2 = 0) (j42 ()) (gR 4 i0 75 fun v44 => isK 32 v44 fun i45 => aI 32 i45 a1 fun v47 => cnd (v47 < u6) (j42 ()) (rt (1 : Int32)))) (fun u20 => bn0 (f_X5_mayBoth i0 v1 u20) fun v21 => cnd (v21 = 0) (rt (0 : Int32)) (gR 4 i0 71 fun v23 => isK 32 v23 fun i24 => aI 32 i24 a1 fun v26 => gR 4 i0 73 fun v27 => isK 33 v27 fun i28 => bZ 33 i28 a1 (0 : Int32) <| bn0 (f_X5_endAllOf i0 v26) fun v30 => bnd (lp (σ := Int32) (ρ := Unit) (fun r32 => fun u31 => cnd ((3 : Int32) ≤ u31) (rt ()) (gR 4 i0 1 fun v35 => isK 32 v35 fun i36 => bI 32 i36 (((3 : Int32) * v26) + u31) (0 : Int32) <| r32 (u31 + (1 : Int32)))) (0 : Int32)) (fun _ => bn0 (f_X5_ready i0 v26 (0 : Int32)) fun _ => bn0 (f_X5_write i0 (6 : Int32) a1) fun _ => rt v30)))))
theorem im_X5_finish {g : GP} {l : Launch} (hl : l.stackTraces = false) (i0 : Nat) (a1 : Int32) : Im g l 5 yX5_finish cX5_finish 8 (some .int) eI [.ref (idc 4 i0), .int a1] (f_X5_finish i0 a1) := by
  refine tx_start hl 5 _ _ _ _ (by decide) (Nat.le_of_ble_eq_true rfl) fun Γ Z hΓ hZ => ?_
  subst hΓ
  unfold f_X5_finish
  show TX g Γ _ Z _ 0 [(0, .ref (idc 4 i0)), (1, .int a1)] [] _
  refine x_aload_n 0 0 dX5_finish_0 rfl ?_
  refine x_iload_n 1 1 dX5_finish_1 rfl ?_
  refine x_cV 2 1 [.int a1] [] ⟨by decide, rfl⟩ cv_X5_383 (im_X5_isRecovery hl i0 a1) (by decide) rfl (Nat.le_of_ble_eq_true rfl) dX5_finish_2 fun v1 => x_stI ?_
  refine x_istore_n 5 [(2, .int v1), (0, .ref (idc 4 i0)), (1, .int a1)] dX5_finish_5 (by decide) rfl ?_
  refine x_iload_n 6 0 dX5_finish_6 rfl ?_
  refine x_bndj 53 (fun u2 => [(0, .ref (idc 4 i0)), (1, .int a1), (2, .int v1)]) (fun u2 => [.int u2]) (fun u2 => ?_) (fun hj49 => ?_)
  · show TX g Γ _ Z _ 53 [(0, .ref (idc 4 i0)), (1, .int a1), (2, .int v1)] [.int u2] _
    refine x_istore_n 53 [(3, .int u2), (0, .ref (idc 4 i0)), (1, .int a1), (2, .int v1)] dX5_finish_53 (by decide) rfl ?_
    refine x_iconst 54 0 (0 : Int32) dX5_finish_54 rfl ?_
    refine x_istore 55 [(4, .int (0 : Int32)), (3, .int u2), (0, .ref (idc 4 i0)), (1, .int a1), (2, .int v1)] dX5_finish_55 (by decide) rfl ?_
    refine x_iconst 57 0 (0 : Int32) dX5_finish_57 rfl ?_
    refine x_istore 58 [(5, .int (0 : Int32)), (4, .int (0 : Int32)), (3, .int u2), (0, .ref (idc 4 i0)), (1, .int a1), (2, .int v1)] dX5_finish_58 (by decide) rfl ?_
    refine x_sub [3, 4, 5, 2, 1, 0] [(0, .ref (idc 4 i0)), (1, .int a1), (2, .int v1), (3, .int u2), (4, .int (0 : Int32)), (5, .int (0 : Int32))] rfl ?_
    refine x_bndj 109 (fun u6 => [(0, .ref (idc 4 i0)), (1, .int a1), (2, .int v1), (3, .int u2), (4, .int u6)]) (fun u6 => []) (fun u6 => ?_) (fun hj7 => ?_)
    · show TX g Γ _ Z _ 109 [(0, .ref (idc 4 i0)), (1, .int a1), (2, .int v1), (3, .int u2), (4, .int u6)] [] _
      refine x_aload_n 109 0 dX5_finish_109 rfl ?_
      refine x_iload_n 110 2 dX5_finish_110 rfl ?_
      refine x_iload_n 111 3 dX5_finish_111 rfl ?_
      refine x_bndj 131 (fun u20 => [(0, .ref (idc 4 i0)), (1, .int a1)]) (fun u20 => [.int u20, .int v1, .ref (idc 4 i0)]) (fun u20 => ?_) (fun hj40 => ?_)
      · show TX g Γ _ Z _ 131 [(0, .ref (idc 4 i0)), (1, .int a1)] [.int u20, .int v1, .ref (idc 4 i0)] _
        refine x_cV 131 0 [.int v1, .int u20] [] ⟨by decide, rfl⟩ cv_X5_274 (im_X5_mayBoth hl i0 v1 u20) (by decide) rfl (Nat.le_of_ble_eq_true rfl) dX5_finish_131 fun v21 => x_stI ?_
        refine x_if_ne 134 139 dX5_finish_134 rfl (fun c22 => ?_) (fun c22 => ?_)
        · refine x_iconst 137 0 (0 : Int32) dX5_finish_137 rfl ?_
          exact x_iret 138 hZ rfl dX5_finish_138
        · refine x_aload_n 139 0 dX5_finish_139 rfl ?_
          refine x_getR 140 fa_X5_195_4 dX5_finish_140 fun v23 => ?_
          refine x_iload_n 143 1 dX5_finish_143 rfl ?_
          refine x_isK fun i24 h25 => ?_
          subst h25
          refine x_iald 144 dX5_finish_144 fun v26 => ?_
          refine x_istore 145 [(5, .int v26), (0, .ref (idc 4 i0)), (1, .int a1)] dX5_finish_145 (by decide) rfl ?_
          refine x_aload_n 147 1 dX5_finish_147 rfl ?_
          refine x_getR 148 fa_X5_201_4 dX5_finish_148 fun v27 => ?_
          refine x_iload_n 151 2 dX5_finish_151 rfl ?_
          refine x_iconst 152 0 (0 : Int32) dX5_finish_152 rfl ?_
          refine x_isK fun i28 h29 => ?_
          subst h29
          refine x_zast 153 dX5_finish_153 ?_
          refine x_aload_n 154 1 dX5_finish_154 rfl ?_
          refine x_iload 155 0 dX5_finish_155 rfl ?_
          refine x_cV 157 4 [.int v26] [] ⟨by decide, rfl⟩ cv_X5_395 (im_X5_endAllOf hl i0 v26) (by decide) rfl (Nat.le_of_ble_eq_true rfl) dX5_finish_157 fun v30 => x_stI ?_
          refine x_istore 160 [(6, .int v30), (5, .int v26), (0, .ref (idc 4 i0)), (1, .int a1)] dX5_finish_160 (by decide) rfl ?_
          refine x_iconst 162 0 (0 : Int32) dX5_finish_162 rfl ?_
          refine x_istore 163 [(7, .int (0 : Int32)), (6, .int v30), (5, .int v26), (0, .ref (idc 4 i0)), (1, .int a1)] dX5_finish_163 (by decide) rfl ?_
          refine x_sub [3, 4, 2, 1, 0] [(0, .ref (idc 4 i0)), (1, .int a1), (5, .int v26), (6, .int v30), (7, .int (0 : Int32))] rfl ?_
          refine x_bndj 190 (fun _ => [(0, .ref (idc 4 i0)), (1, .int a1), (5, .int v26), (6, .int v30)]) (fun _ => []) (fun _ => ?_) (fun hj33 => ?_)
          · show TX g Γ _ Z _ 190 [(0, .ref (idc 4 i0)), (1, .int a1), (5, .int v26), (6, .int v30)] [] _
            refine x_aload_n 190 0 dX5_finish_190 rfl ?_
            refine x_iload 191 2 dX5_finish_191 rfl ?_
            refine x_iconst 193 0 (0 : Int32) dX5_finish_193 rfl ?_
            refine x_cV 194 0 [.int v26, .int (0 : Int32)] [] ⟨by decide, rfl⟩ cv_X5_291 (im_X5_ready hl i0 v26 (0 : Int32)) (by decide) rfl (Nat.le_of_ble_eq_true rfl) dX5_finish_194 fun v38 => x_stV ?_
            refine x_aload_n 197 0 dX5_finish_197 rfl ?_
            refine x_bipush 198 6 (6 : Int32) dX5_finish_198 rfl ?_
            refine x_iload_n 200 1 dX5_finish_200 rfl ?_
            refine x_cV 201 0 [.int (6 : Int32), .int a1] [] ⟨by decide, rfl⟩ cv_X5_255 (im_X5_write hl i0 (6 : Int32) a1) (by decide) rfl (Nat.le_of_ble_eq_true rfl) dX5_finish_201 fun v39 => x_stV ?_
            refine x_iload 204 3 dX5_finish_204 rfl ?_
            exact x_iret 206 hZ rfl dX5_finish_206
          · refine x_lp (Lf := fun u31 => [(0, .ref (idc 4 i0)), (1, .int a1), (5, .int v26), (6, .int v30), (7, .int u31)]) (sf := fun _ => []) (fun r32 hr32 u31 => ?_) (0 : Int32)
            show TX g Γ _ Z _ 165 [(0, .ref (idc 4 i0)), (1, .int a1), (5, .int v26), (6, .int v30), (7, .int u31)] [] _
            refine x_iload 165 4 dX5_finish_165 rfl ?_
            refine x_iconst 167 3 (3 : Int32) dX5_finish_167 rfl ?_
            refine x_icmp_ge 168 190 dX5_finish_168 rfl (fun c34 => ?_) (fun c34 => ?_)
            · refine x_sub [0, 1, 2, 3] _ rfl ?_
              exact hj33 ()
            · refine x_aload_n 171 0 dX5_finish_171 rfl ?_
              refine x_getR 172 fa_X5_7_4 dX5_finish_172 fun v35 => ?_
              refine x_iconst 175 3 (3 : Int32) dX5_finish_175 rfl ?_
              refine x_iload 176 2 dX5_finish_176 rfl ?_
              refine x_imul 178 dX5_finish_178 ?_
              refine x_iload 179 4 dX5_finish_179 rfl ?_
              refine x_iadd 181 dX5_finish_181 ?_
              refine x_iconst 182 0 (0 : Int32) dX5_finish_182 rfl ?_
              refine x_isK fun i36 h37 => ?_
              subst h37
              refine x_iast 183 dX5_finish_183 ?_
              refine x_iinc 184 4 [(7, .int (u31 + (1 : Int32))), (0, .ref (idc 4 i0)), (1, .int a1), (5, .int v26), (6, .int v30)] dX5_finish_184 rfl rfl (by decide) rfl ?_
              refine x_goto 187 165 dX5_finish_187 rfl ?_
              refine x_sub [1, 2, 3, 4, 0] _ rfl ?_
              exact hr32 (u31 + (1 : Int32))
      · refine x_jo 130 (Lf := fun _ => [(0, .ref (idc 4 i0)), (1, .int a1)]) (sf := fun _ => [.int v1, .ref (idc 4 i0)]) (fun _ => ?_) (fun j42 hj41 => ?_)
        · show TX g Γ _ Z _ 130 [(0, .ref (idc 4 i0)), (1, .int a1)] [.int v1, .ref (idc 4 i0)] _
          refine x_iconst 130 0 (0 : Int32) dX5_finish_130 rfl ?_
          exact hj40 (0 : Int32)
        · refine x_if_eq 112 130 dX5_finish_112 rfl (fun c43 => ?_) (fun c43 => ?_)
          · refine x_sub [0, 1] _ rfl ?_
            exact hj41 ()
          · refine x_aload_n 115 0 dX5_finish_115 rfl ?_
            refine x_getR 116 fa_X5_207_4 dX5_finish_116 fun v44 => ?_
            refine x_iload_n 119 1 dX5_finish_119 rfl ?_
            refine x_isK fun i45 h46 => ?_
            subst h46
            refine x_iald 120 dX5_finish_120 fun v47 => ?_
            refine x_iload 121 4 dX5_finish_121 rfl ?_
            refine x_icmp_lt 123 130 dX5_finish_123 rfl (fun c48 => ?_) (fun c48 => ?_)
            · refine x_sub [0, 1] _ rfl ?_
              exact hj41 ()
            · refine x_iconst 126 1 (1 : Int32) dX5_finish_126 rfl ?_
              refine x_goto 127 131 dX5_finish_127 rfl ?_
              refine x_sub [0, 1] _ rfl ?_
              exact hj40 (1 : Int32)
    · refine x_lp (Lf := fun u => [(0, .ref (idc 4 i0)), (1, .int a1), (2, .int v1), (3, .int u2), (4, .int u.1), (5, .int u.2)]) (sf := fun _ => []) (fun r5 hr5 u => ?_) ((0 : Int32), (0 : Int32))
      obtain ⟨u3, u4⟩ := u
      show TX g Γ _ Z _ 60 [(0, .ref (idc 4 i0)), (1, .int a1), (2, .int v1), (3, .int u2), (4, .int u3), (5, .int u4)] [] _
      refine x_un2 ?_
      refine x_iload 60 5 dX5_finish_60 rfl ?_
      refine x_iconst 62 3 (3 : Int32) dX5_finish_62 rfl ?_
      refine x_icmp_ge 63 109 dX5_finish_63 rfl (fun c8 => ?_) (fun c8 => ?_)
      · refine x_sub [0, 1, 2, 3, 4] _ rfl ?_
        exact hj7 u3
      · refine x_iload_n 66 2 dX5_finish_66 rfl ?_
        refine x_if_eq 67 109 dX5_finish_67 rfl (fun c9 => ?_) (fun c9 => ?_)
        · refine x_sub [0, 1, 2, 3, 4] _ rfl ?_
          exact hj7 u3
        · refine x_iload 70 4 dX5_finish_70 rfl ?_
          refine x_aload_n 72 0 dX5_finish_72 rfl ?_
          refine x_getR 73 fa_X5_7_4 dX5_finish_73 fun v10 => ?_
          refine x_iconst 76 3 (3 : Int32) dX5_finish_76 rfl ?_
          refine x_aload_n 77 0 dX5_finish_77 rfl ?_
          refine x_getR 78 fa_X5_195_4 dX5_finish_78 fun v11 => ?_
          refine x_iload_n 81 1 dX5_finish_81 rfl ?_
          refine x_isK fun i12 h13 => ?_
          subst h13
          refine x_iald 82 dX5_finish_82 fun v14 => ?_
          refine x_imul 83 dX5_finish_83 ?_
          refine x_iload 84 5 dX5_finish_84 rfl ?_
          refine x_iadd 86 dX5_finish_86 ?_
          refine x_isK fun i15 h16 => ?_
          subst h16
          refine x_iald 87 dX5_finish_87 fun v17 => ?_
          refine x_if_eq 88 99 dX5_finish_88 rfl (fun c18 => ?_) (fun c18 => ?_)
          · refine x_iconst 99 0 (0 : Int32) dX5_finish_99 rfl ?_
            refine x_iadd 100 dX5_finish_100 ?_
            refine x_istore 101 [(4, .int (u3 + (0 : Int32))), (0, .ref (idc 4 i0)), (1, .int a1), (2, .int v1), (3, .int u2), (5, .int u4)] dX5_finish_101 (by decide) rfl ?_
            refine x_iinc 103 5 [(5, .int (u4 + (1 : Int32))), (4, .int (u3 + (0 : Int32))), (0, .ref (idc 4 i0)), (1, .int a1), (2, .int v1), (3, .int u2)] dX5_finish_103 rfl rfl (by decide) rfl ?_
            refine x_goto 106 60 dX5_finish_106 rfl ?_
            refine x_sub [2, 3, 4, 5, 1, 0] _ rfl ?_
            exact hr5 (u3 + (0 : Int32), u4 + (1 : Int32))
          · refine x_iload 91 5 dX5_finish_91 rfl ?_
            refine x_cS 93 0 [.int u4] [.int u3] cs_X5_392 (im_X5_weight hl u4) (by decide) rfl (Nat.le_of_ble_eq_true rfl) dX5_finish_93 fun v19 => x_stI ?_
            refine x_goto 96 100 dX5_finish_96 rfl ?_
            refine x_iadd 100 dX5_finish_100 ?_
            refine x_istore 101 [(4, .int (u3 + v19)), (0, .ref (idc 4 i0)), (1, .int a1), (2, .int v1), (3, .int u2), (5, .int u4)] dX5_finish_101 (by decide) rfl ?_
            refine x_iinc 103 5 [(5, .int (u4 + (1 : Int32))), (4, .int (u3 + v19)), (0, .ref (idc 4 i0)), (1, .int a1), (2, .int v1), (3, .int u2)] dX5_finish_103 rfl rfl (by decide) rfl ?_
            refine x_goto 106 60 dX5_finish_106 rfl ?_
            refine x_sub [2, 3, 4, 5, 1, 0] _ rfl ?_
            exact hr5 (u3 + v19, u4 + (1 : Int32))
  · refine x_jo 52 (Lf := fun _ => [(0, .ref (idc 4 i0)), (1, .int a1), (2, .int v1)]) (sf := fun _ => []) (fun _ => ?_) (fun j51 hj50 => ?_)
    · show TX g Γ _ Z _ 52 [(0, .ref (idc 4 i0)), (1, .int a1), (2, .int v1)] [] _
      refine x_iconst 52 0 (0 : Int32) dX5_finish_52 rfl ?_
      exact hj49 (0 : Int32)
    · refine x_if_eq 7 52 dX5_finish_7 rfl (fun c52 => ?_) (fun c52 => ?_)
      · refine x_sub [1, 2, 0] _ rfl ?_
        exact hj50 ()
      · refine x_aload_n 10 1 dX5_finish_10 rfl ?_
        refine x_getR 11 fa_X5_201_4 dX5_finish_11 fun v53 => ?_
        refine x_iload_n 14 2 dX5_finish_14 rfl ?_
        refine x_isK fun i54 h55 => ?_
        subst h55
        refine x_zald 15 dX5_finish_15 fun v56 => ?_
        refine x_if_eq 16 52 dX5_finish_16 rfl (fun c57 => ?_) (fun c57 => ?_)
        · refine x_sub [1, 2, 0] _ rfl ?_
          exact hj50 ()
        · refine x_aload_n 19 1 dX5_finish_19 rfl ?_
          refine x_getI 20 fa_X5_247_4 dX5_finish_20 fun v58 => ?_
          refine x_aload_n 23 1 dX5_finish_23 rfl ?_
          refine x_getR 24 fa_X5_198_4 dX5_finish_24 fun v59 => ?_
          refine x_iload_n 27 2 dX5_finish_27 rfl ?_
          refine x_isK fun i60 h61 => ?_
          subst h61
          refine x_iald 28 dX5_finish_28 fun v62 => ?_
          refine x_isub 29 dX5_finish_29 ?_
          refine x_bipush 30 60 (60 : Int32) dX5_finish_30 rfl ?_
          refine x_icmp_lt 32 52 dX5_finish_32 rfl (fun c63 => ?_) (fun c63 => ?_)
          · refine x_sub [1, 2, 0] _ rfl ?_
            exact hj50 ()
          · refine x_aload_n 35 1 dX5_finish_35 rfl ?_
            refine x_getR 36 fa_X5_204_4 dX5_finish_36 fun v64 => ?_
            refine x_iload_n 39 2 dX5_finish_39 rfl ?_
            refine x_isK fun i65 h66 => ?_
            subst h66
            refine x_iald 40 dX5_finish_40 fun v67 => ?_
            refine x_cS 41 0 [.int v67] [] cs_X5_389 (im_X5_many hl v67) (by decide) rfl (Nat.le_of_ble_eq_true rfl) dX5_finish_41 fun v68 => x_stI ?_
            refine x_iconst 44 2 (2 : Int32) dX5_finish_44 rfl ?_
            refine x_icmp_lt 45 52 dX5_finish_45 rfl (fun c69 => ?_) (fun c69 => ?_)
            · refine x_sub [1, 2, 0] _ rfl ?_
              exact hj50 ()
            · refine x_iconst 48 1 (1 : Int32) dX5_finish_48 rfl ?_
              refine x_goto 49 53 dX5_finish_49 rfl ?_
              refine x_sub [1, 2, 0] _ rfl ?_
              exact hj49 (1 : Int32)
def f_X5_link (i0 : Nat) (a1 : Int32) (a2 : Int32) : PT Int32 := bn0 (f_X5_isSix a1) fun v1 => bnd (ρ := _) (α := Int32) (jo (σ := Unit) (fun _ => rt (0 : Int32)) fun j30 => cnd (v1 = 0) (j30 ()) (bn0 (f_X5_isIn a2 (-1 : Int32) (5 : Int32)) fun v32 => cnd (v32 = 0) (j30 ()) (rt (1 : Int32)))) (fun u2 => bnd (ρ := _) (α := Int32) (jo (σ := Unit) (fun _ => rt (0 : Int32)) fun j15 => cnd (u2 = 0) (j15 ()) (cnd (a2 = (-1 : Int32)) (rt (1 : Int32)) (gR 4 i0 76 fun v18 => isK 32 v18 fun i19 => aI 32 i19 a1 fun v21 => cnd (v21 = (-1 : Int32)) (rt (1 : Int32)) (gR 4 i0 76 fun v23 => isK 32 v23 fun i24 => aI 32 i24 a1 fun v26 => cnd (v26 = a2) (rt (1 : Int32)) (j15 ()))))) (fun u3 => bn0 (f_X5_mayBoth i0 u2 u3) fun v4 => cnd (v4 = 0) (rt (0 : Int32)) (gR 4 i0 76 fun v6 => isK 32 v6 fun i7 => aI 32 i7 a1 fun v9 => gR 4 i0 76 fun v10 => isK 32 v10 fun i11 => bI 32 i11 a1 a2 <| rt v9)))
theorem im_X5_link {g : GP} {l : Launch} (hl : l.stackTraces = false) (i0 : Nat) (a1 : Int32) (a2 : Int32) : Im g l 2 yX5_link cX5_link 5 (some .int) eI [.ref (idc 4 i0), .int a1, .int a2] (f_X5_link i0 a1 a2) := by
  refine tx_start hl 2 _ _ _ _ (by decide) (Nat.le_of_ble_eq_true rfl) fun Γ Z hΓ hZ => ?_
  subst hΓ
  unfold f_X5_link
  show TX g Γ _ Z _ 0 [(0, .ref (idc 4 i0)), (1, .int a1), (2, .int a2)] [] _
  refine x_iload_n 0 1 dX5_link_0 rfl ?_
  refine x_cS 1 1 [.int a1] [] cs_X5_284 (im_X5_isSix hl a1) (by decide) rfl (Nat.le_of_ble_eq_true rfl) dX5_link_1 fun v1 => x_stI ?_
  refine x_bndj 21 (fun u2 => [(0, .ref (idc 4 i0)), (1, .int a1), (2, .int a2)]) (fun u2 => [.int u2]) (fun u2 => ?_) (fun hj28 => ?_)
  · show TX g Γ _ Z _ 21 [(0, .ref (idc 4 i0)), (1, .int a1), (2, .int a2)] [.int u2] _
    refine x_istore_n 21 [(3, .int u2), (0, .ref (idc 4 i0)), (1, .int a1), (2, .int a2)] dX5_link_21 (by decide) rfl ?_
    refine x_aload_n 22 1 dX5_link_22 rfl ?_
    refine x_iload_n 23 0 dX5_link_23 rfl ?_
    refine x_iload_n 24 0 dX5_link_24 rfl ?_
    refine x_bndj 58 (fun u3 => [(0, .ref (idc 4 i0)), (1, .int a1), (2, .int a2)]) (fun u3 => [.int u3, .int u2, .ref (idc 4 i0)]) (fun u3 => ?_) (fun hj13 => ?_)
    · show TX g Γ _ Z _ 58 [(0, .ref (idc 4 i0)), (1, .int a1), (2, .int a2)] [.int u3, .int u2, .ref (idc 4 i0)] _
      refine x_cV 58 0 [.int u2, .int u3] [] ⟨by decide, rfl⟩ cv_X5_274 (im_X5_mayBoth hl i0 u2 u3) (by decide) rfl (Nat.le_of_ble_eq_true rfl) dX5_link_58 fun v4 => x_stI ?_
      refine x_if_ne 61 66 dX5_link_61 rfl (fun c5 => ?_) (fun c5 => ?_)
      · refine x_iconst 64 0 (0 : Int32) dX5_link_64 rfl ?_
        exact x_iret 65 hZ rfl dX5_link_65
      · refine x_aload_n 66 0 dX5_link_66 rfl ?_
        refine x_getR 67 fa_X5_210_4 dX5_link_67 fun v6 => ?_
        refine x_iload_n 70 1 dX5_link_70 rfl ?_
        refine x_isK fun i7 h8 => ?_
        subst h8
        refine x_iald 71 dX5_link_71 fun v9 => ?_
        refine x_istore 72 [(4, .int v9), (0, .ref (idc 4 i0)), (1, .int a1), (2, .int a2)] dX5_link_72 (by decide) rfl ?_
        refine x_aload_n 74 1 dX5_link_74 rfl ?_
        refine x_getR 75 fa_X5_210_4 dX5_link_75 fun v10 => ?_
        refine x_iload_n 78 2 dX5_link_78 rfl ?_
        refine x_iload_n 79 3 dX5_link_79 rfl ?_
        refine x_isK fun i11 h12 => ?_
        subst h12
        refine x_iast 80 dX5_link_80 ?_
        refine x_iload 81 0 dX5_link_81 rfl ?_
        exact x_iret 83 hZ rfl dX5_link_83
    · refine x_jo 57 (Lf := fun _ => [(0, .ref (idc 4 i0)), (1, .int a1), (2, .int a2)]) (sf := fun _ => [.int u2, .ref (idc 4 i0)]) (fun _ => ?_) (fun j15 hj14 => ?_)
      · show TX g Γ _ Z _ 57 [(0, .ref (idc 4 i0)), (1, .int a1), (2, .int a2)] [.int u2, .ref (idc 4 i0)] _
        refine x_iconst 57 0 (0 : Int32) dX5_link_57 rfl ?_
        exact hj13 (0 : Int32)
      · refine x_if_eq 25 57 dX5_link_25 rfl (fun c16 => ?_) (fun c16 => ?_)
        · refine x_sub [1, 2, 3] _ rfl ?_
          exact hj14 ()
        · refine x_iload_n 28 3 dX5_link_28 rfl ?_
          refine x_iconst 29 (-1) (-1 : Int32) dX5_link_29 rfl ?_
          refine x_icmp_eq 30 53 dX5_link_30 rfl (fun c17 => ?_) (fun c17 => ?_)
          · refine x_iconst 53 1 (1 : Int32) dX5_link_53 rfl ?_
            refine x_goto 54 58 dX5_link_54 rfl ?_
            refine x_sub [1, 2, 3] _ rfl ?_
            exact hj13 (1 : Int32)
          · refine x_aload_n 33 1 dX5_link_33 rfl ?_
            refine x_getR 34 fa_X5_210_4 dX5_link_34 fun v18 => ?_
            refine x_iload_n 37 2 dX5_link_37 rfl ?_
            refine x_isK fun i19 h20 => ?_
            subst h20
            refine x_iald 38 dX5_link_38 fun v21 => ?_
            refine x_iconst 39 (-1) (-1 : Int32) dX5_link_39 rfl ?_
            refine x_icmp_eq 40 53 dX5_link_40 rfl (fun c22 => ?_) (fun c22 => ?_)
            · refine x_iconst 53 1 (1 : Int32) dX5_link_53 rfl ?_
              refine x_goto 54 58 dX5_link_54 rfl ?_
              refine x_sub [1, 2, 3] _ rfl ?_
              exact hj13 (1 : Int32)
            · refine x_aload_n 43 1 dX5_link_43 rfl ?_
              refine x_getR 44 fa_X5_210_4 dX5_link_44 fun v23 => ?_
              refine x_iload_n 47 2 dX5_link_47 rfl ?_
              refine x_isK fun i24 h25 => ?_
              subst h25
              refine x_iald 48 dX5_link_48 fun v26 => ?_
              refine x_iload_n 49 3 dX5_link_49 rfl ?_
              refine x_icmp_ne 50 57 dX5_link_50 rfl (fun c27 => ?_) (fun c27 => ?_)
              · refine x_iconst 53 1 (1 : Int32) dX5_link_53 rfl ?_
                refine x_goto 54 58 dX5_link_54 rfl ?_
                refine x_sub [1, 2, 3] _ rfl ?_
                exact hj13 (1 : Int32)
              · refine x_sub [1, 2, 3] _ rfl ?_
                exact hj14 ()
  · refine x_jo 20 (Lf := fun _ => [(0, .ref (idc 4 i0)), (1, .int a1), (2, .int a2)]) (sf := fun _ => []) (fun _ => ?_) (fun j30 hj29 => ?_)
    · show TX g Γ _ Z _ 20 [(0, .ref (idc 4 i0)), (1, .int a1), (2, .int a2)] [] _
      refine x_iconst 20 0 (0 : Int32) dX5_link_20 rfl ?_
      exact hj28 (0 : Int32)
    · refine x_if_eq 4 20 dX5_link_4 rfl (fun c31 => ?_) (fun c31 => ?_)
      · exact hj29 ()
      · refine x_iload_n 7 2 dX5_link_7 rfl ?_
        refine x_iconst 8 (-1) (-1 : Int32) dX5_link_8 rfl ?_
        refine x_iconst 9 5 (5 : Int32) dX5_link_9 rfl ?_
        refine x_cS 10 0 [.int a2, .int (-1 : Int32), .int (5 : Int32)] [] cs_X5_228 (im_X5_isIn hl a2 (-1 : Int32) (5 : Int32)) (by decide) rfl (Nat.le_of_ble_eq_true rfl) dX5_link_10 fun v32 => x_stI ?_
        refine x_if_eq 13 20 dX5_link_13 rfl (fun c33 => ?_) (fun c33 => ?_)
        · exact hj29 ()
        · refine x_iconst 16 1 (1 : Int32) dX5_link_16 rfl ?_
          refine x_goto 17 21 dX5_link_17 rfl ?_
          exact hj28 (1 : Int32)
def f_X5_foreign (i0 : Nat) (a1 : Int32) : PT Int32 := bn0 (f_X5_isSix a1) fun v1 => bnd (ρ := _) (α := Int32) (jo (σ := Unit) (fun _ => rt (0 : Int32)) fun j12 => cnd (v1 = 0) (j12 ()) (gR 4 i0 76 fun v14 => isK 32 v14 fun i15 => aI 32 i15 a1 fun v17 => cnd (v17 = (-1 : Int32)) (j12 ()) (gR 4 i0 7 fun v19 => gR 4 i0 76 fun v20 => isK 32 v20 fun i21 => aI 32 i21 a1 fun v23 => isK 33 v19 fun i24 => aI 33 i24 v23 fun v26 => cnd (v26 = 0) (gI 4 i0 30 fun v28 => cnd ((60 : Int32) ≤ v28) (j12 ()) (rt (1 : Int32))) (j12 ())))) (fun u2 => bn0 (f_X5_mayBoth i0 v1 u2) fun v3 => cnd (v3 = 0) (rt (0 : Int32)) (gR 4 i0 76 fun v5 => isK 32 v5 fun i6 => aI 32 i6 a1 fun v8 => bn0 (f_X5_newSession i0 v8 (-1 : Int32)) fun v9 => rt v9))
theorem im_X5_foreign {g : GP} {l : Launch} (hl : l.stackTraces = false) (i0 : Nat) (a1 : Int32) : Im g l 2 yX5_foreign cX5_foreign 3 (some .int) eI [.ref (idc 4 i0), .int a1] (f_X5_foreign i0 a1) := by
  refine tx_start hl 2 _ _ _ _ (by decide) (Nat.le_of_ble_eq_true rfl) fun Γ Z hΓ hZ => ?_
  subst hΓ
  unfold f_X5_foreign
  show TX g Γ _ Z _ 0 [(0, .ref (idc 4 i0)), (1, .int a1)] [] _
  refine x_iload_n 0 1 dX5_foreign_0 rfl ?_
  refine x_cS 1 1 [.int a1] [] cs_X5_284 (im_X5_isSix hl a1) (by decide) rfl (Nat.le_of_ble_eq_true rfl) dX5_foreign_1 fun v1 => x_stI ?_
  refine x_istore_n 4 [(2, .int v1), (0, .ref (idc 4 i0)), (1, .int a1)] dX5_foreign_4 (by decide) rfl ?_
  refine x_aload_n 5 1 dX5_foreign_5 rfl ?_
  refine x_iload_n 6 0 dX5_foreign_6 rfl ?_
  refine x_iload_n 7 0 dX5_foreign_7 rfl ?_
  refine x_bndj 49 (fun u2 => [(0, .ref (idc 4 i0)), (1, .int a1)]) (fun u2 => [.int u2, .int v1, .ref (idc 4 i0)]) (fun u2 => ?_) (fun hj10 => ?_)
  · show TX g Γ _ Z _ 49 [(0, .ref (idc 4 i0)), (1, .int a1)] [.int u2, .int v1, .ref (idc 4 i0)] _
    refine x_cV 49 0 [.int v1, .int u2] [] ⟨by decide, rfl⟩ cv_X5_274 (im_X5_mayBoth hl i0 v1 u2) (by decide) rfl (Nat.le_of_ble_eq_true rfl) dX5_foreign_49 fun v3 => x_stI ?_
    refine x_if_eq 52 69 dX5_foreign_52 rfl (fun c4 => ?_) (fun c4 => ?_)
    · refine x_iconst 69 0 (0 : Int32) dX5_foreign_69 rfl ?_
      exact x_iret 70 hZ rfl dX5_foreign_70
    · refine x_aload_n 55 0 dX5_foreign_55 rfl ?_
      refine x_aload_n 56 0 dX5_foreign_56 rfl ?_
      refine x_getR 57 fa_X5_210_4 dX5_foreign_57 fun v5 => ?_
      refine x_iload_n 60 1 dX5_foreign_60 rfl ?_
      refine x_isK fun i6 h7 => ?_
      subst h7
      refine x_iald 61 dX5_foreign_61 fun v8 => ?_
      refine x_iconst 62 (-1) (-1 : Int32) dX5_foreign_62 rfl ?_
      refine x_cV 63 1 [.int v8, .int (-1 : Int32)] [] ⟨by decide, rfl⟩ cv_X5_328 (im_X5_newSession hl i0 v8 (-1 : Int32)) (by decide) rfl (Nat.le_of_ble_eq_true rfl) dX5_foreign_63 fun v9 => x_stI ?_
      refine x_goto 66 70 dX5_foreign_66 rfl ?_
      exact x_iret 70 hZ rfl dX5_foreign_70
  · refine x_jo 48 (Lf := fun _ => [(0, .ref (idc 4 i0)), (1, .int a1)]) (sf := fun _ => [.int v1, .ref (idc 4 i0)]) (fun _ => ?_) (fun j12 hj11 => ?_)
    · show TX g Γ _ Z _ 48 [(0, .ref (idc 4 i0)), (1, .int a1)] [.int v1, .ref (idc 4 i0)] _
      refine x_iconst 48 0 (0 : Int32) dX5_foreign_48 rfl ?_
      exact hj10 (0 : Int32)
    · refine x_if_eq 8 48 dX5_foreign_8 rfl (fun c13 => ?_) (fun c13 => ?_)
      · refine x_sub [1, 2] _ rfl ?_
        exact hj11 ()
      · refine x_aload_n 11 1 dX5_foreign_11 rfl ?_
        refine x_getR 12 fa_X5_210_4 dX5_foreign_12 fun v14 => ?_
        refine x_iload_n 15 2 dX5_foreign_15 rfl ?_
        refine x_isK fun i15 h16 => ?_
        subst h16
        refine x_iald 16 dX5_foreign_16 fun v17 => ?_
        refine x_iconst 17 (-1) (-1 : Int32) dX5_foreign_17 rfl ?_
        refine x_icmp_eq 18 48 dX5_foreign_18 rfl (fun c18 => ?_) (fun c18 => ?_)
        · refine x_sub [1, 2] _ rfl ?_
          exact hj11 ()
        · refine x_aload_n 21 1 dX5_foreign_21 rfl ?_
          refine x_getR 22 fa_X5_29_4 dX5_foreign_22 fun v19 => ?_
          refine x_aload_n 25 1 dX5_foreign_25 rfl ?_
          refine x_getR 26 fa_X5_210_4 dX5_foreign_26 fun v20 => ?_
          refine x_iload_n 29 2 dX5_foreign_29 rfl ?_
          refine x_isK fun i21 h22 => ?_
          subst h22
          refine x_iald 30 dX5_foreign_30 fun v23 => ?_
          refine x_isK fun i24 h25 => ?_
          subst h25
          refine x_zald 31 dX5_foreign_31 fun v26 => ?_
          refine x_if_ne 32 48 dX5_foreign_32 rfl (fun c27 => ?_) (fun c27 => ?_)
          · refine x_aload_n 35 1 dX5_foreign_35 rfl ?_
            refine x_getI 36 fa_X5_235_4 dX5_foreign_36 fun v28 => ?_
            refine x_bipush 39 60 (60 : Int32) dX5_foreign_39 rfl ?_
            refine x_icmp_ge 41 48 dX5_foreign_41 rfl (fun c29 => ?_) (fun c29 => ?_)
            · refine x_sub [1, 2] _ rfl ?_
              exact hj11 ()
            · refine x_iconst 44 1 (1 : Int32) dX5_foreign_44 rfl ?_
              refine x_goto 45 49 dX5_foreign_45 rfl ?_
              refine x_sub [1, 2] _ rfl ?_
              exact hj10 (1 : Int32)
          · refine x_sub [1, 2] _ rfl ?_
            exact hj11 ()
def f_X5_leave (i0 : Nat) (a1 : Int32) : PT Int32 := bn0 (f_X5_isSix a1) fun v1 => bn0 (f_X5_may i0 v1) fun v2 => cnd (v2 = 0) (rt (0 : Int32)) (gR 4 i0 7 fun v4 => gR 4 i0 7 fun v5 => isK 33 v5 fun i6 => aI 33 i6 a1 fun v8 => bnd (ρ := _) (α := Int32) (cnd (v8 = 0) (rt (1 : Int32)) (rt (0 : Int32))) (fun u9 => isK 33 v4 fun i10 => bZ 33 i10 a1 u9 <| gR 4 i0 7 fun v12 => isK 33 v12 fun i13 => aI 33 i13 a1 fun v15 => cnd (v15 = 0) (rt (-1 : Int32)) (bn0 (f_X5_endAllOf i0 a1) fun v17 => bnd (lp (σ := Int32) (ρ := Unit) (fun r19 => fun u18 => gI 4 i0 19 fun v21 => cnd (v21 ≤ u18) (rt ()) (gR 4 i0 25 fun v23 => gR 4 i0 20 fun v24 => isK 32 v24 fun i25 => aI 32 i25 u18 fun v27 => bnd (ρ := _) (α := Int32) (jo (σ := Unit) (fun _ => gR 4 i0 25 fun v32 => isK 32 v32 fun i33 => aI 32 i33 u18 fun v35 => rt v35) fun j37 => cnd (v27 = a1) (gR 4 i0 25 fun v39 => isK 32 v39 fun i40 => aI 32 i40 u18 fun v42 => cnd (v42 = 0) (rt (2 : Int32)) (j37 ())) (j37 ())) (fun u28 => isK 32 v23 fun i29 => bI 32 i29 u18 u28 <| r19 (u18 + (1 : Int32))))) (0 : Int32)) (fun _ => lp (σ := Int32) (fun r45 => fun u44 => gI 4 i0 70 fun v46 => cnd (v46 ≤ u44) (rt v17) (gR 4 i0 73 fun v48 => gR 4 i0 73 fun v49 => isK 33 v49 fun i50 => aI 33 i50 u44 fun v52 => bnd (ρ := _) (α := Int32) (jo (σ := Unit) (fun _ => rt (0 : Int32)) fun j58 => cnd (v52 = 0) (j58 ()) (gR 4 i0 71 fun v60 => isK 32 v60 fun i61 => aI 32 i61 u44 fun v63 => cnd (v63 = a1) (j58 ()) (rt (1 : Int32)))) (fun u53 => isK 33 v48 fun i54 => bZ 33 i54 u44 u53 <| r45 (u44 + (1 : Int32))))) (0 : Int32)))))
theorem im_X5_leave {g : GP} {l : Launch} (hl : l.stackTraces = false) (i0 : Nat) (a1 : Int32) : Im g l 5 yX5_leave cX5_leave 4 (some .int) eI [.ref (idc 4 i0), .int a1] (f_X5_leave i0 a1) := by
  refine tx_start hl 5 _ _ _ _ (by decide) (Nat.le_of_ble_eq_true rfl) fun Γ Z hΓ hZ => ?_
  subst hΓ
  unfold f_X5_leave
  show TX g Γ _ Z _ 0 [(0, .ref (idc 4 i0)), (1, .int a1)] [] _
  refine x_aload_n 0 0 dX5_leave_0 rfl ?_
  refine x_iload_n 1 1 dX5_leave_1 rfl ?_
  refine x_cS 2 1 [.int a1] [.ref (idc 4 i0)] cs_X5_284 (im_X5_isSix hl a1) (by decide) rfl (Nat.le_of_ble_eq_true rfl) dX5_leave_2 fun v1 => x_stI ?_
  refine x_cV 5 0 [.int v1] [] ⟨by decide, rfl⟩ cv_X5_251 (im_X5_may hl i0 v1) (by decide) rfl (Nat.le_of_ble_eq_true rfl) dX5_leave_5 fun v2 => x_stI ?_
  refine x_if_ne 8 13 dX5_leave_8 rfl (fun c3 => ?_) (fun c3 => ?_)
  · refine x_iconst 11 0 (0 : Int32) dX5_leave_11 rfl ?_
    exact x_iret 12 hZ rfl dX5_leave_12
  · refine x_aload_n 13 0 dX5_leave_13 rfl ?_
    refine x_getR 14 fa_X5_29_4 dX5_leave_14 fun v4 => ?_
    refine x_iload_n 17 1 dX5_leave_17 rfl ?_
    refine x_aload_n 18 0 dX5_leave_18 rfl ?_
    refine x_getR 19 fa_X5_29_4 dX5_leave_19 fun v5 => ?_
    refine x_iload_n 22 1 dX5_leave_22 rfl ?_
    refine x_isK fun i6 h7 => ?_
    subst h7
    refine x_zald 23 dX5_leave_23 fun v8 => ?_
    refine x_bndj 32 (fun u9 => [(0, .ref (idc 4 i0)), (1, .int a1)]) (fun u9 => [.int u9, .int a1, .ref v4]) (fun u9 => ?_) (fun hj65 => ?_)
    · show TX g Γ _ Z _ 32 [(0, .ref (idc 4 i0)), (1, .int a1)] [.int u9, .int a1, .ref v4] _
      refine x_isK fun i10 h11 => ?_
      subst h11
      refine x_zast 32 dX5_leave_32 ?_
      refine x_aload_n 33 0 dX5_leave_33 rfl ?_
      refine x_getR 34 fa_X5_29_4 dX5_leave_34 fun v12 => ?_
      refine x_iload_n 37 1 dX5_leave_37 rfl ?_
      refine x_isK fun i13 h14 => ?_
      subst h14
      refine x_zald 38 dX5_leave_38 fun v15 => ?_
      refine x_if_ne 39 44 dX5_leave_39 rfl (fun c16 => ?_) (fun c16 => ?_)
      · refine x_iconst 42 (-1) (-1 : Int32) dX5_leave_42 rfl ?_
        exact x_iret 43 hZ rfl dX5_leave_43
      · refine x_aload_n 44 0 dX5_leave_44 rfl ?_
        refine x_iload_n 45 1 dX5_leave_45 rfl ?_
        refine x_cV 46 4 [.int a1] [] ⟨by decide, rfl⟩ cv_X5_395 (im_X5_endAllOf hl i0 a1) (by decide) rfl (Nat.le_of_ble_eq_true rfl) dX5_leave_46 fun v17 => x_stI ?_
        refine x_istore_n 49 [(2, .int v17), (0, .ref (idc 4 i0)), (1, .int a1)] dX5_leave_49 (by decide) rfl ?_
        refine x_iconst 50 0 (0 : Int32) dX5_leave_50 rfl ?_
        refine x_istore_n 51 [(3, .int (0 : Int32)), (2, .int v17), (0, .ref (idc 4 i0)), (1, .int a1)] dX5_leave_51 (by decide) rfl ?_
        refine x_sub [2, 3, 1, 0] [(0, .ref (idc 4 i0)), (1, .int a1), (2, .int v17), (3, .int (0 : Int32))] rfl ?_
        refine x_bndj 101 (fun _ => [(0, .ref (idc 4 i0)), (1, .int a1), (2, .int v17)]) (fun _ => []) (fun _ => ?_) (fun hj20 => ?_)
        · show TX g Γ _ Z _ 101 [(0, .ref (idc 4 i0)), (1, .int a1), (2, .int v17)] [] _
          refine x_iconst 101 0 (0 : Int32) dX5_leave_101 rfl ?_
          refine x_istore_n 102 [(3, .int (0 : Int32)), (0, .ref (idc 4 i0)), (1, .int a1), (2, .int v17)] dX5_leave_102 (by decide) rfl ?_
          refine x_sub [1, 2, 3, 0] [(0, .ref (idc 4 i0)), (1, .int a1), (2, .int v17), (3, .int (0 : Int32))] rfl ?_
          refine x_lp (Lf := fun u44 => [(0, .ref (idc 4 i0)), (1, .int a1), (2, .int v17), (3, .int u44)]) (sf := fun _ => []) (fun r45 hr45 u44 => ?_) (0 : Int32)
          show TX g Γ _ Z _ 103 [(0, .ref (idc 4 i0)), (1, .int a1), (2, .int v17), (3, .int u44)] [] _
          refine x_iload_n 103 3 dX5_leave_103 rfl ?_
          refine x_aload_n 104 0 dX5_leave_104 rfl ?_
          refine x_getI 105 fa_X5_380_4 dX5_leave_105 fun v46 => ?_
          refine x_icmp_ge 108 147 dX5_leave_108 rfl (fun c47 => ?_) (fun c47 => ?_)
          · refine x_iload_n 147 2 dX5_leave_147 rfl ?_
            exact x_iret 148 hZ rfl dX5_leave_148
          · refine x_aload_n 111 0 dX5_leave_111 rfl ?_
            refine x_getR 112 fa_X5_201_4 dX5_leave_112 fun v48 => ?_
            refine x_iload_n 115 3 dX5_leave_115 rfl ?_
            refine x_aload_n 116 0 dX5_leave_116 rfl ?_
            refine x_getR 117 fa_X5_201_4 dX5_leave_117 fun v49 => ?_
            refine x_iload_n 120 3 dX5_leave_120 rfl ?_
            refine x_isK fun i50 h51 => ?_
            subst h51
            refine x_zald 121 dX5_leave_121 fun v52 => ?_
            refine x_bndj 140 (fun u53 => [(0, .ref (idc 4 i0)), (1, .int a1), (2, .int v17), (3, .int u44)]) (fun u53 => [.int u53, .int u44, .ref v48]) (fun u53 => ?_) (fun hj56 => ?_)
            · show TX g Γ _ Z _ 140 [(0, .ref (idc 4 i0)), (1, .int a1), (2, .int v17), (3, .int u44)] [.int u53, .int u44, .ref v48] _
              refine x_isK fun i54 h55 => ?_
              subst h55
              refine x_zast 140 dX5_leave_140 ?_
              refine x_iinc 141 3 [(3, .int (u44 + (1 : Int32))), (0, .ref (idc 4 i0)), (1, .int a1), (2, .int v17)] dX5_leave_141 rfl rfl (by decide) rfl ?_
              refine x_goto 144 103 dX5_leave_144 rfl ?_
              refine x_sub [1, 2, 3, 0] _ rfl ?_
              exact hr45 (u44 + (1 : Int32))
            · refine x_jo 139 (Lf := fun _ => [(0, .ref (idc 4 i0)), (1, .int a1), (2, .int v17), (3, .int u44)]) (sf := fun _ => [.int u44, .ref v48]) (fun _ => ?_) (fun j58 hj57 => ?_)
              · show TX g Γ _ Z _ 139 [(0, .ref (idc 4 i0)), (1, .int a1), (2, .int v17), (3, .int u44)] [.int u44, .ref v48] _
                refine x_iconst 139 0 (0 : Int32) dX5_leave_139 rfl ?_
                exact hj56 (0 : Int32)
              · refine x_if_eq 122 139 dX5_leave_122 rfl (fun c59 => ?_) (fun c59 => ?_)
                · exact hj57 ()
                · refine x_aload_n 125 0 dX5_leave_125 rfl ?_
                  refine x_getR 126 fa_X5_195_4 dX5_leave_126 fun v60 => ?_
                  refine x_iload_n 129 3 dX5_leave_129 rfl ?_
                  refine x_isK fun i61 h62 => ?_
                  subst h62
                  refine x_iald 130 dX5_leave_130 fun v63 => ?_
                  refine x_iload_n 131 1 dX5_leave_131 rfl ?_
                  refine x_icmp_eq 132 139 dX5_leave_132 rfl (fun c64 => ?_) (fun c64 => ?_)
                  · exact hj57 ()
                  · refine x_iconst 135 1 (1 : Int32) dX5_leave_135 rfl ?_
                    refine x_goto 136 140 dX5_leave_136 rfl ?_
                    exact hj56 (1 : Int32)
        · refine x_lp (Lf := fun u18 => [(0, .ref (idc 4 i0)), (1, .int a1), (2, .int v17), (3, .int u18)]) (sf := fun _ => []) (fun r19 hr19 u18 => ?_) (0 : Int32)
          show TX g Γ _ Z _ 52 [(0, .ref (idc 4 i0)), (1, .int a1), (2, .int v17), (3, .int u18)] [] _
          refine x_iload_n 52 3 dX5_leave_52 rfl ?_
          refine x_aload_n 53 0 dX5_leave_53 rfl ?_
          refine x_getI 54 fa_X5_232_4 dX5_leave_54 fun v21 => ?_
          refine x_icmp_ge 57 101 dX5_leave_57 rfl (fun c22 => ?_) (fun c22 => ?_)
          · refine x_sub [0, 1, 2] _ rfl ?_
            exact hj20 ()
          · refine x_aload_n 60 0 dX5_leave_60 rfl ?_
            refine x_getR 61 fa_X5_77_4 dX5_leave_61 fun v23 => ?_
            refine x_iload_n 64 3 dX5_leave_64 rfl ?_
            refine x_aload_n 65 0 dX5_leave_65 rfl ?_
            refine x_getR 66 fa_X5_62_4 dX5_leave_66 fun v24 => ?_
            refine x_iload_n 69 3 dX5_leave_69 rfl ?_
            refine x_isK fun i25 h26 => ?_
            subst h26
            refine x_iald 70 dX5_leave_70 fun v27 => ?_
            refine x_iload_n 71 1 dX5_leave_71 rfl ?_
            refine x_bndj 94 (fun u28 => [(0, .ref (idc 4 i0)), (1, .int a1), (2, .int v17), (3, .int u18)]) (fun u28 => [.int u28, .int u18, .ref v23]) (fun u28 => ?_) (fun hj31 => ?_)
            · show TX g Γ _ Z _ 94 [(0, .ref (idc 4 i0)), (1, .int a1), (2, .int v17), (3, .int u18)] [.int u28, .int u18, .ref v23] _
              refine x_isK fun i29 h30 => ?_
              subst h30
              refine x_iast 94 dX5_leave_94 ?_
              refine x_iinc 95 3 [(3, .int (u18 + (1 : Int32))), (0, .ref (idc 4 i0)), (1, .int a1), (2, .int v17)] dX5_leave_95 rfl rfl (by decide) rfl ?_
              refine x_goto 98 52 dX5_leave_98 rfl ?_
              refine x_sub [1, 2, 3, 0] _ rfl ?_
              exact hr19 (u18 + (1 : Int32))
            · refine x_jo 88 (Lf := fun _ => [(0, .ref (idc 4 i0)), (1, .int a1), (2, .int v17), (3, .int u18)]) (sf := fun _ => [.int u18, .ref v23]) (fun _ => ?_) (fun j37 hj36 => ?_)
              · show TX g Γ _ Z _ 88 [(0, .ref (idc 4 i0)), (1, .int a1), (2, .int v17), (3, .int u18)] [.int u18, .ref v23] _
                refine x_aload_n 88 0 dX5_leave_88 rfl ?_
                refine x_getR 89 fa_X5_77_4 dX5_leave_89 fun v32 => ?_
                refine x_iload_n 92 3 dX5_leave_92 rfl ?_
                refine x_isK fun i33 h34 => ?_
                subst h34
                refine x_iald 93 dX5_leave_93 fun v35 => ?_
                exact hj31 v35
              · refine x_icmp_ne 72 88 dX5_leave_72 rfl (fun c38 => ?_) (fun c38 => ?_)
                · refine x_aload_n 75 0 dX5_leave_75 rfl ?_
                  refine x_getR 76 fa_X5_77_4 dX5_leave_76 fun v39 => ?_
                  refine x_iload_n 79 3 dX5_leave_79 rfl ?_
                  refine x_isK fun i40 h41 => ?_
                  subst h41
                  refine x_iald 80 dX5_leave_80 fun v42 => ?_
                  refine x_if_ne 81 88 dX5_leave_81 rfl (fun c43 => ?_) (fun c43 => ?_)
                  · refine x_iconst 84 2 (2 : Int32) dX5_leave_84 rfl ?_
                    refine x_goto 85 94 dX5_leave_85 rfl ?_
                    exact hj31 (2 : Int32)
                  · exact hj36 ()
                · exact hj36 ()
    · refine x_if_ne 24 31 dX5_leave_24 rfl (fun c66 => ?_) (fun c66 => ?_)
      · refine x_iconst 27 1 (1 : Int32) dX5_leave_27 rfl ?_
        refine x_goto 28 32 dX5_leave_28 rfl ?_
        exact hj65 (1 : Int32)
      · refine x_iconst 31 0 (0 : Int32) dX5_leave_31 rfl ?_
        exact hj65 (0 : Int32)
