/-! ===== the walk of the law ===== -/
def f_L_law (g : GP) : PT Int32 := nw 0 23 fun i1 => bn0 (f_X1_init i1) fun _ => nw 4 83 fun i3 => bn0 (f_X5_init i3) fun _ => nwA 34 (1 : Int32) fun i5 => lp (σ := Int32) (fun r7 => fun u6 => cnd (((Int32.ofNat (gn g)) - (6 : Int32)) < u6) (asr ((1 : Int32) = 0 ∨ (1 : Int32) = 1) (rt (1 : Int32))) (asr (vp_in u6 (gn g)) <| cnd (((gx g u6.toNatClampNeg) &&& (63 : Int32)) = (0 : Int32)) (asr (vp_in (u6 + (1 : Int32)) (gn g)) <| bn0 (f_X0_pass (idc 0 i1) (gx g (u6 + (1 : Int32)).toNatClampNeg) i5) fun v12 => asr (vp_in (u6 + (1 : Int32)) (gn g)) <| bn0 (f_X5_pass i3 (gx g (u6 + (1 : Int32)).toNatClampNeg)) fun v14 => bn0 (f_X5_thrown i3) fun v15 => cnd (v15 = v12) (cnd (v12 = 0) (aJ 34 i5 (0 : Int32) fun v18 => cnd ((lg_cmp v18 v14.toInt64) = 0) (r7 (u6 + (6 : Int32))) (asr ((0 : Int32) = 0 ∨ (0 : Int32) = 1) (rt (0 : Int32)))) (r7 (u6 + (6 : Int32)))) (asr ((0 : Int32) = 0 ∨ (0 : Int32) = 1) (rt (0 : Int32)))) (cnd (((gx g u6.toNatClampNeg) &&& (63 : Int32)) = (1 : Int32)) (asr (vp_in (u6 + (1 : Int32)) (gn g)) <| asr (vp_in (u6 + (2 : Int32)) (gn g)) <| bn0 (f_X0_enroll (idc 0 i1) (gx g (u6 + (1 : Int32)).toNatClampNeg) (gx g (u6 + (2 : Int32)).toNatClampNeg) i5) fun v23 => asr (vp_in (u6 + (1 : Int32)) (gn g)) <| asr (vp_in (u6 + (2 : Int32)) (gn g)) <| bn0 (f_X5_enroll i3 (gx g (u6 + (1 : Int32)).toNatClampNeg) (gx g (u6 + (2 : Int32)).toNatClampNeg)) fun v26 => bn0 (f_X5_thrown i3) fun v27 => cnd (v27 = v23) (cnd (v23 = 0) (aJ 34 i5 (0 : Int32) fun v30 => cnd ((lg_cmp v30 v26.toInt64) = 0) (r7 (u6 + (6 : Int32))) (asr ((0 : Int32) = 0 ∨ (0 : Int32) = 1) (rt (0 : Int32)))) (r7 (u6 + (6 : Int32)))) (asr ((0 : Int32) = 0 ∨ (0 : Int32) = 1) (rt (0 : Int32)))) (cnd (((gx g u6.toNatClampNeg) &&& (63 : Int32)) = (2 : Int32)) (asr (vp_in (u6 + (1 : Int32)) (gn g)) <| asr (vp_in (u6 + (2 : Int32)) (gn g)) <| bn0 (f_X0_factor (idc 0 i1) (gx g (u6 + (1 : Int32)).toNatClampNeg) (gx g (u6 + (2 : Int32)).toNatClampNeg) i5) fun v35 => asr (vp_in (u6 + (1 : Int32)) (gn g)) <| asr (vp_in (u6 + (2 : Int32)) (gn g)) <| bn0 (f_X5_factor i3 (gx g (u6 + (1 : Int32)).toNatClampNeg) (gx g (u6 + (2 : Int32)).toNatClampNeg)) fun v38 => bn0 (f_X5_thrown i3) fun v39 => cnd (v39 = v35) (cnd (v35 = 0) (aJ 34 i5 (0 : Int32) fun v42 => cnd ((lg_cmp v42 v38.toInt64) = 0) (r7 (u6 + (6 : Int32))) (asr ((0 : Int32) = 0 ∨ (0 : Int32) = 1) (rt (0 : Int32)))) (r7 (u6 + (6 : Int32)))) (asr ((0 : Int32) = 0 ∨ (0 : Int32) = 1) (rt (0 : Int32)))) (cnd (((gx g u6.toNatClampNeg) &&& (63 : Int32)) = (3 : Int32)) (asr (vp_in (u6 + (1 : Int32)) (gn g)) <| asr (vp_in (u6 + (2 : Int32)) (gn g)) <| asr (vp_in (u6 + (3 : Int32)) (gn g)) <| asr (vp_in (u6 + (4 : Int32)) (gn g)) <| asr (vp_in (u6 + (5 : Int32)) (gn g)) <| bn0 (f_X0_step (idc 0 i1) (gx g (u6 + (1 : Int32)).toNatClampNeg) (gx g (u6 + (2 : Int32)).toNatClampNeg) (gx g (u6 + (3 : Int32)).toNatClampNeg) (gx g (u6 + (4 : Int32)).toNatClampNeg) (gx g (u6 + (5 : Int32)).toNatClampNeg) i5) fun v50 => asr (vp_in (u6 + (1 : Int32)) (gn g)) <| asr (vp_in (u6 + (2 : Int32)) (gn g)) <| asr (vp_in (u6 + (3 : Int32)) (gn g)) <| asr (vp_in (u6 + (4 : Int32)) (gn g)) <| asr (vp_in (u6 + (5 : Int32)) (gn g)) <| bn0 (f_X5_step i3 (gx g (u6 + (1 : Int32)).toNatClampNeg) (gx g (u6 + (2 : Int32)).toNatClampNeg) (gx g (u6 + (3 : Int32)).toNatClampNeg) (gx g (u6 + (4 : Int32)).toNatClampNeg) (gx g (u6 + (5 : Int32)).toNatClampNeg)) fun v56 => bn0 (f_X5_thrown i3) fun v57 => cnd (v57 = v50) (cnd (v50 = 0) (aJ 34 i5 (0 : Int32) fun v60 => cnd ((lg_cmp v60 v56.toInt64) = 0) (r7 (u6 + (6 : Int32))) (asr ((0 : Int32) = 0 ∨ (0 : Int32) = 1) (rt (0 : Int32)))) (r7 (u6 + (6 : Int32)))) (asr ((0 : Int32) = 0 ∨ (0 : Int32) = 1) (rt (0 : Int32)))) (cnd (((gx g u6.toNatClampNeg) &&& (63 : Int32)) = (4 : Int32)) (bn0 (f_X1_clear i1) fun v63 => bn0 (f_X5_clear i3) fun v64 => cnd (v63 = v64) (r7 (u6 + (6 : Int32))) (asr ((0 : Int32) = 0 ∨ (0 : Int32) = 1) (rt (0 : Int32)))) (cnd (((gx g u6.toNatClampNeg) &&& (63 : Int32)) = (5 : Int32)) (bn0 (f_X0_publish (idc 0 i1) i5) fun v67 => bn0 (f_X5_publish i3) fun v68 => bn0 (f_X5_thrown i3) fun v69 => cnd (v69 = v67) (cnd (v67 = 0) (aJ 34 i5 (0 : Int32) fun v72 => cnd ((lg_cmp v72 v68.toInt64) = 0) (r7 (u6 + (6 : Int32))) (asr ((0 : Int32) = 0 ∨ (0 : Int32) = 1) (rt (0 : Int32)))) (r7 (u6 + (6 : Int32)))) (asr ((0 : Int32) = 0 ∨ (0 : Int32) = 1) (rt (0 : Int32)))) (cnd (((gx g u6.toNatClampNeg) &&& (63 : Int32)) = (6 : Int32)) (asr (vp_in (u6 + (1 : Int32)) (gn g)) <| bn0 (f_X0_weakest (idc 0 i1) (gx g (u6 + (1 : Int32)).toNatClampNeg) i5) fun v76 => asr (vp_in (u6 + (1 : Int32)) (gn g)) <| bn0 (f_X5_weakest i3 (gx g (u6 + (1 : Int32)).toNatClampNeg)) fun v78 => bn0 (f_X5_thrown i3) fun v79 => cnd (v79 = v76) (cnd (v76 = 0) (aJ 34 i5 (0 : Int32) fun v82 => cnd ((lg_cmp v82 v78.toInt64) = 0) (r7 (u6 + (6 : Int32))) (asr ((0 : Int32) = 0 ∨ (0 : Int32) = 1) (rt (0 : Int32)))) (r7 (u6 + (6 : Int32)))) (asr ((0 : Int32) = 0 ∨ (0 : Int32) = 1) (rt (0 : Int32)))) (cnd (((gx g u6.toNatClampNeg) &&& (63 : Int32)) = (7 : Int32)) (asr (vp_in (u6 + (1 : Int32)) (gn g)) <| asr (vp_in (u6 + (2 : Int32)) (gn g)) <| asr (vp_in (u6 + (3 : Int32)) (gn g)) <| bnd (ρ := _) (α := Int32) (cnd ((gx g (u6 + (3 : Int32)).toNatClampNeg) = 0) (rt (0 : Int32)) (rt (1 : Int32))) (fun u88 => bn0 (f_X0_points (idc 0 i1) (gx g (u6 + (1 : Int32)).toNatClampNeg) (gx g (u6 + (2 : Int32)).toNatClampNeg) u88 i5) fun v89 => asr (vp_in (u6 + (1 : Int32)) (gn g)) <| asr (vp_in (u6 + (2 : Int32)) (gn g)) <| asr (vp_in (u6 + (3 : Int32)) (gn g)) <| bnd (ρ := _) (α := Int32) (cnd ((gx g (u6 + (3 : Int32)).toNatClampNeg) = 0) (rt (0 : Int32)) (rt (1 : Int32))) (fun u93 => bn0 (f_X5_points i3 (gx g (u6 + (1 : Int32)).toNatClampNeg) (gx g (u6 + (2 : Int32)).toNatClampNeg) u93) fun v94 => bn0 (f_X5_thrown i3) fun v95 => cnd (v95 = v89) (cnd (v89 = 0) (aJ 34 i5 (0 : Int32) fun v98 => cnd ((lg_cmp v98 v94.toInt64) = 0) (r7 (u6 + (6 : Int32))) (asr ((0 : Int32) = 0 ∨ (0 : Int32) = 1) (rt (0 : Int32)))) (r7 (u6 + (6 : Int32)))) (asr ((0 : Int32) = 0 ∨ (0 : Int32) = 1) (rt (0 : Int32)))))) (cnd (((gx g u6.toNatClampNeg) &&& (63 : Int32)) = (8 : Int32)) (asr (vp_in (u6 + (1 : Int32)) (gn g)) <| asr (vp_in (u6 + (2 : Int32)) (gn g)) <| asr (vp_in (u6 + (3 : Int32)) (gn g)) <| bn0 (f_X0_begin (idc 0 i1) (gx g (u6 + (1 : Int32)).toNatClampNeg) (gx g (u6 + (2 : Int32)).toNatClampNeg) (gx g (u6 + (3 : Int32)).toNatClampNeg) i5) fun v108 => asr (vp_in (u6 + (1 : Int32)) (gn g)) <| asr (vp_in (u6 + (2 : Int32)) (gn g)) <| asr (vp_in (u6 + (3 : Int32)) (gn g)) <| bn0 (f_X5_begin i3 (gx g (u6 + (1 : Int32)).toNatClampNeg) (gx g (u6 + (2 : Int32)).toNatClampNeg) (gx g (u6 + (3 : Int32)).toNatClampNeg)) fun v112 => bn0 (f_X5_thrown i3) fun v113 => cnd (v113 = v108) (cnd (v108 = 0) (aJ 34 i5 (0 : Int32) fun v116 => cnd ((lg_cmp v116 v112.toInt64) = 0) (r7 (u6 + (6 : Int32))) (asr ((0 : Int32) = 0 ∨ (0 : Int32) = 1) (rt (0 : Int32)))) (r7 (u6 + (6 : Int32)))) (asr ((0 : Int32) = 0 ∨ (0 : Int32) = 1) (rt (0 : Int32)))) (cnd (((gx g u6.toNatClampNeg) &&& (63 : Int32)) = (9 : Int32)) (asr (vp_in (u6 + (1 : Int32)) (gn g)) <| asr (vp_in (u6 + (2 : Int32)) (gn g)) <| bnd (ρ := _) (α := Int32) (cnd ((gx g (u6 + (2 : Int32)).toNatClampNeg) = 0) (rt (0 : Int32)) (rt (1 : Int32))) (fun u121 => asr (vp_in (u6 + (3 : Int32)) (gn g)) <| bn0 (f_X0_answer (idc 0 i1) (gx g (u6 + (1 : Int32)).toNatClampNeg) u121 (gx g (u6 + (3 : Int32)).toNatClampNeg) i5) fun v123 => asr (vp_in (u6 + (1 : Int32)) (gn g)) <| asr (vp_in (u6 + (2 : Int32)) (gn g)) <| bnd (ρ := _) (α := Int32) (cnd ((gx g (u6 + (2 : Int32)).toNatClampNeg) = 0) (rt (0 : Int32)) (rt (1 : Int32))) (fun u126 => asr (vp_in (u6 + (3 : Int32)) (gn g)) <| bn0 (f_X5_answer i3 (gx g (u6 + (1 : Int32)).toNatClampNeg) u126 (gx g (u6 + (3 : Int32)).toNatClampNeg)) fun v128 => bn0 (f_X5_thrown i3) fun v129 => cnd (v129 = v123) (cnd (v123 = 0) (aJ 34 i5 (0 : Int32) fun v132 => cnd ((lg_cmp v132 v128.toInt64) = 0) (r7 (u6 + (6 : Int32))) (asr ((0 : Int32) = 0 ∨ (0 : Int32) = 1) (rt (0 : Int32)))) (r7 (u6 + (6 : Int32)))) (asr ((0 : Int32) = 0 ∨ (0 : Int32) = 1) (rt (0 : Int32)))))) (cnd (((gx g u6.toNatClampNeg) &&& (63 : Int32)) = (10 : Int32)) (asr (vp_in (u6 + (1 : Int32)) (gn g)) <| bn0 (f_X0_state (idc 0 i1) (gx g (u6 + (1 : Int32)).toNatClampNeg) i5) fun v140 => asr (vp_in (u6 + (1 : Int32)) (gn g)) <| bn0 (f_X5_state i3 (gx g (u6 + (1 : Int32)).toNatClampNeg)) fun v142 => bn0 (f_X5_thrown i3) fun v143 => cnd (v143 = v140) (cnd (v140 = 0) (aJ 34 i5 (0 : Int32) fun v146 => cnd ((lg_cmp v146 v142.toInt64) = 0) (r7 (u6 + (6 : Int32))) (asr ((0 : Int32) = 0 ∨ (0 : Int32) = 1) (rt (0 : Int32)))) (r7 (u6 + (6 : Int32)))) (asr ((0 : Int32) = 0 ∨ (0 : Int32) = 1) (rt (0 : Int32)))) (cnd (((gx g u6.toNatClampNeg) &&& (63 : Int32)) = (11 : Int32)) (asr (vp_in (u6 + (1 : Int32)) (gn g)) <| bn0 (f_X0_asked (idc 0 i1) (gx g (u6 + (1 : Int32)).toNatClampNeg) i5) fun v150 => asr (vp_in (u6 + (1 : Int32)) (gn g)) <| bn0 (f_X5_asked i3 (gx g (u6 + (1 : Int32)).toNatClampNeg)) fun v152 => bn0 (f_X5_thrown i3) fun v153 => cnd (v153 = v150) (cnd (v150 = 0) (aJ 34 i5 (0 : Int32) fun v156 => cnd ((lg_cmp v156 v152.toInt64) = 0) (r7 (u6 + (6 : Int32))) (asr ((0 : Int32) = 0 ∨ (0 : Int32) = 1) (rt (0 : Int32)))) (r7 (u6 + (6 : Int32)))) (asr ((0 : Int32) = 0 ∨ (0 : Int32) = 1) (rt (0 : Int32)))) (cnd (((gx g u6.toNatClampNeg) &&& (63 : Int32)) = (12 : Int32)) (asr (vp_in (u6 + (1 : Int32)) (gn g)) <| bn0 (f_X0_sessionOf (idc 0 i1) (gx g (u6 + (1 : Int32)).toNatClampNeg) i5) fun v160 => asr (vp_in (u6 + (1 : Int32)) (gn g)) <| bn0 (f_X5_sessionOf i3 (gx g (u6 + (1 : Int32)).toNatClampNeg)) fun v162 => bn0 (f_X5_thrown i3) fun v163 => cnd (v163 = v160) (cnd (v160 = 0) (aJ 34 i5 (0 : Int32) fun v166 => cnd ((lg_cmp v166 v162.toInt64) = 0) (r7 (u6 + (6 : Int32))) (asr ((0 : Int32) = 0 ∨ (0 : Int32) = 1) (rt (0 : Int32)))) (r7 (u6 + (6 : Int32)))) (asr ((0 : Int32) = 0 ∨ (0 : Int32) = 1) (rt (0 : Int32)))) (cnd (((gx g u6.toNatClampNeg) &&& (63 : Int32)) = (13 : Int32)) (asr (vp_in (u6 + (1 : Int32)) (gn g)) <| bn0 (f_X0_risk (idc 0 i1) (gx g (u6 + (1 : Int32)).toNatClampNeg) i5) fun v170 => asr (vp_in (u6 + (1 : Int32)) (gn g)) <| bn0 (f_X5_risk i3 (gx g (u6 + (1 : Int32)).toNatClampNeg)) fun v172 => bn0 (f_X5_thrown i3) fun v173 => cnd (v173 = v170) (cnd (v170 = 0) (aJ 34 i5 (0 : Int32) fun v176 => cnd ((lg_cmp v176 v172.toInt64) = 0) (r7 (u6 + (6 : Int32))) (asr ((0 : Int32) = 0 ∨ (0 : Int32) = 1) (rt (0 : Int32)))) (r7 (u6 + (6 : Int32)))) (asr ((0 : Int32) = 0 ∨ (0 : Int32) = 1) (rt (0 : Int32)))) (cnd (((gx g u6.toNatClampNeg) &&& (63 : Int32)) = (14 : Int32)) (asr (vp_in (u6 + (1 : Int32)) (gn g)) <| bn0 (f_X0_trialRisk (idc 0 i1) (gx g (u6 + (1 : Int32)).toNatClampNeg) i5) fun v180 => asr (vp_in (u6 + (1 : Int32)) (gn g)) <| bn0 (f_X5_trialRisk i3 (gx g (u6 + (1 : Int32)).toNatClampNeg)) fun v182 => bn0 (f_X5_thrown i3) fun v183 => cnd (v183 = v180) (cnd (v180 = 0) (aJ 34 i5 (0 : Int32) fun v186 => cnd ((lg_cmp v186 v182.toInt64) = 0) (r7 (u6 + (6 : Int32))) (asr ((0 : Int32) = 0 ∨ (0 : Int32) = 1) (rt (0 : Int32)))) (r7 (u6 + (6 : Int32)))) (asr ((0 : Int32) = 0 ∨ (0 : Int32) = 1) (rt (0 : Int32)))) (cnd (((gx g u6.toNatClampNeg) &&& (63 : Int32)) = (15 : Int32)) (bn0 (f_X1_sessions i1) fun v189 => bn0 (f_X5_sessions i3) fun v190 => cnd (v189 = v190) (r7 (u6 + (6 : Int32))) (asr ((0 : Int32) = 0 ∨ (0 : Int32) = 1) (rt (0 : Int32)))) (cnd (((gx g u6.toNatClampNeg) &&& (63 : Int32)) = (16 : Int32)) (asr (vp_in (u6 + (1 : Int32)) (gn g)) <| bn0 (f_X0_isLive (idc 0 i1) (gx g (u6 + (1 : Int32)).toNatClampNeg) i5) fun v194 => asr (vp_in (u6 + (1 : Int32)) (gn g)) <| bn0 (f_X5_isLive i3 (gx g (u6 + (1 : Int32)).toNatClampNeg)) fun v196 => bn0 (f_X5_thrown i3) fun v197 => cnd (v197 = v194) (cnd (v194 = 0) (aJ 34 i5 (0 : Int32) fun v200 => bnd (ρ := _) (α := Int64) (cnd (v196 = 0) (rt (0 : Int64)) (rt (1 : Int64))) (fun u201 => cnd ((lg_cmp v200 u201) = 0) (r7 (u6 + (6 : Int32))) (asr ((0 : Int32) = 0 ∨ (0 : Int32) = 1) (rt (0 : Int32))))) (r7 (u6 + (6 : Int32)))) (asr ((0 : Int32) = 0 ∨ (0 : Int32) = 1) (rt (0 : Int32)))) (cnd (((gx g u6.toNatClampNeg) &&& (63 : Int32)) = (17 : Int32)) (asr (vp_in (u6 + (1 : Int32)) (gn g)) <| bn0 (f_X0_isLiveByAudit (idc 0 i1) (gx g (u6 + (1 : Int32)).toNatClampNeg) i5) fun v207 => asr (vp_in (u6 + (1 : Int32)) (gn g)) <| bn0 (f_X5_isLiveByAudit i3 (gx g (u6 + (1 : Int32)).toNatClampNeg)) fun v209 => bn0 (f_X5_thrown i3) fun v210 => cnd (v210 = v207) (cnd (v207 = 0) (aJ 34 i5 (0 : Int32) fun v213 => bnd (ρ := _) (α := Int64) (cnd (v209 = 0) (rt (0 : Int64)) (rt (1 : Int64))) (fun u214 => cnd ((lg_cmp v213 u214) = 0) (r7 (u6 + (6 : Int32))) (asr ((0 : Int32) = 0 ∨ (0 : Int32) = 1) (rt (0 : Int32))))) (r7 (u6 + (6 : Int32)))) (asr ((0 : Int32) = 0 ∨ (0 : Int32) = 1) (rt (0 : Int32)))) (cnd (((gx g u6.toNatClampNeg) &&& (63 : Int32)) = (18 : Int32)) (asr (vp_in (u6 + (1 : Int32)) (gn g)) <| bn0 (f_X0_level (idc 0 i1) (gx g (u6 + (1 : Int32)).toNatClampNeg) i5) fun v220 => asr (vp_in (u6 + (1 : Int32)) (gn g)) <| bn0 (f_X5_level i3 (gx g (u6 + (1 : Int32)).toNatClampNeg)) fun v222 => bn0 (f_X5_thrown i3) fun v223 => cnd (v223 = v220) (cnd (v220 = 0) (aJ 34 i5 (0 : Int32) fun v226 => cnd ((lg_cmp v226 v222.toInt64) = 0) (r7 (u6 + (6 : Int32))) (asr ((0 : Int32) = 0 ∨ (0 : Int32) = 1) (rt (0 : Int32)))) (r7 (u6 + (6 : Int32)))) (asr ((0 : Int32) = 0 ∨ (0 : Int32) = 1) (rt (0 : Int32)))) (cnd (((gx g u6.toNatClampNeg) &&& (63 : Int32)) = (19 : Int32)) (asr (vp_in (u6 + (1 : Int32)) (gn g)) <| asr (vp_in (u6 + (2 : Int32)) (gn g)) <| asr (vp_in (u6 + (3 : Int32)) (gn g)) <| bnd (ρ := _) (α := Int32) (cnd ((gx g (u6 + (3 : Int32)).toNatClampNeg) = 0) (rt (0 : Int32)) (rt (1 : Int32))) (fun u232 => asr (vp_in (u6 + (4 : Int32)) (gn g)) <| bn0 (f_X0_stepUp (idc 0 i1) (gx g (u6 + (1 : Int32)).toNatClampNeg) (gx g (u6 + (2 : Int32)).toNatClampNeg) u232 (gx g (u6 + (4 : Int32)).toNatClampNeg) i5) fun v234 => asr (vp_in (u6 + (1 : Int32)) (gn g)) <| asr (vp_in (u6 + (2 : Int32)) (gn g)) <| asr (vp_in (u6 + (3 : Int32)) (gn g)) <| bnd (ρ := _) (α := Int32) (cnd ((gx g (u6 + (3 : Int32)).toNatClampNeg) = 0) (rt (0 : Int32)) (rt (1 : Int32))) (fun u238 => asr (vp_in (u6 + (4 : Int32)) (gn g)) <| bn0 (f_X5_stepUp i3 (gx g (u6 + (1 : Int32)).toNatClampNeg) (gx g (u6 + (2 : Int32)).toNatClampNeg) u238 (gx g (u6 + (4 : Int32)).toNatClampNeg)) fun v240 => bn0 (f_X5_thrown i3) fun v241 => cnd (v241 = v234) (cnd (v234 = 0) (aJ 34 i5 (0 : Int32) fun v244 => cnd ((lg_cmp v244 v240.toInt64) = 0) (r7 (u6 + (6 : Int32))) (asr ((0 : Int32) = 0 ∨ (0 : Int32) = 1) (rt (0 : Int32)))) (r7 (u6 + (6 : Int32)))) (asr ((0 : Int32) = 0 ∨ (0 : Int32) = 1) (rt (0 : Int32)))))) (cnd (((gx g u6.toNatClampNeg) &&& (63 : Int32)) = (20 : Int32)) (asr (vp_in (u6 + (1 : Int32)) (gn g)) <| bn0 (f_X0_signOut (idc 0 i1) (gx g (u6 + (1 : Int32)).toNatClampNeg) i5) fun v252 => asr (vp_in (u6 + (1 : Int32)) (gn g)) <| bn0 (f_X5_signOut i3 (gx g (u6 + (1 : Int32)).toNatClampNeg)) fun v254 => bn0 (f_X5_thrown i3) fun v255 => cnd (v255 = v252) (cnd (v252 = 0) (aJ 34 i5 (0 : Int32) fun v258 => cnd ((lg_cmp v258 v254.toInt64) = 0) (r7 (u6 + (6 : Int32))) (asr ((0 : Int32) = 0 ∨ (0 : Int32) = 1) (rt (0 : Int32)))) (r7 (u6 + (6 : Int32)))) (asr ((0 : Int32) = 0 ∨ (0 : Int32) = 1) (rt (0 : Int32)))) (cnd (((gx g u6.toNatClampNeg) &&& (63 : Int32)) = (21 : Int32)) (asr (vp_in (u6 + (1 : Int32)) (gn g)) <| bn0 (f_X0_helper (idc 0 i1) (gx g (u6 + (1 : Int32)).toNatClampNeg) i5) fun v262 => asr (vp_in (u6 + (1 : Int32)) (gn g)) <| bn0 (f_X5_helper i3 (gx g (u6 + (1 : Int32)).toNatClampNeg)) fun v264 => bn0 (f_X5_thrown i3) fun v265 => cnd (v265 = v262) (cnd (v262 = 0) (aJ 34 i5 (0 : Int32) fun v268 => bnd (ρ := _) (α := Int64) (cnd (v264 = 0) (rt (0 : Int64)) (rt (1 : Int64))) (fun u269 => cnd ((lg_cmp v268 u269) = 0) (r7 (u6 + (6 : Int32))) (asr ((0 : Int32) = 0 ∨ (0 : Int32) = 1) (rt (0 : Int32))))) (r7 (u6 + (6 : Int32)))) (asr ((0 : Int32) = 0 ∨ (0 : Int32) = 1) (rt (0 : Int32)))) (cnd (((gx g u6.toNatClampNeg) &&& (63 : Int32)) = (22 : Int32)) (asr (vp_in (u6 + (1 : Int32)) (gn g)) <| asr (vp_in (u6 + (2 : Int32)) (gn g)) <| bn0 (f_X0_act (idc 0 i1) (gx g (u6 + (1 : Int32)).toNatClampNeg) (gx g (u6 + (2 : Int32)).toNatClampNeg) i5) fun v276 => asr (vp_in (u6 + (1 : Int32)) (gn g)) <| asr (vp_in (u6 + (2 : Int32)) (gn g)) <| bn0 (f_X5_act i3 (gx g (u6 + (1 : Int32)).toNatClampNeg) (gx g (u6 + (2 : Int32)).toNatClampNeg)) fun v279 => bn0 (f_X5_thrown i3) fun v280 => cnd (v280 = v276) (cnd (v276 = 0) (aJ 34 i5 (0 : Int32) fun v283 => cnd ((lg_cmp v283 v279.toInt64) = 0) (r7 (u6 + (6 : Int32))) (asr ((0 : Int32) = 0 ∨ (0 : Int32) = 1) (rt (0 : Int32)))) (r7 (u6 + (6 : Int32)))) (asr ((0 : Int32) = 0 ∨ (0 : Int32) = 1) (rt (0 : Int32)))) (cnd (((gx g u6.toNatClampNeg) &&& (63 : Int32)) = (23 : Int32)) (asr (vp_in (u6 + (1 : Int32)) (gn g)) <| asr (vp_in (u6 + (2 : Int32)) (gn g)) <| asr (vp_in (u6 + (3 : Int32)) (gn g)) <| bn0 (f_X0_consent (idc 0 i1) (gx g (u6 + (1 : Int32)).toNatClampNeg) (gx g (u6 + (2 : Int32)).toNatClampNeg) (gx g (u6 + (3 : Int32)).toNatClampNeg) i5) fun v289 => asr (vp_in (u6 + (1 : Int32)) (gn g)) <| asr (vp_in (u6 + (2 : Int32)) (gn g)) <| asr (vp_in (u6 + (3 : Int32)) (gn g)) <| bn0 (f_X5_consent i3 (gx g (u6 + (1 : Int32)).toNatClampNeg) (gx g (u6 + (2 : Int32)).toNatClampNeg) (gx g (u6 + (3 : Int32)).toNatClampNeg)) fun v293 => bn0 (f_X5_thrown i3) fun v294 => cnd (v294 = v289) (cnd (v289 = 0) (aJ 34 i5 (0 : Int32) fun v297 => cnd ((lg_cmp v297 v293.toInt64) = 0) (r7 (u6 + (6 : Int32))) (asr ((0 : Int32) = 0 ∨ (0 : Int32) = 1) (rt (0 : Int32)))) (r7 (u6 + (6 : Int32)))) (asr ((0 : Int32) = 0 ∨ (0 : Int32) = 1) (rt (0 : Int32)))) (cnd (((gx g u6.toNatClampNeg) &&& (63 : Int32)) = (24 : Int32)) (asr (vp_in (u6 + (1 : Int32)) (gn g)) <| asr (vp_in (u6 + (2 : Int32)) (gn g)) <| bn0 (f_X0_withdraw (idc 0 i1) (gx g (u6 + (1 : Int32)).toNatClampNeg) (gx g (u6 + (2 : Int32)).toNatClampNeg) i5) fun v302 => asr (vp_in (u6 + (1 : Int32)) (gn g)) <| asr (vp_in (u6 + (2 : Int32)) (gn g)) <| bn0 (f_X5_withdraw i3 (gx g (u6 + (1 : Int32)).toNatClampNeg) (gx g (u6 + (2 : Int32)).toNatClampNeg)) fun v305 => bn0 (f_X5_thrown i3) fun v306 => cnd (v306 = v302) (cnd (v302 = 0) (aJ 34 i5 (0 : Int32) fun v309 => cnd ((lg_cmp v309 v305.toInt64) = 0) (r7 (u6 + (6 : Int32))) (asr ((0 : Int32) = 0 ∨ (0 : Int32) = 1) (rt (0 : Int32)))) (r7 (u6 + (6 : Int32)))) (asr ((0 : Int32) = 0 ∨ (0 : Int32) = 1) (rt (0 : Int32)))) (cnd (((gx g u6.toNatClampNeg) &&& (63 : Int32)) = (25 : Int32)) (asr (vp_in (u6 + (1 : Int32)) (gn g)) <| asr (vp_in (u6 + (2 : Int32)) (gn g)) <| bn0 (f_X0_need (idc 0 i1) (gx g (u6 + (1 : Int32)).toNatClampNeg) (gx g (u6 + (2 : Int32)).toNatClampNeg) i5) fun v314 => asr (vp_in (u6 + (1 : Int32)) (gn g)) <| asr (vp_in (u6 + (2 : Int32)) (gn g)) <| bn0 (f_X5_need i3 (gx g (u6 + (1 : Int32)).toNatClampNeg) (gx g (u6 + (2 : Int32)).toNatClampNeg)) fun v317 => bn0 (f_X5_thrown i3) fun v318 => cnd (v318 = v314) (cnd (v314 = 0) (aJ 34 i5 (0 : Int32) fun v321 => cnd ((lg_cmp v321 v317.toInt64) = 0) (r7 (u6 + (6 : Int32))) (asr ((0 : Int32) = 0 ∨ (0 : Int32) = 1) (rt (0 : Int32)))) (r7 (u6 + (6 : Int32)))) (asr ((0 : Int32) = 0 ∨ (0 : Int32) = 1) (rt (0 : Int32)))) (cnd (((gx g u6.toNatClampNeg) &&& (63 : Int32)) = (26 : Int32)) (asr (vp_in (u6 + (1 : Int32)) (gn g)) <| asr (vp_in (u6 + (2 : Int32)) (gn g)) <| asr (vp_in (u6 + (3 : Int32)) (gn g)) <| asr (vp_in (u6 + (4 : Int32)) (gn g)) <| bn0 (f_X0_authorize (idc 0 i1) (gx g (u6 + (1 : Int32)).toNatClampNeg) (gx g (u6 + (2 : Int32)).toNatClampNeg) (gx g (u6 + (3 : Int32)).toNatClampNeg) (gx g (u6 + (4 : Int32)).toNatClampNeg) i5) fun v328 => asr (vp_in (u6 + (1 : Int32)) (gn g)) <| asr (vp_in (u6 + (2 : Int32)) (gn g)) <| asr (vp_in (u6 + (3 : Int32)) (gn g)) <| asr (vp_in (u6 + (4 : Int32)) (gn g)) <| bn0 (f_X5_authorize i3 (gx g (u6 + (1 : Int32)).toNatClampNeg) (gx g (u6 + (2 : Int32)).toNatClampNeg) (gx g (u6 + (3 : Int32)).toNatClampNeg) (gx g (u6 + (4 : Int32)).toNatClampNeg)) fun v333 => bn0 (f_X5_thrown i3) fun v334 => cnd (v334 = v328) (cnd (v328 = 0) (aJ 34 i5 (0 : Int32) fun v337 => cnd ((lg_cmp v337 v333.toInt64) = 0) (r7 (u6 + (6 : Int32))) (asr ((0 : Int32) = 0 ∨ (0 : Int32) = 1) (rt (0 : Int32)))) (r7 (u6 + (6 : Int32)))) (asr ((0 : Int32) = 0 ∨ (0 : Int32) = 1) (rt (0 : Int32)))) (cnd (((gx g u6.toNatClampNeg) &&& (63 : Int32)) = (27 : Int32)) (asr (vp_in (u6 + (1 : Int32)) (gn g)) <| bn0 (f_X0_redeem (idc 0 i1) (gx g (u6 + (1 : Int32)).toNatClampNeg) i5) fun v341 => asr (vp_in (u6 + (1 : Int32)) (gn g)) <| bn0 (f_X5_redeem i3 (gx g (u6 + (1 : Int32)).toNatClampNeg)) fun v343 => bn0 (f_X5_thrown i3) fun v344 => cnd (v344 = v341) (cnd (v341 = 0) (aJ 34 i5 (0 : Int32) fun v347 => cnd ((lg_cmp v347 v343.toInt64) = 0) (r7 (u6 + (6 : Int32))) (asr ((0 : Int32) = 0 ∨ (0 : Int32) = 1) (rt (0 : Int32)))) (r7 (u6 + (6 : Int32)))) (asr ((0 : Int32) = 0 ∨ (0 : Int32) = 1) (rt (0 : Int32)))) (cnd (((gx g u6.toNatClampNeg) &&& (63 : Int32)) = (28 : Int32)) (asr (vp_in (u6 + (1 : Int32)) (gn g)) <| asr (vp_in (u6 + (2 : Int32)) (gn g)) <| bn0 (f_X0_refresh (idc 0 i1) (gx g (u6 + (1 : Int32)).toNatClampNeg) (gx g (u6 + (2 : Int32)).toNatClampNeg) i5) fun v352 => asr (vp_in (u6 + (1 : Int32)) (gn g)) <| asr (vp_in (u6 + (2 : Int32)) (gn g)) <| bn0 (f_X5_refresh i3 (gx g (u6 + (1 : Int32)).toNatClampNeg) (gx g (u6 + (2 : Int32)).toNatClampNeg)) fun v355 => bn0 (f_X5_thrown i3) fun v356 => cnd (v356 = v352) (cnd (v352 = 0) (aJ 34 i5 (0 : Int32) fun v359 => cnd ((lg_cmp v359 v355.toInt64) = 0) (r7 (u6 + (6 : Int32))) (asr ((0 : Int32) = 0 ∨ (0 : Int32) = 1) (rt (0 : Int32)))) (r7 (u6 + (6 : Int32)))) (asr ((0 : Int32) = 0 ∨ (0 : Int32) = 1) (rt (0 : Int32)))) (cnd (((gx g u6.toNatClampNeg) &&& (63 : Int32)) = (29 : Int32)) (asr (vp_in (u6 + (1 : Int32)) (gn g)) <| bn0 (f_X0_isGood (idc 0 i1) (gx g (u6 + (1 : Int32)).toNatClampNeg) i5) fun v363 => asr (vp_in (u6 + (1 : Int32)) (gn g)) <| bn0 (f_X5_isGood i3 (gx g (u6 + (1 : Int32)).toNatClampNeg)) fun v365 => bn0 (f_X5_thrown i3) fun v366 => cnd (v366 = v363) (cnd (v363 = 0) (aJ 34 i5 (0 : Int32) fun v369 => bnd (ρ := _) (α := Int64) (cnd (v365 = 0) (rt (0 : Int64)) (rt (1 : Int64))) (fun u370 => cnd ((lg_cmp v369 u370) = 0) (r7 (u6 + (6 : Int32))) (asr ((0 : Int32) = 0 ∨ (0 : Int32) = 1) (rt (0 : Int32))))) (r7 (u6 + (6 : Int32)))) (asr ((0 : Int32) = 0 ∨ (0 : Int32) = 1) (rt (0 : Int32)))) (cnd (((gx g u6.toNatClampNeg) &&& (63 : Int32)) = (30 : Int32)) (asr (vp_in (u6 + (1 : Int32)) (gn g)) <| bn0 (f_X0_tokenOf (idc 0 i1) (gx g (u6 + (1 : Int32)).toNatClampNeg) i5) fun v376 => asr (vp_in (u6 + (1 : Int32)) (gn g)) <| bn0 (f_X5_tokenOf i3 (gx g (u6 + (1 : Int32)).toNatClampNeg)) fun v378 => bn0 (f_X5_thrown i3) fun v379 => cnd (v379 = v376) (cnd (v376 = 0) (aJ 34 i5 (0 : Int32) fun v382 => cnd ((lg_cmp v382 v378.toInt64) = 0) (r7 (u6 + (6 : Int32))) (asr ((0 : Int32) = 0 ∨ (0 : Int32) = 1) (rt (0 : Int32)))) (r7 (u6 + (6 : Int32)))) (asr ((0 : Int32) = 0 ∨ (0 : Int32) = 1) (rt (0 : Int32)))) (cnd (((gx g u6.toNatClampNeg) &&& (63 : Int32)) = (31 : Int32)) (asr (vp_in (u6 + (1 : Int32)) (gn g)) <| asr (vp_in (u6 + (2 : Int32)) (gn g)) <| asr (vp_in (u6 + (3 : Int32)) (gn g)) <| bn0 (f_X0_exchange (idc 0 i1) (gx g (u6 + (1 : Int32)).toNatClampNeg) (gx g (u6 + (2 : Int32)).toNatClampNeg) (gx g (u6 + (3 : Int32)).toNatClampNeg) i5) fun v388 => asr (vp_in (u6 + (1 : Int32)) (gn g)) <| asr (vp_in (u6 + (2 : Int32)) (gn g)) <| asr (vp_in (u6 + (3 : Int32)) (gn g)) <| bn0 (f_X5_exchange i3 (gx g (u6 + (1 : Int32)).toNatClampNeg) (gx g (u6 + (2 : Int32)).toNatClampNeg) (gx g (u6 + (3 : Int32)).toNatClampNeg)) fun v392 => bn0 (f_X5_thrown i3) fun v393 => cnd (v393 = v388) (cnd (v388 = 0) (aJ 34 i5 (0 : Int32) fun v396 => cnd ((lg_cmp v396 v392.toInt64) = 0) (r7 (u6 + (6 : Int32))) (asr ((0 : Int32) = 0 ∨ (0 : Int32) = 1) (rt (0 : Int32)))) (r7 (u6 + (6 : Int32)))) (asr ((0 : Int32) = 0 ∨ (0 : Int32) = 1) (rt (0 : Int32)))) (cnd (((gx g u6.toNatClampNeg) &&& (63 : Int32)) = (32 : Int32)) (asr (vp_in (u6 + (1 : Int32)) (gn g)) <| bn0 (f_X0_token (idc 0 i1) (gx g (u6 + (1 : Int32)).toNatClampNeg) i5) fun v400 => asr (vp_in (u6 + (1 : Int32)) (gn g)) <| bn0 (f_X5_token i3 (gx g (u6 + (1 : Int32)).toNatClampNeg)) fun v402 => bn0 (f_X5_thrown i3) fun v403 => cnd (v403 = v400) (cnd (v400 = 0) (aJ 34 i5 (0 : Int32) fun v406 => cnd ((lg_cmp v406 v402.toInt64) = 0) (r7 (u6 + (6 : Int32))) (asr ((0 : Int32) = 0 ∨ (0 : Int32) = 1) (rt (0 : Int32)))) (r7 (u6 + (6 : Int32)))) (asr ((0 : Int32) = 0 ∨ (0 : Int32) = 1) (rt (0 : Int32)))) (cnd (((gx g u6.toNatClampNeg) &&& (63 : Int32)) = (33 : Int32)) (bn0 (f_X0_turn (idc 0 i1) i5) fun v409 => bn0 (f_X5_turn i3) fun v410 => bn0 (f_X5_thrown i3) fun v411 => cnd (v411 = v409) (cnd (v409 = 0) (aJ 34 i5 (0 : Int32) fun v414 => cnd ((lg_cmp v414 v410.toInt64) = 0) (r7 (u6 + (6 : Int32))) (asr ((0 : Int32) = 0 ∨ (0 : Int32) = 1) (rt (0 : Int32)))) (r7 (u6 + (6 : Int32)))) (asr ((0 : Int32) = 0 ∨ (0 : Int32) = 1) (rt (0 : Int32)))) (cnd (((gx g u6.toNatClampNeg) &&& (63 : Int32)) = (34 : Int32)) (bn0 (f_X0_emergency (idc 0 i1) i5) fun v417 => bn0 (f_X5_emergency i3) fun v418 => bn0 (f_X5_thrown i3) fun v419 => cnd (v419 = v417) (cnd (v417 = 0) (aJ 34 i5 (0 : Int32) fun v422 => cnd ((lg_cmp v422 v418.toInt64) = 0) (r7 (u6 + (6 : Int32))) (asr ((0 : Int32) = 0 ∨ (0 : Int32) = 1) (rt (0 : Int32)))) (r7 (u6 + (6 : Int32)))) (asr ((0 : Int32) = 0 ∨ (0 : Int32) = 1) (rt (0 : Int32)))) (cnd (((gx g u6.toNatClampNeg) &&& (63 : Int32)) = (35 : Int32)) (bn0 (f_X1_signing i1) fun v425 => bn0 (f_X5_signing i3) fun v426 => cnd (v425 = v426) (r7 (u6 + (6 : Int32))) (asr ((0 : Int32) = 0 ∨ (0 : Int32) = 1) (rt (0 : Int32)))) (cnd (((gx g u6.toNatClampNeg) &&& (63 : Int32)) = (36 : Int32)) (asr (vp_in (u6 + (1 : Int32)) (gn g)) <| bn0 (f_X0_isPublished (idc 0 i1) (gx g (u6 + (1 : Int32)).toNatClampNeg) i5) fun v430 => asr (vp_in (u6 + (1 : Int32)) (gn g)) <| bn0 (f_X5_isPublished i3 (gx g (u6 + (1 : Int32)).toNatClampNeg)) fun v432 => bn0 (f_X5_thrown i3) fun v433 => cnd (v433 = v430) (cnd (v430 = 0) (aJ 34 i5 (0 : Int32) fun v436 => bnd (ρ := _) (α := Int64) (cnd (v432 = 0) (rt (0 : Int64)) (rt (1 : Int64))) (fun u437 => cnd ((lg_cmp v436 u437) = 0) (r7 (u6 + (6 : Int32))) (asr ((0 : Int32) = 0 ∨ (0 : Int32) = 1) (rt (0 : Int32))))) (r7 (u6 + (6 : Int32)))) (asr ((0 : Int32) = 0 ∨ (0 : Int32) = 1) (rt (0 : Int32)))) (cnd (((gx g u6.toNatClampNeg) &&& (63 : Int32)) = (37 : Int32)) (asr (vp_in (u6 + (1 : Int32)) (gn g)) <| bn0 (f_X0_line (idc 0 i1) (gx g (u6 + (1 : Int32)).toNatClampNeg) i5) fun v443 => asr (vp_in (u6 + (1 : Int32)) (gn g)) <| bn0 (f_X5_line i3 (gx g (u6 + (1 : Int32)).toNatClampNeg)) fun v445 => bn0 (f_X5_thrown i3) fun v446 => cnd (v446 = v443) (cnd (v443 = 0) (aJ 34 i5 (0 : Int32) fun v449 => cnd ((lg_cmp v449 v445.toInt64) = 0) (r7 (u6 + (6 : Int32))) (asr ((0 : Int32) = 0 ∨ (0 : Int32) = 1) (rt (0 : Int32)))) (r7 (u6 + (6 : Int32)))) (asr ((0 : Int32) = 0 ∨ (0 : Int32) = 1) (rt (0 : Int32)))) (cnd (((gx g u6.toNatClampNeg) &&& (63 : Int32)) = (38 : Int32)) (asr (vp_in (u6 + (1 : Int32)) (gn g)) <| asr (vp_in (u6 + (2 : Int32)) (gn g)) <| asr (vp_in (u6 + (3 : Int32)) (gn g)) <| bn0 (f_X0_check (idc 0 i1) (gx g (u6 + (1 : Int32)).toNatClampNeg) (gx g (u6 + (2 : Int32)).toNatClampNeg) (gx g (u6 + (3 : Int32)).toNatClampNeg) i5) fun v455 => asr (vp_in (u6 + (1 : Int32)) (gn g)) <| asr (vp_in (u6 + (2 : Int32)) (gn g)) <| asr (vp_in (u6 + (3 : Int32)) (gn g)) <| bn0 (f_X5_check i3 (gx g (u6 + (1 : Int32)).toNatClampNeg) (gx g (u6 + (2 : Int32)).toNatClampNeg) (gx g (u6 + (3 : Int32)).toNatClampNeg)) fun v459 => bn0 (f_X5_thrown i3) fun v460 => cnd (v460 = v455) (cnd (v455 = 0) (aJ 34 i5 (0 : Int32) fun v463 => cnd ((lg_cmp v463 v459.toInt64) = 0) (r7 (u6 + (6 : Int32))) (asr ((0 : Int32) = 0 ∨ (0 : Int32) = 1) (rt (0 : Int32)))) (r7 (u6 + (6 : Int32)))) (asr ((0 : Int32) = 0 ∨ (0 : Int32) = 1) (rt (0 : Int32)))) (cnd (((gx g u6.toNatClampNeg) &&& (63 : Int32)) = (39 : Int32)) (asr (vp_in (u6 + (1 : Int32)) (gn g)) <| bn0 (f_X0_lag (idc 0 i1) (gx g (u6 + (1 : Int32)).toNatClampNeg) i5) fun v467 => asr (vp_in (u6 + (1 : Int32)) (gn g)) <| bn0 (f_X5_lag i3 (gx g (u6 + (1 : Int32)).toNatClampNeg)) fun v469 => bn0 (f_X5_thrown i3) fun v470 => cnd (v470 = v467) (cnd (v467 = 0) (aJ 34 i5 (0 : Int32) fun v473 => cnd ((lg_cmp v473 v469.toInt64) = 0) (r7 (u6 + (6 : Int32))) (asr ((0 : Int32) = 0 ∨ (0 : Int32) = 1) (rt (0 : Int32)))) (r7 (u6 + (6 : Int32)))) (asr ((0 : Int32) = 0 ∨ (0 : Int32) = 1) (rt (0 : Int32)))) (cnd (((gx g u6.toNatClampNeg) &&& (63 : Int32)) = (40 : Int32)) (asr (vp_in (u6 + (1 : Int32)) (gn g)) <| bn0 (f_X0_recover (idc 0 i1) (gx g (u6 + (1 : Int32)).toNatClampNeg) i5) fun v477 => asr (vp_in (u6 + (1 : Int32)) (gn g)) <| bn0 (f_X5_recover i3 (gx g (u6 + (1 : Int32)).toNatClampNeg)) fun v479 => bn0 (f_X5_thrown i3) fun v480 => cnd (v480 = v477) (cnd (v477 = 0) (aJ 34 i5 (0 : Int32) fun v483 => cnd ((lg_cmp v483 v479.toInt64) = 0) (r7 (u6 + (6 : Int32))) (asr ((0 : Int32) = 0 ∨ (0 : Int32) = 1) (rt (0 : Int32)))) (r7 (u6 + (6 : Int32)))) (asr ((0 : Int32) = 0 ∨ (0 : Int32) = 1) (rt (0 : Int32)))) (cnd (((gx g u6.toNatClampNeg) &&& (63 : Int32)) = (41 : Int32)) (asr (vp_in (u6 + (1 : Int32)) (gn g)) <| asr (vp_in (u6 + (2 : Int32)) (gn g)) <| bn0 (f_X0_vouch (idc 0 i1) (gx g (u6 + (1 : Int32)).toNatClampNeg) (gx g (u6 + (2 : Int32)).toNatClampNeg) i5) fun v488 => asr (vp_in (u6 + (1 : Int32)) (gn g)) <| asr (vp_in (u6 + (2 : Int32)) (gn g)) <| bn0 (f_X5_vouch i3 (gx g (u6 + (1 : Int32)).toNatClampNeg) (gx g (u6 + (2 : Int32)).toNatClampNeg)) fun v491 => bn0 (f_X5_thrown i3) fun v492 => cnd (v492 = v488) (cnd (v488 = 0) (aJ 34 i5 (0 : Int32) fun v495 => cnd ((lg_cmp v495 v491.toInt64) = 0) (r7 (u6 + (6 : Int32))) (asr ((0 : Int32) = 0 ∨ (0 : Int32) = 1) (rt (0 : Int32)))) (r7 (u6 + (6 : Int32)))) (asr ((0 : Int32) = 0 ∨ (0 : Int32) = 1) (rt (0 : Int32)))) (cnd (((gx g u6.toNatClampNeg) &&& (63 : Int32)) = (42 : Int32)) (asr (vp_in (u6 + (1 : Int32)) (gn g)) <| asr (vp_in (u6 + (2 : Int32)) (gn g)) <| bn0 (f_X0_stop (idc 0 i1) (gx g (u6 + (1 : Int32)).toNatClampNeg) (gx g (u6 + (2 : Int32)).toNatClampNeg) i5) fun v500 => asr (vp_in (u6 + (1 : Int32)) (gn g)) <| asr (vp_in (u6 + (2 : Int32)) (gn g)) <| bn0 (f_X5_stop i3 (gx g (u6 + (1 : Int32)).toNatClampNeg) (gx g (u6 + (2 : Int32)).toNatClampNeg)) fun v503 => bn0 (f_X5_thrown i3) fun v504 => cnd (v504 = v500) (cnd (v500 = 0) (aJ 34 i5 (0 : Int32) fun v507 => cnd ((lg_cmp v507 v503.toInt64) = 0) (r7 (u6 + (6 : Int32))) (asr ((0 : Int32) = 0 ∨ (0 : Int32) = 1) (rt (0 : Int32)))) (r7 (u6 + (6 : Int32)))) (asr ((0 : Int32) = 0 ∨ (0 : Int32) = 1) (rt (0 : Int32)))) (cnd (((gx g u6.toNatClampNeg) &&& (63 : Int32)) = (43 : Int32)) (asr (vp_in (u6 + (1 : Int32)) (gn g)) <| bn0 (f_X0_finish (idc 0 i1) (gx g (u6 + (1 : Int32)).toNatClampNeg) i5) fun v511 => asr (vp_in (u6 + (1 : Int32)) (gn g)) <| bn0 (f_X5_finish i3 (gx g (u6 + (1 : Int32)).toNatClampNeg)) fun v513 => bn0 (f_X5_thrown i3) fun v514 => cnd (v514 = v511) (cnd (v511 = 0) (aJ 34 i5 (0 : Int32) fun v517 => cnd ((lg_cmp v517 v513.toInt64) = 0) (r7 (u6 + (6 : Int32))) (asr ((0 : Int32) = 0 ∨ (0 : Int32) = 1) (rt (0 : Int32)))) (r7 (u6 + (6 : Int32)))) (asr ((0 : Int32) = 0 ∨ (0 : Int32) = 1) (rt (0 : Int32)))) (cnd (((gx g u6.toNatClampNeg) &&& (63 : Int32)) = (44 : Int32)) (asr (vp_in (u6 + (1 : Int32)) (gn g)) <| asr (vp_in (u6 + (2 : Int32)) (gn g)) <| bn0 (f_X0_link (idc 0 i1) (gx g (u6 + (1 : Int32)).toNatClampNeg) (gx g (u6 + (2 : Int32)).toNatClampNeg) i5) fun v522 => asr (vp_in (u6 + (1 : Int32)) (gn g)) <| asr (vp_in (u6 + (2 : Int32)) (gn g)) <| bn0 (f_X5_link i3 (gx g (u6 + (1 : Int32)).toNatClampNeg) (gx g (u6 + (2 : Int32)).toNatClampNeg)) fun v525 => bn0 (f_X5_thrown i3) fun v526 => cnd (v526 = v522) (cnd (v522 = 0) (aJ 34 i5 (0 : Int32) fun v529 => cnd ((lg_cmp v529 v525.toInt64) = 0) (r7 (u6 + (6 : Int32))) (asr ((0 : Int32) = 0 ∨ (0 : Int32) = 1) (rt (0 : Int32)))) (r7 (u6 + (6 : Int32)))) (asr ((0 : Int32) = 0 ∨ (0 : Int32) = 1) (rt (0 : Int32)))) (cnd (((gx g u6.toNatClampNeg) &&& (63 : Int32)) = (45 : Int32)) (asr (vp_in (u6 + (1 : Int32)) (gn g)) <| bn0 (f_X0_foreign (idc 0 i1) (gx g (u6 + (1 : Int32)).toNatClampNeg) i5) fun v533 => asr (vp_in (u6 + (1 : Int32)) (gn g)) <| bn0 (f_X5_foreign i3 (gx g (u6 + (1 : Int32)).toNatClampNeg)) fun v535 => bn0 (f_X5_thrown i3) fun v536 => cnd (v536 = v533) (cnd (v533 = 0) (aJ 34 i5 (0 : Int32) fun v539 => cnd ((lg_cmp v539 v535.toInt64) = 0) (r7 (u6 + (6 : Int32))) (asr ((0 : Int32) = 0 ∨ (0 : Int32) = 1) (rt (0 : Int32)))) (r7 (u6 + (6 : Int32)))) (asr ((0 : Int32) = 0 ∨ (0 : Int32) = 1) (rt (0 : Int32)))) (cnd (((gx g u6.toNatClampNeg) &&& (63 : Int32)) = (46 : Int32)) (asr (vp_in (u6 + (1 : Int32)) (gn g)) <| bn0 (f_X0_leave (idc 0 i1) (gx g (u6 + (1 : Int32)).toNatClampNeg) i5) fun v543 => asr (vp_in (u6 + (1 : Int32)) (gn g)) <| bn0 (f_X5_leave i3 (gx g (u6 + (1 : Int32)).toNatClampNeg)) fun v545 => bn0 (f_X5_thrown i3) fun v546 => cnd (v546 = v543) (cnd (v543 = 0) (aJ 34 i5 (0 : Int32) fun v549 => cnd ((lg_cmp v549 v545.toInt64) = 0) (r7 (u6 + (6 : Int32))) (asr ((0 : Int32) = 0 ∨ (0 : Int32) = 1) (rt (0 : Int32)))) (r7 (u6 + (6 : Int32)))) (asr ((0 : Int32) = 0 ∨ (0 : Int32) = 1) (rt (0 : Int32)))) (cnd (((gx g u6.toNatClampNeg) &&& (63 : Int32)) = (47 : Int32)) (bn0 (f_X1_audits i1) fun v552 => bn0 (f_X5_audits i3) fun v553 => cnd (v552 = v553) (r7 (u6 + (6 : Int32))) (asr ((0 : Int32) = 0 ∨ (0 : Int32) = 1) (rt (0 : Int32)))) (cnd (((gx g u6.toNatClampNeg) &&& (63 : Int32)) = (48 : Int32)) (asr (vp_in (u6 + (1 : Int32)) (gn g)) <| bn0 (f_X0_audit (idc 0 i1) (gx g (u6 + (1 : Int32)).toNatClampNeg) i5) fun v557 => asr (vp_in (u6 + (1 : Int32)) (gn g)) <| bn0 (f_X5_audit i3 (gx g (u6 + (1 : Int32)).toNatClampNeg)) fun v559 => bn0 (f_X5_thrown i3) fun v560 => cnd (v560 = v557) (cnd (v557 = 0) (aJ 34 i5 (0 : Int32) fun v563 => cnd ((lg_cmp v563 v559.toInt64) = 0) (r7 (u6 + (6 : Int32))) (asr ((0 : Int32) = 0 ∨ (0 : Int32) = 1) (rt (0 : Int32)))) (r7 (u6 + (6 : Int32)))) (asr ((0 : Int32) = 0 ∨ (0 : Int32) = 1) (rt (0 : Int32)))) (cnd (((gx g u6.toNatClampNeg) &&& (63 : Int32)) = (49 : Int32)) (bn0 (f_X1_sum i1) fun v566 => bn0 (f_X5_sum i3) fun v567 => cnd (v566 = v567) (r7 (u6 + (6 : Int32))) (asr ((0 : Int32) = 0 ∨ (0 : Int32) = 1) (rt (0 : Int32)))) (cnd (((gx g u6.toNatClampNeg) &&& (63 : Int32)) = (50 : Int32)) (asr (vp_in (u6 + (1 : Int32)) (gn g)) <| bn0 (f_X0_sumAnew (idc 0 i1) (gx g (u6 + (1 : Int32)).toNatClampNeg) i5) fun v571 => asr (vp_in (u6 + (1 : Int32)) (gn g)) <| bn0 (f_X5_sumAnew i3 (gx g (u6 + (1 : Int32)).toNatClampNeg)) fun v573 => bn0 (f_X5_thrown i3) fun v574 => cnd (v574 = v571) (cnd (v571 = 0) (aJ 34 i5 (0 : Int32) fun v577 => cnd ((lg_cmp v577 v573.toInt64) = 0) (r7 (u6 + (6 : Int32))) (asr ((0 : Int32) = 0 ∨ (0 : Int32) = 1) (rt (0 : Int32)))) (r7 (u6 + (6 : Int32)))) (asr ((0 : Int32) = 0 ∨ (0 : Int32) = 1) (rt (0 : Int32)))) (r7 (u6 + (6 : Int32))))))))))))))))))))))))))))))))))))))))))))))))))))))) (0 : Int32)
theorem tx_law {g : GP} {Γ : Cx} {Z : Zx Int32} {tb : List ExceptionTableEntry} {nm : String} (hl : Γ.2.1.stackTraces = false) (hZ : Z.2.2.1 = eI) : TX g Γ ("KeyringCourtLaw", cL_law, 7, 45, tb, some .boolean, nm) Z Z.2.2.2.1 0 [(0, .ref (idc 51 0))] [] (f_L_law g) := by
  unfold f_L_law
  refine x_new 0 na_X0_8 dL_law_0 fun i1 => ?_
  refine x_dup 3 dL_law_3 rfl ?_
  refine x_cI 4 6 [] [.ref (idc 0 i1)] (by first | decide | exact Nat.le_of_ble_eq_true rfl) cn_X0_163 (im_X1_init hl i1) (by exact ⟨Nat.le_of_ble_eq_true rfl, by decide⟩) rfl (Nat.le_of_ble_eq_true rfl) dL_law_4 fun v2 => x_stV ?_
  refine x_astore_n 7 [(1, .ref (idc 0 i1)), (0, .ref (idc 51 0))] dL_law_7 (by first | decide | exact Nat.le_of_ble_eq_true rfl) rfl ?_
  refine x_new 8 na_X0_164 dL_law_8 fun i3 => ?_
  refine x_dup 11 dL_law_11 rfl ?_
  refine x_cI 12 1 [] [.ref (idc 4 i3)] (by first | decide | exact Nat.le_of_ble_eq_true rfl) cn_X0_166 (im_X5_init hl i3) (by exact ⟨Nat.le_of_ble_eq_true rfl, by decide⟩) rfl (Nat.le_of_ble_eq_true rfl) dL_law_12 fun v4 => x_stV ?_
  refine x_astore_n 15 [(2, .ref (idc 4 i3)), (1, .ref (idc 0 i1)), (0, .ref (idc 51 0))] dL_law_15 (by first | decide | exact Nat.le_of_ble_eq_true rfl) rfl ?_
  refine x_iconst 16 1 (1 : Int32) dL_law_16 rfl ?_
  refine x_newa 17 (Or.inr (Or.inr rfl)) rfl q527 dL_law_17 fun i5 => ?_
  refine x_astore_n 19 [(3, .ref (idc 34 i5)), (2, .ref (idc 4 i3)), (1, .ref (idc 0 i1)), (0, .ref (idc 51 0))] dL_law_19 (by first | decide | exact Nat.le_of_ble_eq_true rfl) rfl ?_
  refine x_iconst 20 0 (0 : Int32) dL_law_20 rfl ?_
  refine x_istore 21 [(4, .int (0 : Int32)), (3, .ref (idc 34 i5)), (2, .ref (idc 4 i3)), (1, .ref (idc 0 i1)), (0, .ref (idc 51 0))] dL_law_21 (by first | decide | exact Nat.le_of_ble_eq_true rfl) rfl ?_
  refine x_sub [4, 3, 2, 1, 0] [(0, .ref (idc 51 0)), (1, .ref (idc 0 i1)), (2, .ref (idc 4 i3)), (3, .ref (idc 34 i5)), (4, .int (0 : Int32))] rfl ?_
  refine x_lp (Lf := fun u6 => [(0, .ref (idc 51 0)), (1, .ref (idc 0 i1)), (2, .ref (idc 4 i3)), (3, .ref (idc 34 i5)), (4, .int u6)]) (sf := fun _ => []) (fun r7 hr7 u6 => ?_) (0 : Int32)
  show TX g Γ _ Z _ 23 [(0, .ref (idc 51 0)), (1, .ref (idc 0 i1)), (2, .ref (idc 4 i3)), (3, .ref (idc 34 i5)), (4, .int u6)] [] _
  refine x_iload 23 4 dL_law_23 rfl ?_
  refine x_aload_n 25 0 dL_law_25 rfl ?_
  refine x_slen 26 dL_law_26 ?_
  refine x_bipush 27 6 (6 : Int32) dL_law_27 rfl ?_
  refine x_isub 29 dL_law_29 ?_
  refine x_icmp_gt 30 3326 dL_law_30 rfl (fun c8 => ?_) (fun c8 => ?_)
  · refine x_iconst 3326 1 (1 : Int32) dL_law_3326 rfl ?_
    exact x_zret 3327 hZ rfl dL_law_3327
  · refine x_aload_n 33 0 dL_law_33 rfl ?_
    refine x_iload 34 4 dL_law_34 rfl ?_
    refine x_sld 36 dL_law_36 ?_
    refine x_bipush 37 63 (63 : Int32) dL_law_37 rfl ?_
    refine x_iand 39 dL_law_39 ?_
    refine x_cnd (fun c10 => ?_) (fun c10 => ?_)
    · refine x_tsw 40 260 (0 : Int32) 0 220 c10 rfl dL_law_40 (by first | decide | exact Nat.le_of_ble_eq_true rfl) (by first | decide | exact Nat.le_of_ble_eq_true rfl) rfl rfl ?_
      refine x_aload_n 260 1 dL_law_260 rfl ?_
      refine x_aload_n 261 0 dL_law_261 rfl ?_
      refine x_iload 262 4 dL_law_262 rfl ?_
      refine x_iconst 264 1 (1 : Int32) dL_law_264 rfl ?_
      refine x_iadd 265 dL_law_265 ?_
      refine x_sld 266 dL_law_266 ?_
      refine x_aload_n 267 3 dL_law_267 rfl ?_
      refine x_cSW 268 42 [.ref (idc 0 i1), .int (gx g (u6 + (1 : Int32)).toNatClampNeg), .ref (idc 34 i5)] [] cs_X0_167 (im_X0_pass hl (idc 0 i1) (gx g (u6 + (1 : Int32)).toNatClampNeg) i5) (by exact ⟨Nat.le_of_ble_eq_true rfl, by decide⟩) rfl (Nat.le_of_ble_eq_true rfl) dL_law_268 fun v12 => x_stI ?_
      refine x_istore 271 [(5, .int v12), (0, .ref (idc 51 0)), (1, .ref (idc 0 i1)), (2, .ref (idc 4 i3)), (3, .ref (idc 34 i5)), (4, .int u6)] dL_law_271 (by first | decide | exact Nat.le_of_ble_eq_true rfl) rfl ?_
      refine x_aload_n 273 3 dL_law_273 rfl ?_
      refine x_aload_n 274 1 dL_law_274 rfl ?_
      refine x_iload 275 5 dL_law_275 rfl ?_
      refine x_iconst 277 1 (1 : Int32) dL_law_277 rfl ?_
      refine x_iadd 278 dL_law_278 ?_
      refine x_sld 279 dL_law_279 ?_
      refine x_cV 280 4 [.int (gx g (u6 + (1 : Int32)).toNatClampNeg)] [] ⟨by decide, rfl⟩ cv_X0_172 (im_X5_pass hl i3 (gx g (u6 + (1 : Int32)).toNatClampNeg)) (by exact ⟨Nat.le_of_ble_eq_true rfl, by decide⟩) rfl (Nat.le_of_ble_eq_true rfl) dL_law_280 fun v14 => x_stI ?_
      refine x_istore 283 [(6, .int v14), (5, .int v12), (0, .ref (idc 51 0)), (1, .ref (idc 0 i1)), (2, .ref (idc 4 i3)), (3, .ref (idc 34 i5)), (4, .int u6)] dL_law_283 (by first | decide | exact Nat.le_of_ble_eq_true rfl) rfl ?_
      refine x_aload_n 285 4 dL_law_285 rfl ?_
      refine x_cV 286 0 [] [] ⟨by decide, rfl⟩ cv_X0_173 (im_X5_thrown hl i3) (by exact ⟨Nat.le_of_ble_eq_true rfl, by decide⟩) rfl (Nat.le_of_ble_eq_true rfl) dL_law_286 fun v15 => x_stI ?_
      refine x_iload 289 1 dL_law_289 rfl ?_
      refine x_icmp_eq 291 296 dL_law_291 rfl (fun c16 => ?_) (fun c16 => ?_)
      · refine x_iload 296 1 dL_law_296 rfl ?_
        refine x_if_ne 298 313 dL_law_298 rfl (fun c17 => ?_) (fun c17 => ?_)
        · refine x_aload_n 301 5 dL_law_301 rfl ?_
          refine x_iconst 302 0 (0 : Int32) dL_law_302 rfl ?_
          refine x_lald 303 dL_law_303 fun v18 => ?_
          refine x_iload 304 0 dL_law_304 rfl ?_
          refine x_i2l 306 dL_law_306 ?_
          refine x_lcmp 307 dL_law_307 ?_
          refine x_if_eq 308 313 dL_law_308 rfl (fun c19 => ?_) (fun c19 => ?_)
          · refine x_goto 313 3320 dL_law_313 rfl ?_
            refine x_iinc 3320 6 [(4, .int (u6 + (6 : Int32))), (6, .int v14), (5, .int v12), (0, .ref (idc 51 0)), (1, .ref (idc 0 i1)), (2, .ref (idc 4 i3)), (3, .ref (idc 34 i5))] dL_law_3320 rfl rfl (by first | decide | exact Nat.le_of_ble_eq_true rfl) rfl ?_
            refine x_goto 3323 23 dL_law_3323 rfl ?_
            refine x_sub [3, 4, 5, 6, 0] _ rfl ?_
            exact hr7 (u6 + (6 : Int32))
          · refine x_iconst 311 0 (0 : Int32) dL_law_311 rfl ?_
            exact x_zret 312 hZ rfl dL_law_312
        · refine x_goto 313 3320 dL_law_313 rfl ?_
          refine x_iinc 3320 6 [(4, .int (u6 + (6 : Int32))), (6, .int v14), (5, .int v12), (0, .ref (idc 51 0)), (1, .ref (idc 0 i1)), (2, .ref (idc 4 i3)), (3, .ref (idc 34 i5))] dL_law_3320 rfl rfl (by first | decide | exact Nat.le_of_ble_eq_true rfl) rfl ?_
          refine x_goto 3323 23 dL_law_3323 rfl ?_
          refine x_sub [3, 4, 5, 6, 0] _ rfl ?_
          exact hr7 (u6 + (6 : Int32))
      · refine x_iconst 294 0 (0 : Int32) dL_law_294 rfl ?_
        exact x_zret 295 hZ rfl dL_law_295
    · refine x_cnd (fun c20 => ?_) (fun c20 => ?_)
      · refine x_tsw 40 316 (1 : Int32) 1 276 c20 rfl dL_law_40 (by first | decide | exact Nat.le_of_ble_eq_true rfl) (by first | decide | exact Nat.le_of_ble_eq_true rfl) rfl rfl ?_
        refine x_aload_n 316 1 dL_law_316 rfl ?_
        refine x_aload_n 317 0 dL_law_317 rfl ?_
        refine x_iload 318 4 dL_law_318 rfl ?_
        refine x_iconst 320 1 (1 : Int32) dL_law_320 rfl ?_
        refine x_iadd 321 dL_law_321 ?_
        refine x_sld 322 dL_law_322 ?_
        refine x_aload_n 323 0 dL_law_323 rfl ?_
        refine x_iload 324 4 dL_law_324 rfl ?_
        refine x_iconst 326 2 (2 : Int32) dL_law_326 rfl ?_
        refine x_iadd 327 dL_law_327 ?_
        refine x_sld 328 dL_law_328 ?_
        refine x_aload_n 329 3 dL_law_329 rfl ?_
        refine x_cSW 330 9 [.ref (idc 0 i1), .int (gx g (u6 + (1 : Int32)).toNatClampNeg), .int (gx g (u6 + (2 : Int32)).toNatClampNeg), .ref (idc 34 i5)] [] cs_X0_176 (im_X0_enroll hl (idc 0 i1) (gx g (u6 + (1 : Int32)).toNatClampNeg) (gx g (u6 + (2 : Int32)).toNatClampNeg) i5) (by exact ⟨Nat.le_of_ble_eq_true rfl, by decide⟩) rfl (Nat.le_of_ble_eq_true rfl) dL_law_330 fun v23 => x_stI ?_
        refine x_istore 333 [(5, .int v23), (0, .ref (idc 51 0)), (1, .ref (idc 0 i1)), (2, .ref (idc 4 i3)), (3, .ref (idc 34 i5)), (4, .int u6)] dL_law_333 (by first | decide | exact Nat.le_of_ble_eq_true rfl) rfl ?_
        refine x_aload_n 335 3 dL_law_335 rfl ?_
        refine x_aload_n 336 1 dL_law_336 rfl ?_
        refine x_iload 337 5 dL_law_337 rfl ?_
        refine x_iconst 339 1 (1 : Int32) dL_law_339 rfl ?_
        refine x_iadd 340 dL_law_340 ?_
        refine x_sld 341 dL_law_341 ?_
        refine x_aload_n 342 1 dL_law_342 rfl ?_
        refine x_iload 343 5 dL_law_343 rfl ?_
        refine x_iconst 345 2 (2 : Int32) dL_law_345 rfl ?_
        refine x_iadd 346 dL_law_346 ?_
        refine x_sld 347 dL_law_347 ?_
        refine x_cV 348 2 [.int (gx g (u6 + (1 : Int32)).toNatClampNeg), .int (gx g (u6 + (2 : Int32)).toNatClampNeg)] [] ⟨by decide, rfl⟩ cv_X0_179 (im_X5_enroll hl i3 (gx g (u6 + (1 : Int32)).toNatClampNeg) (gx g (u6 + (2 : Int32)).toNatClampNeg)) (by exact ⟨Nat.le_of_ble_eq_true rfl, by decide⟩) rfl (Nat.le_of_ble_eq_true rfl) dL_law_348 fun v26 => x_stI ?_
        refine x_istore 351 [(6, .int v26), (5, .int v23), (0, .ref (idc 51 0)), (1, .ref (idc 0 i1)), (2, .ref (idc 4 i3)), (3, .ref (idc 34 i5)), (4, .int u6)] dL_law_351 (by first | decide | exact Nat.le_of_ble_eq_true rfl) rfl ?_
        refine x_aload_n 353 4 dL_law_353 rfl ?_
        refine x_cV 354 0 [] [] ⟨by decide, rfl⟩ cv_X0_173 (im_X5_thrown hl i3) (by exact ⟨Nat.le_of_ble_eq_true rfl, by decide⟩) rfl (Nat.le_of_ble_eq_true rfl) dL_law_354 fun v27 => x_stI ?_
        refine x_iload 357 1 dL_law_357 rfl ?_
        refine x_icmp_eq 359 364 dL_law_359 rfl (fun c28 => ?_) (fun c28 => ?_)
        · refine x_iload 364 1 dL_law_364 rfl ?_
          refine x_if_ne 366 381 dL_law_366 rfl (fun c29 => ?_) (fun c29 => ?_)
          · refine x_aload_n 369 5 dL_law_369 rfl ?_
            refine x_iconst 370 0 (0 : Int32) dL_law_370 rfl ?_
            refine x_lald 371 dL_law_371 fun v30 => ?_
            refine x_iload 372 0 dL_law_372 rfl ?_
            refine x_i2l 374 dL_law_374 ?_
            refine x_lcmp 375 dL_law_375 ?_
            refine x_if_eq 376 381 dL_law_376 rfl (fun c31 => ?_) (fun c31 => ?_)
            · refine x_goto 381 3320 dL_law_381 rfl ?_
              refine x_iinc 3320 6 [(4, .int (u6 + (6 : Int32))), (6, .int v26), (5, .int v23), (0, .ref (idc 51 0)), (1, .ref (idc 0 i1)), (2, .ref (idc 4 i3)), (3, .ref (idc 34 i5))] dL_law_3320 rfl rfl (by first | decide | exact Nat.le_of_ble_eq_true rfl) rfl ?_
              refine x_goto 3323 23 dL_law_3323 rfl ?_
              refine x_sub [3, 4, 5, 6, 0] _ rfl ?_
              exact hr7 (u6 + (6 : Int32))
            · refine x_iconst 379 0 (0 : Int32) dL_law_379 rfl ?_
              exact x_zret 380 hZ rfl dL_law_380
          · refine x_goto 381 3320 dL_law_381 rfl ?_
            refine x_iinc 3320 6 [(4, .int (u6 + (6 : Int32))), (6, .int v26), (5, .int v23), (0, .ref (idc 51 0)), (1, .ref (idc 0 i1)), (2, .ref (idc 4 i3)), (3, .ref (idc 34 i5))] dL_law_3320 rfl rfl (by first | decide | exact Nat.le_of_ble_eq_true rfl) rfl ?_
            refine x_goto 3323 23 dL_law_3323 rfl ?_
            refine x_sub [3, 4, 5, 6, 0] _ rfl ?_
            exact hr7 (u6 + (6 : Int32))
        · refine x_iconst 362 0 (0 : Int32) dL_law_362 rfl ?_
          exact x_zret 363 hZ rfl dL_law_363
      · refine x_cnd (fun c32 => ?_) (fun c32 => ?_)
        · refine x_tsw 40 384 (2 : Int32) 2 344 c32 rfl dL_law_40 (by first | decide | exact Nat.le_of_ble_eq_true rfl) (by first | decide | exact Nat.le_of_ble_eq_true rfl) rfl rfl ?_
          refine x_aload_n 384 1 dL_law_384 rfl ?_
          refine x_aload_n 385 0 dL_law_385 rfl ?_
          refine x_iload 386 4 dL_law_386 rfl ?_
          refine x_iconst 388 1 (1 : Int32) dL_law_388 rfl ?_
          refine x_iadd 389 dL_law_389 ?_
          refine x_sld 390 dL_law_390 ?_
          refine x_aload_n 391 0 dL_law_391 rfl ?_
          refine x_iload 392 4 dL_law_392 rfl ?_
          refine x_iconst 394 2 (2 : Int32) dL_law_394 rfl ?_
          refine x_iadd 395 dL_law_395 ?_
          refine x_sld 396 dL_law_396 ?_
          refine x_aload_n 397 3 dL_law_397 rfl ?_
          refine x_cSW 398 9 [.ref (idc 0 i1), .int (gx g (u6 + (1 : Int32)).toNatClampNeg), .int (gx g (u6 + (2 : Int32)).toNatClampNeg), .ref (idc 34 i5)] [] cs_X0_180 (im_X0_factor hl (idc 0 i1) (gx g (u6 + (1 : Int32)).toNatClampNeg) (gx g (u6 + (2 : Int32)).toNatClampNeg) i5) (by exact ⟨Nat.le_of_ble_eq_true rfl, by decide⟩) rfl (Nat.le_of_ble_eq_true rfl) dL_law_398 fun v35 => x_stI ?_
          refine x_istore 401 [(5, .int v35), (0, .ref (idc 51 0)), (1, .ref (idc 0 i1)), (2, .ref (idc 4 i3)), (3, .ref (idc 34 i5)), (4, .int u6)] dL_law_401 (by first | decide | exact Nat.le_of_ble_eq_true rfl) rfl ?_
          refine x_aload_n 403 3 dL_law_403 rfl ?_
          refine x_aload_n 404 1 dL_law_404 rfl ?_
          refine x_iload 405 5 dL_law_405 rfl ?_
          refine x_iconst 407 1 (1 : Int32) dL_law_407 rfl ?_
          refine x_iadd 408 dL_law_408 ?_
          refine x_sld 409 dL_law_409 ?_
          refine x_aload_n 410 1 dL_law_410 rfl ?_
          refine x_iload 411 5 dL_law_411 rfl ?_
          refine x_iconst 413 2 (2 : Int32) dL_law_413 rfl ?_
          refine x_iadd 414 dL_law_414 ?_
          refine x_sld 415 dL_law_415 ?_
          refine x_cV 416 2 [.int (gx g (u6 + (1 : Int32)).toNatClampNeg), .int (gx g (u6 + (2 : Int32)).toNatClampNeg)] [] ⟨by decide, rfl⟩ cv_X0_182 (im_X5_factor hl i3 (gx g (u6 + (1 : Int32)).toNatClampNeg) (gx g (u6 + (2 : Int32)).toNatClampNeg)) (by exact ⟨Nat.le_of_ble_eq_true rfl, by decide⟩) rfl (Nat.le_of_ble_eq_true rfl) dL_law_416 fun v38 => x_stI ?_
          refine x_istore 419 [(6, .int v38), (5, .int v35), (0, .ref (idc 51 0)), (1, .ref (idc 0 i1)), (2, .ref (idc 4 i3)), (3, .ref (idc 34 i5)), (4, .int u6)] dL_law_419 (by first | decide | exact Nat.le_of_ble_eq_true rfl) rfl ?_
          refine x_aload_n 421 4 dL_law_421 rfl ?_
          refine x_cV 422 0 [] [] ⟨by decide, rfl⟩ cv_X0_173 (im_X5_thrown hl i3) (by exact ⟨Nat.le_of_ble_eq_true rfl, by decide⟩) rfl (Nat.le_of_ble_eq_true rfl) dL_law_422 fun v39 => x_stI ?_
          refine x_iload 425 1 dL_law_425 rfl ?_
          refine x_icmp_eq 427 432 dL_law_427 rfl (fun c40 => ?_) (fun c40 => ?_)
          · refine x_iload 432 1 dL_law_432 rfl ?_
            refine x_if_ne 434 449 dL_law_434 rfl (fun c41 => ?_) (fun c41 => ?_)
            · refine x_aload_n 437 5 dL_law_437 rfl ?_
              refine x_iconst 438 0 (0 : Int32) dL_law_438 rfl ?_
              refine x_lald 439 dL_law_439 fun v42 => ?_
              refine x_iload 440 0 dL_law_440 rfl ?_
              refine x_i2l 442 dL_law_442 ?_
              refine x_lcmp 443 dL_law_443 ?_
              refine x_if_eq 444 449 dL_law_444 rfl (fun c43 => ?_) (fun c43 => ?_)
              · refine x_goto 449 3320 dL_law_449 rfl ?_
                refine x_iinc 3320 6 [(4, .int (u6 + (6 : Int32))), (6, .int v38), (5, .int v35), (0, .ref (idc 51 0)), (1, .ref (idc 0 i1)), (2, .ref (idc 4 i3)), (3, .ref (idc 34 i5))] dL_law_3320 rfl rfl (by first | decide | exact Nat.le_of_ble_eq_true rfl) rfl ?_
                refine x_goto 3323 23 dL_law_3323 rfl ?_
                refine x_sub [3, 4, 5, 6, 0] _ rfl ?_
                exact hr7 (u6 + (6 : Int32))
              · refine x_iconst 447 0 (0 : Int32) dL_law_447 rfl ?_
                exact x_zret 448 hZ rfl dL_law_448
            · refine x_goto 449 3320 dL_law_449 rfl ?_
              refine x_iinc 3320 6 [(4, .int (u6 + (6 : Int32))), (6, .int v38), (5, .int v35), (0, .ref (idc 51 0)), (1, .ref (idc 0 i1)), (2, .ref (idc 4 i3)), (3, .ref (idc 34 i5))] dL_law_3320 rfl rfl (by first | decide | exact Nat.le_of_ble_eq_true rfl) rfl ?_
              refine x_goto 3323 23 dL_law_3323 rfl ?_
              refine x_sub [3, 4, 5, 6, 0] _ rfl ?_
              exact hr7 (u6 + (6 : Int32))
          · refine x_iconst 430 0 (0 : Int32) dL_law_430 rfl ?_
            exact x_zret 431 hZ rfl dL_law_431
        · refine x_cnd (fun c44 => ?_) (fun c44 => ?_)
          · refine x_tsw 40 452 (3 : Int32) 3 412 c44 rfl dL_law_40 (by first | decide | exact Nat.le_of_ble_eq_true rfl) (by first | decide | exact Nat.le_of_ble_eq_true rfl) rfl rfl ?_
            refine x_aload_n 452 1 dL_law_452 rfl ?_
            refine x_aload_n 453 0 dL_law_453 rfl ?_
            refine x_iload 454 4 dL_law_454 rfl ?_
            refine x_iconst 456 1 (1 : Int32) dL_law_456 rfl ?_
            refine x_iadd 457 dL_law_457 ?_
            refine x_sld 458 dL_law_458 ?_
            refine x_aload_n 459 0 dL_law_459 rfl ?_
            refine x_iload 460 4 dL_law_460 rfl ?_
            refine x_iconst 462 2 (2 : Int32) dL_law_462 rfl ?_
            refine x_iadd 463 dL_law_463 ?_
            refine x_sld 464 dL_law_464 ?_
            refine x_aload_n 465 0 dL_law_465 rfl ?_
            refine x_iload 466 4 dL_law_466 rfl ?_
            refine x_iconst 468 3 (3 : Int32) dL_law_468 rfl ?_
            refine x_iadd 469 dL_law_469 ?_
            refine x_sld 470 dL_law_470 ?_
            refine x_aload_n 471 0 dL_law_471 rfl ?_
            refine x_iload 472 4 dL_law_472 rfl ?_
            refine x_iconst 474 4 (4 : Int32) dL_law_474 rfl ?_
            refine x_iadd 475 dL_law_475 ?_
            refine x_sld 476 dL_law_476 ?_
            refine x_aload_n 477 0 dL_law_477 rfl ?_
            refine x_iload 478 4 dL_law_478 rfl ?_
            refine x_iconst 480 5 (5 : Int32) dL_law_480 rfl ?_
            refine x_iadd 481 dL_law_481 ?_
            refine x_sld 482 dL_law_482 ?_
            refine x_aload_n 483 3 dL_law_483 rfl ?_
            refine x_cSW 484 8 [.ref (idc 0 i1), .int (gx g (u6 + (1 : Int32)).toNatClampNeg), .int (gx g (u6 + (2 : Int32)).toNatClampNeg), .int (gx g (u6 + (3 : Int32)).toNatClampNeg), .int (gx g (u6 + (4 : Int32)).toNatClampNeg), .int (gx g (u6 + (5 : Int32)).toNatClampNeg), .ref (idc 34 i5)] [] cs_X0_183 (im_X0_step hl (idc 0 i1) (gx g (u6 + (1 : Int32)).toNatClampNeg) (gx g (u6 + (2 : Int32)).toNatClampNeg) (gx g (u6 + (3 : Int32)).toNatClampNeg) (gx g (u6 + (4 : Int32)).toNatClampNeg) (gx g (u6 + (5 : Int32)).toNatClampNeg) i5) (by exact ⟨Nat.le_of_ble_eq_true rfl, by decide⟩) rfl (Nat.le_of_ble_eq_true rfl) dL_law_484 fun v50 => x_stI ?_
            refine x_istore 487 [(5, .int v50), (0, .ref (idc 51 0)), (1, .ref (idc 0 i1)), (2, .ref (idc 4 i3)), (3, .ref (idc 34 i5)), (4, .int u6)] dL_law_487 (by first | decide | exact Nat.le_of_ble_eq_true rfl) rfl ?_
            refine x_aload_n 489 3 dL_law_489 rfl ?_
            refine x_aload_n 490 1 dL_law_490 rfl ?_
            refine x_iload 491 5 dL_law_491 rfl ?_
            refine x_iconst 493 1 (1 : Int32) dL_law_493 rfl ?_
            refine x_iadd 494 dL_law_494 ?_
            refine x_sld 495 dL_law_495 ?_
            refine x_aload_n 496 1 dL_law_496 rfl ?_
            refine x_iload 497 5 dL_law_497 rfl ?_
            refine x_iconst 499 2 (2 : Int32) dL_law_499 rfl ?_
            refine x_iadd 500 dL_law_500 ?_
            refine x_sld 501 dL_law_501 ?_
            refine x_aload_n 502 1 dL_law_502 rfl ?_
            refine x_iload 503 5 dL_law_503 rfl ?_
            refine x_iconst 505 3 (3 : Int32) dL_law_505 rfl ?_
            refine x_iadd 506 dL_law_506 ?_
            refine x_sld 507 dL_law_507 ?_
            refine x_aload_n 508 1 dL_law_508 rfl ?_
            refine x_iload 509 5 dL_law_509 rfl ?_
            refine x_iconst 511 4 (4 : Int32) dL_law_511 rfl ?_
            refine x_iadd 512 dL_law_512 ?_
            refine x_sld 513 dL_law_513 ?_
            refine x_aload_n 514 1 dL_law_514 rfl ?_
            refine x_iload 515 5 dL_law_515 rfl ?_
            refine x_iconst 517 5 (5 : Int32) dL_law_517 rfl ?_
            refine x_iadd 518 dL_law_518 ?_
            refine x_sld 519 dL_law_519 ?_
            refine x_cV 520 2 [.int (gx g (u6 + (1 : Int32)).toNatClampNeg), .int (gx g (u6 + (2 : Int32)).toNatClampNeg), .int (gx g (u6 + (3 : Int32)).toNatClampNeg), .int (gx g (u6 + (4 : Int32)).toNatClampNeg), .int (gx g (u6 + (5 : Int32)).toNatClampNeg)] [] ⟨by decide, rfl⟩ cv_X0_186 (im_X5_step hl i3 (gx g (u6 + (1 : Int32)).toNatClampNeg) (gx g (u6 + (2 : Int32)).toNatClampNeg) (gx g (u6 + (3 : Int32)).toNatClampNeg) (gx g (u6 + (4 : Int32)).toNatClampNeg) (gx g (u6 + (5 : Int32)).toNatClampNeg)) (by exact ⟨Nat.le_of_ble_eq_true rfl, by decide⟩) rfl (Nat.le_of_ble_eq_true rfl) dL_law_520 fun v56 => x_stI ?_
            refine x_istore 523 [(6, .int v56), (5, .int v50), (0, .ref (idc 51 0)), (1, .ref (idc 0 i1)), (2, .ref (idc 4 i3)), (3, .ref (idc 34 i5)), (4, .int u6)] dL_law_523 (by first | decide | exact Nat.le_of_ble_eq_true rfl) rfl ?_
            refine x_aload_n 525 4 dL_law_525 rfl ?_
            refine x_cV 526 0 [] [] ⟨by decide, rfl⟩ cv_X0_173 (im_X5_thrown hl i3) (by exact ⟨Nat.le_of_ble_eq_true rfl, by decide⟩) rfl (Nat.le_of_ble_eq_true rfl) dL_law_526 fun v57 => x_stI ?_
            refine x_iload 529 1 dL_law_529 rfl ?_
            refine x_icmp_eq 531 536 dL_law_531 rfl (fun c58 => ?_) (fun c58 => ?_)
            · refine x_iload 536 1 dL_law_536 rfl ?_
              refine x_if_ne 538 553 dL_law_538 rfl (fun c59 => ?_) (fun c59 => ?_)
              · refine x_aload_n 541 5 dL_law_541 rfl ?_
                refine x_iconst 542 0 (0 : Int32) dL_law_542 rfl ?_
                refine x_lald 543 dL_law_543 fun v60 => ?_
                refine x_iload 544 0 dL_law_544 rfl ?_
                refine x_i2l 546 dL_law_546 ?_
                refine x_lcmp 547 dL_law_547 ?_
                refine x_if_eq 548 553 dL_law_548 rfl (fun c61 => ?_) (fun c61 => ?_)
                · refine x_goto 553 3320 dL_law_553 rfl ?_
                  refine x_iinc 3320 6 [(4, .int (u6 + (6 : Int32))), (6, .int v56), (5, .int v50), (0, .ref (idc 51 0)), (1, .ref (idc 0 i1)), (2, .ref (idc 4 i3)), (3, .ref (idc 34 i5))] dL_law_3320 rfl rfl (by first | decide | exact Nat.le_of_ble_eq_true rfl) rfl ?_
                  refine x_goto 3323 23 dL_law_3323 rfl ?_
                  refine x_sub [3, 4, 5, 6, 0] _ rfl ?_
                  exact hr7 (u6 + (6 : Int32))
                · refine x_iconst 551 0 (0 : Int32) dL_law_551 rfl ?_
                  exact x_zret 552 hZ rfl dL_law_552
              · refine x_goto 553 3320 dL_law_553 rfl ?_
                refine x_iinc 3320 6 [(4, .int (u6 + (6 : Int32))), (6, .int v56), (5, .int v50), (0, .ref (idc 51 0)), (1, .ref (idc 0 i1)), (2, .ref (idc 4 i3)), (3, .ref (idc 34 i5))] dL_law_3320 rfl rfl (by first | decide | exact Nat.le_of_ble_eq_true rfl) rfl ?_
                refine x_goto 3323 23 dL_law_3323 rfl ?_
                refine x_sub [3, 4, 5, 6, 0] _ rfl ?_
                exact hr7 (u6 + (6 : Int32))
            · refine x_iconst 534 0 (0 : Int32) dL_law_534 rfl ?_
              exact x_zret 535 hZ rfl dL_law_535
          · refine x_cnd (fun c62 => ?_) (fun c62 => ?_)
            · refine x_tsw 40 556 (4 : Int32) 4 516 c62 rfl dL_law_40 (by first | decide | exact Nat.le_of_ble_eq_true rfl) (by first | decide | exact Nat.le_of_ble_eq_true rfl) rfl rfl ?_
              refine x_aload_n 556 1 dL_law_556 rfl ?_
              refine x_cV 557 5 [] [] ⟨by decide, rfl⟩ cv_X0_187 (im_X1_clear hl i1) (by exact ⟨Nat.le_of_ble_eq_true rfl, by decide⟩) rfl (Nat.le_of_ble_eq_true rfl) dL_law_557 fun v63 => x_stI ?_
              refine x_aload_n 560 2 dL_law_560 rfl ?_
              refine x_cV 561 0 [] [.int v63] ⟨by decide, rfl⟩ cv_X0_190 (im_X5_clear hl i3) (by exact ⟨Nat.le_of_ble_eq_true rfl, by decide⟩) rfl (Nat.le_of_ble_eq_true rfl) dL_law_561 fun v64 => x_stI ?_
              refine x_icmp_eq 564 3320 dL_law_564 rfl (fun c65 => ?_) (fun c65 => ?_)
              · refine x_iinc 3320 4 [(4, .int (u6 + (6 : Int32))), (0, .ref (idc 51 0)), (1, .ref (idc 0 i1)), (2, .ref (idc 4 i3)), (3, .ref (idc 34 i5))] dL_law_3320 rfl rfl (by first | decide | exact Nat.le_of_ble_eq_true rfl) rfl ?_
                refine x_goto 3323 23 dL_law_3323 rfl ?_
                refine x_sub [1, 2, 3, 4, 0] _ rfl ?_
                exact hr7 (u6 + (6 : Int32))
              · refine x_iconst 567 0 (0 : Int32) dL_law_567 rfl ?_
                exact x_zret 568 hZ rfl dL_law_568
            · refine x_cnd (fun c66 => ?_) (fun c66 => ?_)
              · refine x_tsw 40 569 (5 : Int32) 5 529 c66 rfl dL_law_40 (by first | decide | exact Nat.le_of_ble_eq_true rfl) (by first | decide | exact Nat.le_of_ble_eq_true rfl) rfl rfl ?_
                refine x_aload_n 569 1 dL_law_569 rfl ?_
                refine x_aload_n 570 3 dL_law_570 rfl ?_
                refine x_cSW 571 9 [.ref (idc 0 i1), .ref (idc 34 i5)] [] cs_X0_191 (im_X0_publish hl (idc 0 i1) i5) (by exact ⟨Nat.le_of_ble_eq_true rfl, by decide⟩) rfl (Nat.le_of_ble_eq_true rfl) dL_law_571 fun v67 => x_stI ?_
                refine x_istore 574 [(5, .int v67), (0, .ref (idc 51 0)), (1, .ref (idc 0 i1)), (2, .ref (idc 4 i3)), (3, .ref (idc 34 i5)), (4, .int u6)] dL_law_574 (by first | decide | exact Nat.le_of_ble_eq_true rfl) rfl ?_
                refine x_aload_n 576 3 dL_law_576 rfl ?_
                refine x_cV 577 2 [] [] ⟨by decide, rfl⟩ cv_X0_194 (im_X5_publish hl i3) (by exact ⟨Nat.le_of_ble_eq_true rfl, by decide⟩) rfl (Nat.le_of_ble_eq_true rfl) dL_law_577 fun v68 => x_stI ?_
                refine x_istore 580 [(6, .int v68), (5, .int v67), (0, .ref (idc 51 0)), (1, .ref (idc 0 i1)), (2, .ref (idc 4 i3)), (3, .ref (idc 34 i5)), (4, .int u6)] dL_law_580 (by first | decide | exact Nat.le_of_ble_eq_true rfl) rfl ?_
                refine x_aload_n 582 4 dL_law_582 rfl ?_
                refine x_cV 583 0 [] [] ⟨by decide, rfl⟩ cv_X0_173 (im_X5_thrown hl i3) (by exact ⟨Nat.le_of_ble_eq_true rfl, by decide⟩) rfl (Nat.le_of_ble_eq_true rfl) dL_law_583 fun v69 => x_stI ?_
                refine x_iload 586 1 dL_law_586 rfl ?_
                refine x_icmp_eq 588 593 dL_law_588 rfl (fun c70 => ?_) (fun c70 => ?_)
                · refine x_iload 593 1 dL_law_593 rfl ?_
                  refine x_if_ne 595 610 dL_law_595 rfl (fun c71 => ?_) (fun c71 => ?_)
                  · refine x_aload_n 598 5 dL_law_598 rfl ?_
                    refine x_iconst 599 0 (0 : Int32) dL_law_599 rfl ?_
                    refine x_lald 600 dL_law_600 fun v72 => ?_
                    refine x_iload 601 0 dL_law_601 rfl ?_
                    refine x_i2l 603 dL_law_603 ?_
                    refine x_lcmp 604 dL_law_604 ?_
                    refine x_if_eq 605 610 dL_law_605 rfl (fun c73 => ?_) (fun c73 => ?_)
                    · refine x_goto 610 3320 dL_law_610 rfl ?_
                      refine x_iinc 3320 6 [(4, .int (u6 + (6 : Int32))), (6, .int v68), (5, .int v67), (0, .ref (idc 51 0)), (1, .ref (idc 0 i1)), (2, .ref (idc 4 i3)), (3, .ref (idc 34 i5))] dL_law_3320 rfl rfl (by first | decide | exact Nat.le_of_ble_eq_true rfl) rfl ?_
                      refine x_goto 3323 23 dL_law_3323 rfl ?_
                      refine x_sub [3, 4, 5, 6, 0] _ rfl ?_
                      exact hr7 (u6 + (6 : Int32))
                    · refine x_iconst 608 0 (0 : Int32) dL_law_608 rfl ?_
                      exact x_zret 609 hZ rfl dL_law_609
                  · refine x_goto 610 3320 dL_law_610 rfl ?_
                    refine x_iinc 3320 6 [(4, .int (u6 + (6 : Int32))), (6, .int v68), (5, .int v67), (0, .ref (idc 51 0)), (1, .ref (idc 0 i1)), (2, .ref (idc 4 i3)), (3, .ref (idc 34 i5))] dL_law_3320 rfl rfl (by first | decide | exact Nat.le_of_ble_eq_true rfl) rfl ?_
                    refine x_goto 3323 23 dL_law_3323 rfl ?_
                    refine x_sub [3, 4, 5, 6, 0] _ rfl ?_
                    exact hr7 (u6 + (6 : Int32))
                · refine x_iconst 591 0 (0 : Int32) dL_law_591 rfl ?_
                  exact x_zret 592 hZ rfl dL_law_592
              · refine x_cnd (fun c74 => ?_) (fun c74 => ?_)
                · refine x_tsw 40 613 (6 : Int32) 6 573 c74 rfl dL_law_40 (by first | decide | exact Nat.le_of_ble_eq_true rfl) (by first | decide | exact Nat.le_of_ble_eq_true rfl) rfl rfl ?_
                  refine x_aload_n 613 1 dL_law_613 rfl ?_
                  refine x_aload_n 614 0 dL_law_614 rfl ?_
                  refine x_iload 615 4 dL_law_615 rfl ?_
                  refine x_iconst 617 1 (1 : Int32) dL_law_617 rfl ?_
                  refine x_iadd 618 dL_law_618 ?_
                  refine x_sld 619 dL_law_619 ?_
                  refine x_aload_n 620 3 dL_law_620 rfl ?_
                  refine x_cSW 621 9 [.ref (idc 0 i1), .int (gx g (u6 + (1 : Int32)).toNatClampNeg), .ref (idc 34 i5)] [] cs_X0_195 (im_X0_weakest hl (idc 0 i1) (gx g (u6 + (1 : Int32)).toNatClampNeg) i5) (by exact ⟨Nat.le_of_ble_eq_true rfl, by decide⟩) rfl (Nat.le_of_ble_eq_true rfl) dL_law_621 fun v76 => x_stI ?_
                  refine x_istore 624 [(5, .int v76), (0, .ref (idc 51 0)), (1, .ref (idc 0 i1)), (2, .ref (idc 4 i3)), (3, .ref (idc 34 i5)), (4, .int u6)] dL_law_624 (by first | decide | exact Nat.le_of_ble_eq_true rfl) rfl ?_
                  refine x_aload_n 626 3 dL_law_626 rfl ?_
                  refine x_aload_n 627 1 dL_law_627 rfl ?_
                  refine x_iload 628 5 dL_law_628 rfl ?_
                  refine x_iconst 630 1 (1 : Int32) dL_law_630 rfl ?_
                  refine x_iadd 631 dL_law_631 ?_
                  refine x_sld 632 dL_law_632 ?_
                  refine x_cV 633 1 [.int (gx g (u6 + (1 : Int32)).toNatClampNeg)] [] ⟨by decide, rfl⟩ cv_X0_197 (im_X5_weakest hl i3 (gx g (u6 + (1 : Int32)).toNatClampNeg)) (by exact ⟨Nat.le_of_ble_eq_true rfl, by decide⟩) rfl (Nat.le_of_ble_eq_true rfl) dL_law_633 fun v78 => x_stI ?_
                  refine x_istore 636 [(6, .int v78), (5, .int v76), (0, .ref (idc 51 0)), (1, .ref (idc 0 i1)), (2, .ref (idc 4 i3)), (3, .ref (idc 34 i5)), (4, .int u6)] dL_law_636 (by first | decide | exact Nat.le_of_ble_eq_true rfl) rfl ?_
                  refine x_aload_n 638 4 dL_law_638 rfl ?_
                  refine x_cV 639 0 [] [] ⟨by decide, rfl⟩ cv_X0_173 (im_X5_thrown hl i3) (by exact ⟨Nat.le_of_ble_eq_true rfl, by decide⟩) rfl (Nat.le_of_ble_eq_true rfl) dL_law_639 fun v79 => x_stI ?_
                  refine x_iload 642 1 dL_law_642 rfl ?_
                  refine x_icmp_eq 644 649 dL_law_644 rfl (fun c80 => ?_) (fun c80 => ?_)
                  · refine x_iload 649 1 dL_law_649 rfl ?_
                    refine x_if_ne 651 666 dL_law_651 rfl (fun c81 => ?_) (fun c81 => ?_)
                    · refine x_aload_n 654 5 dL_law_654 rfl ?_
                      refine x_iconst 655 0 (0 : Int32) dL_law_655 rfl ?_
                      refine x_lald 656 dL_law_656 fun v82 => ?_
                      refine x_iload 657 0 dL_law_657 rfl ?_
                      refine x_i2l 659 dL_law_659 ?_
                      refine x_lcmp 660 dL_law_660 ?_
                      refine x_if_eq 661 666 dL_law_661 rfl (fun c83 => ?_) (fun c83 => ?_)
                      · refine x_goto 666 3320 dL_law_666 rfl ?_
                        refine x_iinc 3320 6 [(4, .int (u6 + (6 : Int32))), (6, .int v78), (5, .int v76), (0, .ref (idc 51 0)), (1, .ref (idc 0 i1)), (2, .ref (idc 4 i3)), (3, .ref (idc 34 i5))] dL_law_3320 rfl rfl (by first | decide | exact Nat.le_of_ble_eq_true rfl) rfl ?_
                        refine x_goto 3323 23 dL_law_3323 rfl ?_
                        refine x_sub [3, 4, 5, 6, 0] _ rfl ?_
                        exact hr7 (u6 + (6 : Int32))
                      · refine x_iconst 664 0 (0 : Int32) dL_law_664 rfl ?_
                        exact x_zret 665 hZ rfl dL_law_665
                    · refine x_goto 666 3320 dL_law_666 rfl ?_
                      refine x_iinc 3320 6 [(4, .int (u6 + (6 : Int32))), (6, .int v78), (5, .int v76), (0, .ref (idc 51 0)), (1, .ref (idc 0 i1)), (2, .ref (idc 4 i3)), (3, .ref (idc 34 i5))] dL_law_3320 rfl rfl (by first | decide | exact Nat.le_of_ble_eq_true rfl) rfl ?_
                      refine x_goto 3323 23 dL_law_3323 rfl ?_
                      refine x_sub [3, 4, 5, 6, 0] _ rfl ?_
                      exact hr7 (u6 + (6 : Int32))
                  · refine x_iconst 647 0 (0 : Int32) dL_law_647 rfl ?_
                    exact x_zret 648 hZ rfl dL_law_648
                · refine x_cnd (fun c84 => ?_) (fun c84 => ?_)
                  · refine x_tsw 40 669 (7 : Int32) 7 629 c84 rfl dL_law_40 (by first | decide | exact Nat.le_of_ble_eq_true rfl) (by first | decide | exact Nat.le_of_ble_eq_true rfl) rfl rfl ?_
                    refine x_aload_n 669 1 dL_law_669 rfl ?_
                    refine x_aload_n 670 0 dL_law_670 rfl ?_
                    refine x_iload 671 4 dL_law_671 rfl ?_
                    refine x_iconst 673 1 (1 : Int32) dL_law_673 rfl ?_
                    refine x_iadd 674 dL_law_674 ?_
                    refine x_sld 675 dL_law_675 ?_
                    refine x_aload_n 676 0 dL_law_676 rfl ?_
                    refine x_iload 677 4 dL_law_677 rfl ?_
                    refine x_iconst 679 2 (2 : Int32) dL_law_679 rfl ?_
                    refine x_iadd 680 dL_law_680 ?_
                    refine x_sld 681 dL_law_681 ?_
                    refine x_aload_n 682 0 dL_law_682 rfl ?_
                    refine x_iload 683 4 dL_law_683 rfl ?_
                    refine x_iconst 685 3 (3 : Int32) dL_law_685 rfl ?_
                    refine x_iadd 686 dL_law_686 ?_
                    refine x_sld 687 dL_law_687 ?_
                    refine x_bndj 696 (fun u88 => [(0, .ref (idc 51 0)), (1, .ref (idc 0 i1)), (2, .ref (idc 4 i3)), (3, .ref (idc 34 i5)), (4, .int u6)]) (fun u88 => [.int u88, .int (gx g (u6 + (2 : Int32)).toNatClampNeg), .int (gx g (u6 + (1 : Int32)).toNatClampNeg), .ref (idc 0 i1)]) (fun u88 => ?_) (fun hj102 => ?_)
                    · show TX g Γ _ Z _ 696 [(0, .ref (idc 51 0)), (1, .ref (idc 0 i1)), (2, .ref (idc 4 i3)), (3, .ref (idc 34 i5)), (4, .int u6)] [.int u88, .int (gx g (u6 + (2 : Int32)).toNatClampNeg), .int (gx g (u6 + (1 : Int32)).toNatClampNeg), .ref (idc 0 i1)] _
                      refine x_aload_n 696 3 dL_law_696 rfl ?_
                      refine x_cSW 697 8 [.ref (idc 0 i1), .int (gx g (u6 + (1 : Int32)).toNatClampNeg), .int (gx g (u6 + (2 : Int32)).toNatClampNeg), .int u88, .ref (idc 34 i5)] [] cs_X0_198 (im_X0_points hl (idc 0 i1) (gx g (u6 + (1 : Int32)).toNatClampNeg) (gx g (u6 + (2 : Int32)).toNatClampNeg) u88 i5) (by exact ⟨Nat.le_of_ble_eq_true rfl, by decide⟩) rfl (Nat.le_of_ble_eq_true rfl) dL_law_697 fun v89 => x_stI ?_
                      refine x_istore 700 [(5, .int v89), (0, .ref (idc 51 0)), (1, .ref (idc 0 i1)), (2, .ref (idc 4 i3)), (3, .ref (idc 34 i5)), (4, .int u6)] dL_law_700 (by first | decide | exact Nat.le_of_ble_eq_true rfl) rfl ?_
                      refine x_aload_n 702 3 dL_law_702 rfl ?_
                      refine x_aload_n 703 1 dL_law_703 rfl ?_
                      refine x_iload 704 5 dL_law_704 rfl ?_
                      refine x_iconst 706 1 (1 : Int32) dL_law_706 rfl ?_
                      refine x_iadd 707 dL_law_707 ?_
                      refine x_sld 708 dL_law_708 ?_
                      refine x_aload_n 709 1 dL_law_709 rfl ?_
                      refine x_iload 710 5 dL_law_710 rfl ?_
                      refine x_iconst 712 2 (2 : Int32) dL_law_712 rfl ?_
                      refine x_iadd 713 dL_law_713 ?_
                      refine x_sld 714 dL_law_714 ?_
                      refine x_aload_n 715 1 dL_law_715 rfl ?_
                      refine x_iload 716 5 dL_law_716 rfl ?_
                      refine x_iconst 718 3 (3 : Int32) dL_law_718 rfl ?_
                      refine x_iadd 719 dL_law_719 ?_
                      refine x_sld 720 dL_law_720 ?_
                      refine x_bndj 729 (fun u93 => [(0, .ref (idc 51 0)), (1, .ref (idc 0 i1)), (2, .ref (idc 4 i3)), (3, .ref (idc 34 i5)), (4, .int u6), (5, .int v89)]) (fun u93 => [.int u93, .int (gx g (u6 + (2 : Int32)).toNatClampNeg), .int (gx g (u6 + (1 : Int32)).toNatClampNeg), .ref (idc 4 i3)]) (fun u93 => ?_) (fun hj100 => ?_)
                      · show TX g Γ _ Z _ 729 [(0, .ref (idc 51 0)), (1, .ref (idc 0 i1)), (2, .ref (idc 4 i3)), (3, .ref (idc 34 i5)), (4, .int u6), (5, .int v89)] [.int u93, .int (gx g (u6 + (2 : Int32)).toNatClampNeg), .int (gx g (u6 + (1 : Int32)).toNatClampNeg), .ref (idc 4 i3)] _
                        refine x_cV 729 1 [.int (gx g (u6 + (1 : Int32)).toNatClampNeg), .int (gx g (u6 + (2 : Int32)).toNatClampNeg), .int u93] [] ⟨by decide, rfl⟩ cv_X0_201 (im_X5_points hl i3 (gx g (u6 + (1 : Int32)).toNatClampNeg) (gx g (u6 + (2 : Int32)).toNatClampNeg) u93) (by exact ⟨Nat.le_of_ble_eq_true rfl, by decide⟩) rfl (Nat.le_of_ble_eq_true rfl) dL_law_729 fun v94 => x_stI ?_
                        refine x_istore 732 [(6, .int v94), (0, .ref (idc 51 0)), (1, .ref (idc 0 i1)), (2, .ref (idc 4 i3)), (3, .ref (idc 34 i5)), (4, .int u6), (5, .int v89)] dL_law_732 (by first | decide | exact Nat.le_of_ble_eq_true rfl) rfl ?_
                        refine x_aload_n 734 3 dL_law_734 rfl ?_
                        refine x_cV 735 0 [] [] ⟨by decide, rfl⟩ cv_X0_173 (im_X5_thrown hl i3) (by exact ⟨Nat.le_of_ble_eq_true rfl, by decide⟩) rfl (Nat.le_of_ble_eq_true rfl) dL_law_735 fun v95 => x_stI ?_
                        refine x_iload 738 6 dL_law_738 rfl ?_
                        refine x_icmp_eq 740 745 dL_law_740 rfl (fun c96 => ?_) (fun c96 => ?_)
                        · refine x_iload 745 6 dL_law_745 rfl ?_
                          refine x_if_ne 747 762 dL_law_747 rfl (fun c97 => ?_) (fun c97 => ?_)
                          · refine x_aload_n 750 4 dL_law_750 rfl ?_
                            refine x_iconst 751 0 (0 : Int32) dL_law_751 rfl ?_
                            refine x_lald 752 dL_law_752 fun v98 => ?_
                            refine x_iload 753 0 dL_law_753 rfl ?_
                            refine x_i2l 755 dL_law_755 ?_
                            refine x_lcmp 756 dL_law_756 ?_
                            refine x_if_eq 757 762 dL_law_757 rfl (fun c99 => ?_) (fun c99 => ?_)
                            · refine x_goto 762 3320 dL_law_762 rfl ?_
                              refine x_iinc 3320 5 [(4, .int (u6 + (6 : Int32))), (6, .int v94), (0, .ref (idc 51 0)), (1, .ref (idc 0 i1)), (2, .ref (idc 4 i3)), (3, .ref (idc 34 i5)), (5, .int v89)] dL_law_3320 rfl rfl (by first | decide | exact Nat.le_of_ble_eq_true rfl) rfl ?_
                              refine x_goto 3323 23 dL_law_3323 rfl ?_
                              refine x_sub [2, 3, 4, 5, 0] _ rfl ?_
                              exact hr7 (u6 + (6 : Int32))
                            · refine x_iconst 760 0 (0 : Int32) dL_law_760 rfl ?_
                              exact x_zret 761 hZ rfl dL_law_761
                          · refine x_goto 762 3320 dL_law_762 rfl ?_
                            refine x_iinc 3320 5 [(4, .int (u6 + (6 : Int32))), (6, .int v94), (0, .ref (idc 51 0)), (1, .ref (idc 0 i1)), (2, .ref (idc 4 i3)), (3, .ref (idc 34 i5)), (5, .int v89)] dL_law_3320 rfl rfl (by first | decide | exact Nat.le_of_ble_eq_true rfl) rfl ?_
                            refine x_goto 3323 23 dL_law_3323 rfl ?_
                            refine x_sub [2, 3, 4, 5, 0] _ rfl ?_
                            exact hr7 (u6 + (6 : Int32))
                        · refine x_iconst 743 0 (0 : Int32) dL_law_743 rfl ?_
                          exact x_zret 744 hZ rfl dL_law_744
                      · refine x_if_eq 721 728 dL_law_721 rfl (fun c101 => ?_) (fun c101 => ?_)
                        · refine x_iconst 728 0 (0 : Int32) dL_law_728 rfl ?_
                          refine x_sub [1, 2, 3, 4, 5, 0] _ rfl ?_
                          exact hj100 (0 : Int32)
                        · refine x_iconst 724 1 (1 : Int32) dL_law_724 rfl ?_
                          refine x_goto 725 729 dL_law_725 rfl ?_
                          refine x_sub [1, 2, 3, 4, 5, 0] _ rfl ?_
                          exact hj100 (1 : Int32)
                    · refine x_if_eq 688 695 dL_law_688 rfl (fun c103 => ?_) (fun c103 => ?_)
                      · refine x_iconst 695 0 (0 : Int32) dL_law_695 rfl ?_
                        exact hj102 (0 : Int32)
                      · refine x_iconst 691 1 (1 : Int32) dL_law_691 rfl ?_
                        refine x_goto 692 696 dL_law_692 rfl ?_
                        exact hj102 (1 : Int32)
                  · refine x_cnd (fun c104 => ?_) (fun c104 => ?_)
                    · refine x_tsw 40 765 (8 : Int32) 8 725 c104 rfl dL_law_40 (by first | decide | exact Nat.le_of_ble_eq_true rfl) (by first | decide | exact Nat.le_of_ble_eq_true rfl) rfl rfl ?_
                      refine x_aload_n 765 1 dL_law_765 rfl ?_
                      refine x_aload_n 766 0 dL_law_766 rfl ?_
                      refine x_iload 767 4 dL_law_767 rfl ?_
                      refine x_iconst 769 1 (1 : Int32) dL_law_769 rfl ?_
                      refine x_iadd 770 dL_law_770 ?_
                      refine x_sld 771 dL_law_771 ?_
                      refine x_aload_n 772 0 dL_law_772 rfl ?_
                      refine x_iload 773 4 dL_law_773 rfl ?_
                      refine x_iconst 775 2 (2 : Int32) dL_law_775 rfl ?_
                      refine x_iadd 776 dL_law_776 ?_
                      refine x_sld 777 dL_law_777 ?_
                      refine x_aload_n 778 0 dL_law_778 rfl ?_
                      refine x_iload 779 4 dL_law_779 rfl ?_
                      refine x_iconst 781 3 (3 : Int32) dL_law_781 rfl ?_
                      refine x_iadd 782 dL_law_782 ?_
                      refine x_sld 783 dL_law_783 ?_
                      refine x_aload_n 784 3 dL_law_784 rfl ?_
                      refine x_cSW 785 12 [.ref (idc 0 i1), .int (gx g (u6 + (1 : Int32)).toNatClampNeg), .int (gx g (u6 + (2 : Int32)).toNatClampNeg), .int (gx g (u6 + (3 : Int32)).toNatClampNeg), .ref (idc 34 i5)] [] cs_X0_202 (im_X0_begin hl (idc 0 i1) (gx g (u6 + (1 : Int32)).toNatClampNeg) (gx g (u6 + (2 : Int32)).toNatClampNeg) (gx g (u6 + (3 : Int32)).toNatClampNeg) i5) (by exact ⟨Nat.le_of_ble_eq_true rfl, by decide⟩) rfl (Nat.le_of_ble_eq_true rfl) dL_law_785 fun v108 => x_stI ?_
                      refine x_istore 788 [(5, .int v108), (0, .ref (idc 51 0)), (1, .ref (idc 0 i1)), (2, .ref (idc 4 i3)), (3, .ref (idc 34 i5)), (4, .int u6)] dL_law_788 (by first | decide | exact Nat.le_of_ble_eq_true rfl) rfl ?_
                      refine x_aload_n 790 3 dL_law_790 rfl ?_
                      refine x_aload_n 791 1 dL_law_791 rfl ?_
                      refine x_iload 792 5 dL_law_792 rfl ?_
                      refine x_iconst 794 1 (1 : Int32) dL_law_794 rfl ?_
                      refine x_iadd 795 dL_law_795 ?_
                      refine x_sld 796 dL_law_796 ?_
                      refine x_aload_n 797 1 dL_law_797 rfl ?_
                      refine x_iload 798 5 dL_law_798 rfl ?_
                      refine x_iconst 800 2 (2 : Int32) dL_law_800 rfl ?_
                      refine x_iadd 801 dL_law_801 ?_
                      refine x_sld 802 dL_law_802 ?_
                      refine x_aload_n 803 1 dL_law_803 rfl ?_
                      refine x_iload 804 5 dL_law_804 rfl ?_
                      refine x_iconst 806 3 (3 : Int32) dL_law_806 rfl ?_
                      refine x_iadd 807 dL_law_807 ?_
                      refine x_sld 808 dL_law_808 ?_
                      refine x_cV 809 4 [.int (gx g (u6 + (1 : Int32)).toNatClampNeg), .int (gx g (u6 + (2 : Int32)).toNatClampNeg), .int (gx g (u6 + (3 : Int32)).toNatClampNeg)] [] ⟨by decide, rfl⟩ cv_X0_205 (im_X5_begin hl i3 (gx g (u6 + (1 : Int32)).toNatClampNeg) (gx g (u6 + (2 : Int32)).toNatClampNeg) (gx g (u6 + (3 : Int32)).toNatClampNeg)) (by exact ⟨Nat.le_of_ble_eq_true rfl, by decide⟩) rfl (Nat.le_of_ble_eq_true rfl) dL_law_809 fun v112 => x_stI ?_
                      refine x_istore 812 [(6, .int v112), (5, .int v108), (0, .ref (idc 51 0)), (1, .ref (idc 0 i1)), (2, .ref (idc 4 i3)), (3, .ref (idc 34 i5)), (4, .int u6)] dL_law_812 (by first | decide | exact Nat.le_of_ble_eq_true rfl) rfl ?_
                      refine x_aload_n 814 4 dL_law_814 rfl ?_
                      refine x_cV 815 0 [] [] ⟨by decide, rfl⟩ cv_X0_173 (im_X5_thrown hl i3) (by exact ⟨Nat.le_of_ble_eq_true rfl, by decide⟩) rfl (Nat.le_of_ble_eq_true rfl) dL_law_815 fun v113 => x_stI ?_
                      refine x_iload 818 1 dL_law_818 rfl ?_
                      refine x_icmp_eq 820 825 dL_law_820 rfl (fun c114 => ?_) (fun c114 => ?_)
                      · refine x_iload 825 1 dL_law_825 rfl ?_
                        refine x_if_ne 827 842 dL_law_827 rfl (fun c115 => ?_) (fun c115 => ?_)
                        · refine x_aload_n 830 5 dL_law_830 rfl ?_
                          refine x_iconst 831 0 (0 : Int32) dL_law_831 rfl ?_
                          refine x_lald 832 dL_law_832 fun v116 => ?_
                          refine x_iload 833 0 dL_law_833 rfl ?_
                          refine x_i2l 835 dL_law_835 ?_
                          refine x_lcmp 836 dL_law_836 ?_
                          refine x_if_eq 837 842 dL_law_837 rfl (fun c117 => ?_) (fun c117 => ?_)
                          · refine x_goto 842 3320 dL_law_842 rfl ?_
                            refine x_iinc 3320 6 [(4, .int (u6 + (6 : Int32))), (6, .int v112), (5, .int v108), (0, .ref (idc 51 0)), (1, .ref (idc 0 i1)), (2, .ref (idc 4 i3)), (3, .ref (idc 34 i5))] dL_law_3320 rfl rfl (by first | decide | exact Nat.le_of_ble_eq_true rfl) rfl ?_
                            refine x_goto 3323 23 dL_law_3323 rfl ?_
                            refine x_sub [3, 4, 5, 6, 0] _ rfl ?_
                            exact hr7 (u6 + (6 : Int32))
                          · refine x_iconst 840 0 (0 : Int32) dL_law_840 rfl ?_
                            exact x_zret 841 hZ rfl dL_law_841
                        · refine x_goto 842 3320 dL_law_842 rfl ?_
                          refine x_iinc 3320 6 [(4, .int (u6 + (6 : Int32))), (6, .int v112), (5, .int v108), (0, .ref (idc 51 0)), (1, .ref (idc 0 i1)), (2, .ref (idc 4 i3)), (3, .ref (idc 34 i5))] dL_law_3320 rfl rfl (by first | decide | exact Nat.le_of_ble_eq_true rfl) rfl ?_
                          refine x_goto 3323 23 dL_law_3323 rfl ?_
                          refine x_sub [3, 4, 5, 6, 0] _ rfl ?_
                          exact hr7 (u6 + (6 : Int32))
                      · refine x_iconst 823 0 (0 : Int32) dL_law_823 rfl ?_
                        exact x_zret 824 hZ rfl dL_law_824
                    · refine x_cnd (fun c118 => ?_) (fun c118 => ?_)
                      · refine x_tsw 40 845 (9 : Int32) 9 805 c118 rfl dL_law_40 (by first | decide | exact Nat.le_of_ble_eq_true rfl) (by first | decide | exact Nat.le_of_ble_eq_true rfl) rfl rfl ?_
                        refine x_aload_n 845 1 dL_law_845 rfl ?_
                        refine x_aload_n 846 0 dL_law_846 rfl ?_
                        refine x_iload 847 4 dL_law_847 rfl ?_
                        refine x_iconst 849 1 (1 : Int32) dL_law_849 rfl ?_
                        refine x_iadd 850 dL_law_850 ?_
                        refine x_sld 851 dL_law_851 ?_
                        refine x_aload_n 852 0 dL_law_852 rfl ?_
                        refine x_iload 853 4 dL_law_853 rfl ?_
                        refine x_iconst 855 2 (2 : Int32) dL_law_855 rfl ?_
                        refine x_iadd 856 dL_law_856 ?_
                        refine x_sld 857 dL_law_857 ?_
                        refine x_bndj 866 (fun u121 => [(0, .ref (idc 51 0)), (1, .ref (idc 0 i1)), (2, .ref (idc 4 i3)), (3, .ref (idc 34 i5)), (4, .int u6)]) (fun u121 => [.int u121, .int (gx g (u6 + (1 : Int32)).toNatClampNeg), .ref (idc 0 i1)]) (fun u121 => ?_) (fun hj136 => ?_)
                        · show TX g Γ _ Z _ 866 [(0, .ref (idc 51 0)), (1, .ref (idc 0 i1)), (2, .ref (idc 4 i3)), (3, .ref (idc 34 i5)), (4, .int u6)] [.int u121, .int (gx g (u6 + (1 : Int32)).toNatClampNeg), .ref (idc 0 i1)] _
                          refine x_aload_n 866 0 dL_law_866 rfl ?_
                          refine x_iload 867 4 dL_law_867 rfl ?_
                          refine x_iconst 869 3 (3 : Int32) dL_law_869 rfl ?_
                          refine x_iadd 870 dL_law_870 ?_
                          refine x_sld 871 dL_law_871 ?_
                          refine x_aload_n 872 3 dL_law_872 rfl ?_
                          refine x_cSW 873 13 [.ref (idc 0 i1), .int (gx g (u6 + (1 : Int32)).toNatClampNeg), .int u121, .int (gx g (u6 + (3 : Int32)).toNatClampNeg), .ref (idc 34 i5)] [] cs_X0_206 (im_X0_answer hl (idc 0 i1) (gx g (u6 + (1 : Int32)).toNatClampNeg) u121 (gx g (u6 + (3 : Int32)).toNatClampNeg) i5) (by exact ⟨Nat.le_of_ble_eq_true rfl, by decide⟩) rfl (Nat.le_of_ble_eq_true rfl) dL_law_873 fun v123 => x_stI ?_
                          refine x_istore 876 [(5, .int v123), (0, .ref (idc 51 0)), (1, .ref (idc 0 i1)), (2, .ref (idc 4 i3)), (3, .ref (idc 34 i5)), (4, .int u6)] dL_law_876 (by first | decide | exact Nat.le_of_ble_eq_true rfl) rfl ?_
                          refine x_aload_n 878 3 dL_law_878 rfl ?_
                          refine x_aload_n 879 1 dL_law_879 rfl ?_
                          refine x_iload 880 5 dL_law_880 rfl ?_
                          refine x_iconst 882 1 (1 : Int32) dL_law_882 rfl ?_
                          refine x_iadd 883 dL_law_883 ?_
                          refine x_sld 884 dL_law_884 ?_
                          refine x_aload_n 885 1 dL_law_885 rfl ?_
                          refine x_iload 886 5 dL_law_886 rfl ?_
                          refine x_iconst 888 2 (2 : Int32) dL_law_888 rfl ?_
                          refine x_iadd 889 dL_law_889 ?_
                          refine x_sld 890 dL_law_890 ?_
                          refine x_bndj 899 (fun u126 => [(0, .ref (idc 51 0)), (1, .ref (idc 0 i1)), (2, .ref (idc 4 i3)), (3, .ref (idc 34 i5)), (4, .int u6), (5, .int v123)]) (fun u126 => [.int u126, .int (gx g (u6 + (1 : Int32)).toNatClampNeg), .ref (idc 4 i3)]) (fun u126 => ?_) (fun hj134 => ?_)
                          · show TX g Γ _ Z _ 899 [(0, .ref (idc 51 0)), (1, .ref (idc 0 i1)), (2, .ref (idc 4 i3)), (3, .ref (idc 34 i5)), (4, .int u6), (5, .int v123)] [.int u126, .int (gx g (u6 + (1 : Int32)).toNatClampNeg), .ref (idc 4 i3)] _
                            refine x_aload_n 899 0 dL_law_899 rfl ?_
                            refine x_iload 900 4 dL_law_900 rfl ?_
                            refine x_iconst 902 3 (3 : Int32) dL_law_902 rfl ?_
                            refine x_iadd 903 dL_law_903 ?_
                            refine x_sld 904 dL_law_904 ?_
                            refine x_cV 905 4 [.int (gx g (u6 + (1 : Int32)).toNatClampNeg), .int u126, .int (gx g (u6 + (3 : Int32)).toNatClampNeg)] [] ⟨by decide, rfl⟩ cv_X0_209 (im_X5_answer hl i3 (gx g (u6 + (1 : Int32)).toNatClampNeg) u126 (gx g (u6 + (3 : Int32)).toNatClampNeg)) (by exact ⟨Nat.le_of_ble_eq_true rfl, by decide⟩) rfl (Nat.le_of_ble_eq_true rfl) dL_law_905 fun v128 => x_stI ?_
                            refine x_istore 908 [(6, .int v128), (0, .ref (idc 51 0)), (1, .ref (idc 0 i1)), (2, .ref (idc 4 i3)), (3, .ref (idc 34 i5)), (4, .int u6), (5, .int v123)] dL_law_908 (by first | decide | exact Nat.le_of_ble_eq_true rfl) rfl ?_
                            refine x_aload_n 910 3 dL_law_910 rfl ?_
                            refine x_cV 911 0 [] [] ⟨by decide, rfl⟩ cv_X0_173 (im_X5_thrown hl i3) (by exact ⟨Nat.le_of_ble_eq_true rfl, by decide⟩) rfl (Nat.le_of_ble_eq_true rfl) dL_law_911 fun v129 => x_stI ?_
                            refine x_iload 914 6 dL_law_914 rfl ?_
                            refine x_icmp_eq 916 921 dL_law_916 rfl (fun c130 => ?_) (fun c130 => ?_)
                            · refine x_iload 921 6 dL_law_921 rfl ?_
                              refine x_if_ne 923 938 dL_law_923 rfl (fun c131 => ?_) (fun c131 => ?_)
                              · refine x_aload_n 926 4 dL_law_926 rfl ?_
                                refine x_iconst 927 0 (0 : Int32) dL_law_927 rfl ?_
                                refine x_lald 928 dL_law_928 fun v132 => ?_
                                refine x_iload 929 0 dL_law_929 rfl ?_
                                refine x_i2l 931 dL_law_931 ?_
                                refine x_lcmp 932 dL_law_932 ?_
                                refine x_if_eq 933 938 dL_law_933 rfl (fun c133 => ?_) (fun c133 => ?_)
                                · refine x_goto 938 3320 dL_law_938 rfl ?_
                                  refine x_iinc 3320 5 [(4, .int (u6 + (6 : Int32))), (6, .int v128), (0, .ref (idc 51 0)), (1, .ref (idc 0 i1)), (2, .ref (idc 4 i3)), (3, .ref (idc 34 i5)), (5, .int v123)] dL_law_3320 rfl rfl (by first | decide | exact Nat.le_of_ble_eq_true rfl) rfl ?_
                                  refine x_goto 3323 23 dL_law_3323 rfl ?_
                                  refine x_sub [2, 3, 4, 5, 0] _ rfl ?_
                                  exact hr7 (u6 + (6 : Int32))
                                · refine x_iconst 936 0 (0 : Int32) dL_law_936 rfl ?_
                                  exact x_zret 937 hZ rfl dL_law_937
                              · refine x_goto 938 3320 dL_law_938 rfl ?_
                                refine x_iinc 3320 5 [(4, .int (u6 + (6 : Int32))), (6, .int v128), (0, .ref (idc 51 0)), (1, .ref (idc 0 i1)), (2, .ref (idc 4 i3)), (3, .ref (idc 34 i5)), (5, .int v123)] dL_law_3320 rfl rfl (by first | decide | exact Nat.le_of_ble_eq_true rfl) rfl ?_
                                refine x_goto 3323 23 dL_law_3323 rfl ?_
                                refine x_sub [2, 3, 4, 5, 0] _ rfl ?_
                                exact hr7 (u6 + (6 : Int32))
                            · refine x_iconst 919 0 (0 : Int32) dL_law_919 rfl ?_
                              exact x_zret 920 hZ rfl dL_law_920
                          · refine x_if_eq 891 898 dL_law_891 rfl (fun c135 => ?_) (fun c135 => ?_)
                            · refine x_iconst 898 0 (0 : Int32) dL_law_898 rfl ?_
                              refine x_sub [1, 2, 3, 4, 5, 0] _ rfl ?_
                              exact hj134 (0 : Int32)
                            · refine x_iconst 894 1 (1 : Int32) dL_law_894 rfl ?_
                              refine x_goto 895 899 dL_law_895 rfl ?_
                              refine x_sub [1, 2, 3, 4, 5, 0] _ rfl ?_
                              exact hj134 (1 : Int32)
                        · refine x_if_eq 858 865 dL_law_858 rfl (fun c137 => ?_) (fun c137 => ?_)
                          · refine x_iconst 865 0 (0 : Int32) dL_law_865 rfl ?_
                            exact hj136 (0 : Int32)
                          · refine x_iconst 861 1 (1 : Int32) dL_law_861 rfl ?_
                            refine x_goto 862 866 dL_law_862 rfl ?_
                            exact hj136 (1 : Int32)
                      · refine x_cnd (fun c138 => ?_) (fun c138 => ?_)
                        · refine x_tsw 40 941 (10 : Int32) 10 901 c138 rfl dL_law_40 (by first | decide | exact Nat.le_of_ble_eq_true rfl) (by first | decide | exact Nat.le_of_ble_eq_true rfl) rfl rfl ?_
                          refine x_aload_n 941 1 dL_law_941 rfl ?_
                          refine x_aload_n 942 0 dL_law_942 rfl ?_
                          refine x_iload 943 4 dL_law_943 rfl ?_
                          refine x_iconst 945 1 (1 : Int32) dL_law_945 rfl ?_
                          refine x_iadd 946 dL_law_946 ?_
                          refine x_sld 947 dL_law_947 ?_
                          refine x_aload_n 948 3 dL_law_948 rfl ?_
                          refine x_cSW 949 9 [.ref (idc 0 i1), .int (gx g (u6 + (1 : Int32)).toNatClampNeg), .ref (idc 34 i5)] [] cs_X0_210 (im_X0_state hl (idc 0 i1) (gx g (u6 + (1 : Int32)).toNatClampNeg) i5) (by exact ⟨Nat.le_of_ble_eq_true rfl, by decide⟩) rfl (Nat.le_of_ble_eq_true rfl) dL_law_949 fun v140 => x_stI ?_
                          refine x_istore 952 [(5, .int v140), (0, .ref (idc 51 0)), (1, .ref (idc 0 i1)), (2, .ref (idc 4 i3)), (3, .ref (idc 34 i5)), (4, .int u6)] dL_law_952 (by first | decide | exact Nat.le_of_ble_eq_true rfl) rfl ?_
                          refine x_aload_n 954 3 dL_law_954 rfl ?_
                          refine x_aload_n 955 1 dL_law_955 rfl ?_
                          refine x_iload 956 5 dL_law_956 rfl ?_
                          refine x_iconst 958 1 (1 : Int32) dL_law_958 rfl ?_
                          refine x_iadd 959 dL_law_959 ?_
                          refine x_sld 960 dL_law_960 ?_
                          refine x_cV 961 2 [.int (gx g (u6 + (1 : Int32)).toNatClampNeg)] [] ⟨by decide, rfl⟩ cv_X0_212 (im_X5_state hl i3 (gx g (u6 + (1 : Int32)).toNatClampNeg)) (by exact ⟨Nat.le_of_ble_eq_true rfl, by decide⟩) rfl (Nat.le_of_ble_eq_true rfl) dL_law_961 fun v142 => x_stI ?_
                          refine x_istore 964 [(6, .int v142), (5, .int v140), (0, .ref (idc 51 0)), (1, .ref (idc 0 i1)), (2, .ref (idc 4 i3)), (3, .ref (idc 34 i5)), (4, .int u6)] dL_law_964 (by first | decide | exact Nat.le_of_ble_eq_true rfl) rfl ?_
                          refine x_aload_n 966 4 dL_law_966 rfl ?_
                          refine x_cV 967 0 [] [] ⟨by decide, rfl⟩ cv_X0_173 (im_X5_thrown hl i3) (by exact ⟨Nat.le_of_ble_eq_true rfl, by decide⟩) rfl (Nat.le_of_ble_eq_true rfl) dL_law_967 fun v143 => x_stI ?_
                          refine x_iload 970 1 dL_law_970 rfl ?_
                          refine x_icmp_eq 972 977 dL_law_972 rfl (fun c144 => ?_) (fun c144 => ?_)
                          · refine x_iload 977 1 dL_law_977 rfl ?_
                            refine x_if_ne 979 994 dL_law_979 rfl (fun c145 => ?_) (fun c145 => ?_)
                            · refine x_aload_n 982 5 dL_law_982 rfl ?_
                              refine x_iconst 983 0 (0 : Int32) dL_law_983 rfl ?_
                              refine x_lald 984 dL_law_984 fun v146 => ?_
                              refine x_iload 985 0 dL_law_985 rfl ?_
                              refine x_i2l 987 dL_law_987 ?_
                              refine x_lcmp 988 dL_law_988 ?_
                              refine x_if_eq 989 994 dL_law_989 rfl (fun c147 => ?_) (fun c147 => ?_)
                              · refine x_goto 994 3320 dL_law_994 rfl ?_
                                refine x_iinc 3320 6 [(4, .int (u6 + (6 : Int32))), (6, .int v142), (5, .int v140), (0, .ref (idc 51 0)), (1, .ref (idc 0 i1)), (2, .ref (idc 4 i3)), (3, .ref (idc 34 i5))] dL_law_3320 rfl rfl (by first | decide | exact Nat.le_of_ble_eq_true rfl) rfl ?_
                                refine x_goto 3323 23 dL_law_3323 rfl ?_
                                refine x_sub [3, 4, 5, 6, 0] _ rfl ?_
                                exact hr7 (u6 + (6 : Int32))
                              · refine x_iconst 992 0 (0 : Int32) dL_law_992 rfl ?_
                                exact x_zret 993 hZ rfl dL_law_993
                            · refine x_goto 994 3320 dL_law_994 rfl ?_
                              refine x_iinc 3320 6 [(4, .int (u6 + (6 : Int32))), (6, .int v142), (5, .int v140), (0, .ref (idc 51 0)), (1, .ref (idc 0 i1)), (2, .ref (idc 4 i3)), (3, .ref (idc 34 i5))] dL_law_3320 rfl rfl (by first | decide | exact Nat.le_of_ble_eq_true rfl) rfl ?_
                              refine x_goto 3323 23 dL_law_3323 rfl ?_
                              refine x_sub [3, 4, 5, 6, 0] _ rfl ?_
                              exact hr7 (u6 + (6 : Int32))
                          · refine x_iconst 975 0 (0 : Int32) dL_law_975 rfl ?_
                            exact x_zret 976 hZ rfl dL_law_976
                        · refine x_cnd (fun c148 => ?_) (fun c148 => ?_)
                          · refine x_tsw 40 997 (11 : Int32) 11 957 c148 rfl dL_law_40 (by first | decide | exact Nat.le_of_ble_eq_true rfl) (by first | decide | exact Nat.le_of_ble_eq_true rfl) rfl rfl ?_
                            refine x_aload_n 997 1 dL_law_997 rfl ?_
                            refine x_aload_n 998 0 dL_law_998 rfl ?_
                            refine x_iload 999 4 dL_law_999 rfl ?_
                            refine x_iconst 1001 1 (1 : Int32) dL_law_1001 rfl ?_
                            refine x_iadd 1002 dL_law_1002 ?_
                            refine x_sld 1003 dL_law_1003 ?_
                            refine x_aload_n 1004 3 dL_law_1004 rfl ?_
                            refine x_cSW 1005 9 [.ref (idc 0 i1), .int (gx g (u6 + (1 : Int32)).toNatClampNeg), .ref (idc 34 i5)] [] cs_X0_213 (im_X0_asked hl (idc 0 i1) (gx g (u6 + (1 : Int32)).toNatClampNeg) i5) (by exact ⟨Nat.le_of_ble_eq_true rfl, by decide⟩) rfl (Nat.le_of_ble_eq_true rfl) dL_law_1005 fun v150 => x_stI ?_
                            refine x_istore 1008 [(5, .int v150), (0, .ref (idc 51 0)), (1, .ref (idc 0 i1)), (2, .ref (idc 4 i3)), (3, .ref (idc 34 i5)), (4, .int u6)] dL_law_1008 (by first | decide | exact Nat.le_of_ble_eq_true rfl) rfl ?_
                            refine x_aload_n 1010 3 dL_law_1010 rfl ?_
                            refine x_aload_n 1011 1 dL_law_1011 rfl ?_
                            refine x_iload 1012 5 dL_law_1012 rfl ?_
                            refine x_iconst 1014 1 (1 : Int32) dL_law_1014 rfl ?_
                            refine x_iadd 1015 dL_law_1015 ?_
                            refine x_sld 1016 dL_law_1016 ?_
                            refine x_cV 1017 2 [.int (gx g (u6 + (1 : Int32)).toNatClampNeg)] [] ⟨by decide, rfl⟩ cv_X0_215 (im_X5_asked hl i3 (gx g (u6 + (1 : Int32)).toNatClampNeg)) (by exact ⟨Nat.le_of_ble_eq_true rfl, by decide⟩) rfl (Nat.le_of_ble_eq_true rfl) dL_law_1017 fun v152 => x_stI ?_
                            refine x_istore 1020 [(6, .int v152), (5, .int v150), (0, .ref (idc 51 0)), (1, .ref (idc 0 i1)), (2, .ref (idc 4 i3)), (3, .ref (idc 34 i5)), (4, .int u6)] dL_law_1020 (by first | decide | exact Nat.le_of_ble_eq_true rfl) rfl ?_
                            refine x_aload_n 1022 4 dL_law_1022 rfl ?_
                            refine x_cV 1023 0 [] [] ⟨by decide, rfl⟩ cv_X0_173 (im_X5_thrown hl i3) (by exact ⟨Nat.le_of_ble_eq_true rfl, by decide⟩) rfl (Nat.le_of_ble_eq_true rfl) dL_law_1023 fun v153 => x_stI ?_
                            refine x_iload 1026 1 dL_law_1026 rfl ?_
                            refine x_icmp_eq 1028 1033 dL_law_1028 rfl (fun c154 => ?_) (fun c154 => ?_)
                            · refine x_iload 1033 1 dL_law_1033 rfl ?_
                              refine x_if_ne 1035 1050 dL_law_1035 rfl (fun c155 => ?_) (fun c155 => ?_)
                              · refine x_aload_n 1038 5 dL_law_1038 rfl ?_
                                refine x_iconst 1039 0 (0 : Int32) dL_law_1039 rfl ?_
                                refine x_lald 1040 dL_law_1040 fun v156 => ?_
                                refine x_iload 1041 0 dL_law_1041 rfl ?_
                                refine x_i2l 1043 dL_law_1043 ?_
                                refine x_lcmp 1044 dL_law_1044 ?_
                                refine x_if_eq 1045 1050 dL_law_1045 rfl (fun c157 => ?_) (fun c157 => ?_)
                                · refine x_goto 1050 3320 dL_law_1050 rfl ?_
                                  refine x_iinc 3320 6 [(4, .int (u6 + (6 : Int32))), (6, .int v152), (5, .int v150), (0, .ref (idc 51 0)), (1, .ref (idc 0 i1)), (2, .ref (idc 4 i3)), (3, .ref (idc 34 i5))] dL_law_3320 rfl rfl (by first | decide | exact Nat.le_of_ble_eq_true rfl) rfl ?_
                                  refine x_goto 3323 23 dL_law_3323 rfl ?_
                                  refine x_sub [3, 4, 5, 6, 0] _ rfl ?_
                                  exact hr7 (u6 + (6 : Int32))
                                · refine x_iconst 1048 0 (0 : Int32) dL_law_1048 rfl ?_
                                  exact x_zret 1049 hZ rfl dL_law_1049
                              · refine x_goto 1050 3320 dL_law_1050 rfl ?_
                                refine x_iinc 3320 6 [(4, .int (u6 + (6 : Int32))), (6, .int v152), (5, .int v150), (0, .ref (idc 51 0)), (1, .ref (idc 0 i1)), (2, .ref (idc 4 i3)), (3, .ref (idc 34 i5))] dL_law_3320 rfl rfl (by first | decide | exact Nat.le_of_ble_eq_true rfl) rfl ?_
                                refine x_goto 3323 23 dL_law_3323 rfl ?_
                                refine x_sub [3, 4, 5, 6, 0] _ rfl ?_
                                exact hr7 (u6 + (6 : Int32))
                            · refine x_iconst 1031 0 (0 : Int32) dL_law_1031 rfl ?_
                              exact x_zret 1032 hZ rfl dL_law_1032
                          · refine x_cnd (fun c158 => ?_) (fun c158 => ?_)
                            · refine x_tsw 40 1053 (12 : Int32) 12 1013 c158 rfl dL_law_40 (by first | decide | exact Nat.le_of_ble_eq_true rfl) (by first | decide | exact Nat.le_of_ble_eq_true rfl) rfl rfl ?_
                              refine x_aload_n 1053 1 dL_law_1053 rfl ?_
                              refine x_aload_n 1054 0 dL_law_1054 rfl ?_
                              refine x_iload 1055 4 dL_law_1055 rfl ?_
                              refine x_iconst 1057 1 (1 : Int32) dL_law_1057 rfl ?_
                              refine x_iadd 1058 dL_law_1058 ?_
                              refine x_sld 1059 dL_law_1059 ?_
                              refine x_aload_n 1060 3 dL_law_1060 rfl ?_
                              refine x_cSW 1061 9 [.ref (idc 0 i1), .int (gx g (u6 + (1 : Int32)).toNatClampNeg), .ref (idc 34 i5)] [] cs_X0_216 (im_X0_sessionOf hl (idc 0 i1) (gx g (u6 + (1 : Int32)).toNatClampNeg) i5) (by exact ⟨Nat.le_of_ble_eq_true rfl, by decide⟩) rfl (Nat.le_of_ble_eq_true rfl) dL_law_1061 fun v160 => x_stI ?_
                              refine x_istore 1064 [(5, .int v160), (0, .ref (idc 51 0)), (1, .ref (idc 0 i1)), (2, .ref (idc 4 i3)), (3, .ref (idc 34 i5)), (4, .int u6)] dL_law_1064 (by first | decide | exact Nat.le_of_ble_eq_true rfl) rfl ?_
                              refine x_aload_n 1066 3 dL_law_1066 rfl ?_
                              refine x_aload_n 1067 1 dL_law_1067 rfl ?_
                              refine x_iload 1068 5 dL_law_1068 rfl ?_
                              refine x_iconst 1070 1 (1 : Int32) dL_law_1070 rfl ?_
                              refine x_iadd 1071 dL_law_1071 ?_
                              refine x_sld 1072 dL_law_1072 ?_
                              refine x_cV 1073 2 [.int (gx g (u6 + (1 : Int32)).toNatClampNeg)] [] ⟨by decide, rfl⟩ cv_X0_218 (im_X5_sessionOf hl i3 (gx g (u6 + (1 : Int32)).toNatClampNeg)) (by exact ⟨Nat.le_of_ble_eq_true rfl, by decide⟩) rfl (Nat.le_of_ble_eq_true rfl) dL_law_1073 fun v162 => x_stI ?_
                              refine x_istore 1076 [(6, .int v162), (5, .int v160), (0, .ref (idc 51 0)), (1, .ref (idc 0 i1)), (2, .ref (idc 4 i3)), (3, .ref (idc 34 i5)), (4, .int u6)] dL_law_1076 (by first | decide | exact Nat.le_of_ble_eq_true rfl) rfl ?_
                              refine x_aload_n 1078 4 dL_law_1078 rfl ?_
                              refine x_cV 1079 0 [] [] ⟨by decide, rfl⟩ cv_X0_173 (im_X5_thrown hl i3) (by exact ⟨Nat.le_of_ble_eq_true rfl, by decide⟩) rfl (Nat.le_of_ble_eq_true rfl) dL_law_1079 fun v163 => x_stI ?_
                              refine x_iload 1082 1 dL_law_1082 rfl ?_
                              refine x_icmp_eq 1084 1089 dL_law_1084 rfl (fun c164 => ?_) (fun c164 => ?_)
                              · refine x_iload 1089 1 dL_law_1089 rfl ?_
                                refine x_if_ne 1091 1106 dL_law_1091 rfl (fun c165 => ?_) (fun c165 => ?_)
                                · refine x_aload_n 1094 5 dL_law_1094 rfl ?_
                                  refine x_iconst 1095 0 (0 : Int32) dL_law_1095 rfl ?_
                                  refine x_lald 1096 dL_law_1096 fun v166 => ?_
                                  refine x_iload 1097 0 dL_law_1097 rfl ?_
                                  refine x_i2l 1099 dL_law_1099 ?_
                                  refine x_lcmp 1100 dL_law_1100 ?_
                                  refine x_if_eq 1101 1106 dL_law_1101 rfl (fun c167 => ?_) (fun c167 => ?_)
                                  · refine x_goto 1106 3320 dL_law_1106 rfl ?_
                                    refine x_iinc 3320 6 [(4, .int (u6 + (6 : Int32))), (6, .int v162), (5, .int v160), (0, .ref (idc 51 0)), (1, .ref (idc 0 i1)), (2, .ref (idc 4 i3)), (3, .ref (idc 34 i5))] dL_law_3320 rfl rfl (by first | decide | exact Nat.le_of_ble_eq_true rfl) rfl ?_
                                    refine x_goto 3323 23 dL_law_3323 rfl ?_
                                    refine x_sub [3, 4, 5, 6, 0] _ rfl ?_
                                    exact hr7 (u6 + (6 : Int32))
                                  · refine x_iconst 1104 0 (0 : Int32) dL_law_1104 rfl ?_
                                    exact x_zret 1105 hZ rfl dL_law_1105
                                · refine x_goto 1106 3320 dL_law_1106 rfl ?_
                                  refine x_iinc 3320 6 [(4, .int (u6 + (6 : Int32))), (6, .int v162), (5, .int v160), (0, .ref (idc 51 0)), (1, .ref (idc 0 i1)), (2, .ref (idc 4 i3)), (3, .ref (idc 34 i5))] dL_law_3320 rfl rfl (by first | decide | exact Nat.le_of_ble_eq_true rfl) rfl ?_
                                  refine x_goto 3323 23 dL_law_3323 rfl ?_
                                  refine x_sub [3, 4, 5, 6, 0] _ rfl ?_
                                  exact hr7 (u6 + (6 : Int32))
                              · refine x_iconst 1087 0 (0 : Int32) dL_law_1087 rfl ?_
                                exact x_zret 1088 hZ rfl dL_law_1088
                            · refine x_cnd (fun c168 => ?_) (fun c168 => ?_)
                              · refine x_tsw 40 1109 (13 : Int32) 13 1069 c168 rfl dL_law_40 (by first | decide | exact Nat.le_of_ble_eq_true rfl) (by first | decide | exact Nat.le_of_ble_eq_true rfl) rfl rfl ?_
                                refine x_aload_n 1109 1 dL_law_1109 rfl ?_
                                refine x_aload_n 1110 0 dL_law_1110 rfl ?_
                                refine x_iload 1111 4 dL_law_1111 rfl ?_
                                refine x_iconst 1113 1 (1 : Int32) dL_law_1113 rfl ?_
                                refine x_iadd 1114 dL_law_1114 ?_
                                refine x_sld 1115 dL_law_1115 ?_
                                refine x_aload_n 1116 3 dL_law_1116 rfl ?_
                                refine x_cSW 1117 9 [.ref (idc 0 i1), .int (gx g (u6 + (1 : Int32)).toNatClampNeg), .ref (idc 34 i5)] [] cs_X0_219 (im_X0_risk hl (idc 0 i1) (gx g (u6 + (1 : Int32)).toNatClampNeg) i5) (by exact ⟨Nat.le_of_ble_eq_true rfl, by decide⟩) rfl (Nat.le_of_ble_eq_true rfl) dL_law_1117 fun v170 => x_stI ?_
                                refine x_istore 1120 [(5, .int v170), (0, .ref (idc 51 0)), (1, .ref (idc 0 i1)), (2, .ref (idc 4 i3)), (3, .ref (idc 34 i5)), (4, .int u6)] dL_law_1120 (by first | decide | exact Nat.le_of_ble_eq_true rfl) rfl ?_
                                refine x_aload_n 1122 3 dL_law_1122 rfl ?_
                                refine x_aload_n 1123 1 dL_law_1123 rfl ?_
                                refine x_iload 1124 5 dL_law_1124 rfl ?_
                                refine x_iconst 1126 1 (1 : Int32) dL_law_1126 rfl ?_
                                refine x_iadd 1127 dL_law_1127 ?_
                                refine x_sld 1128 dL_law_1128 ?_
                                refine x_cV 1129 2 [.int (gx g (u6 + (1 : Int32)).toNatClampNeg)] [] ⟨by decide, rfl⟩ cv_X0_221 (im_X5_risk hl i3 (gx g (u6 + (1 : Int32)).toNatClampNeg)) (by exact ⟨Nat.le_of_ble_eq_true rfl, by decide⟩) rfl (Nat.le_of_ble_eq_true rfl) dL_law_1129 fun v172 => x_stI ?_
                                refine x_istore 1132 [(6, .int v172), (5, .int v170), (0, .ref (idc 51 0)), (1, .ref (idc 0 i1)), (2, .ref (idc 4 i3)), (3, .ref (idc 34 i5)), (4, .int u6)] dL_law_1132 (by first | decide | exact Nat.le_of_ble_eq_true rfl) rfl ?_
                                refine x_aload_n 1134 4 dL_law_1134 rfl ?_
                                refine x_cV 1135 0 [] [] ⟨by decide, rfl⟩ cv_X0_173 (im_X5_thrown hl i3) (by exact ⟨Nat.le_of_ble_eq_true rfl, by decide⟩) rfl (Nat.le_of_ble_eq_true rfl) dL_law_1135 fun v173 => x_stI ?_
                                refine x_iload 1138 1 dL_law_1138 rfl ?_
                                refine x_icmp_eq 1140 1145 dL_law_1140 rfl (fun c174 => ?_) (fun c174 => ?_)
                                · refine x_iload 1145 1 dL_law_1145 rfl ?_
                                  refine x_if_ne 1147 1162 dL_law_1147 rfl (fun c175 => ?_) (fun c175 => ?_)
                                  · refine x_aload_n 1150 5 dL_law_1150 rfl ?_
                                    refine x_iconst 1151 0 (0 : Int32) dL_law_1151 rfl ?_
                                    refine x_lald 1152 dL_law_1152 fun v176 => ?_
                                    refine x_iload 1153 0 dL_law_1153 rfl ?_
                                    refine x_i2l 1155 dL_law_1155 ?_
                                    refine x_lcmp 1156 dL_law_1156 ?_
                                    refine x_if_eq 1157 1162 dL_law_1157 rfl (fun c177 => ?_) (fun c177 => ?_)
                                    · refine x_goto 1162 3320 dL_law_1162 rfl ?_
                                      refine x_iinc 3320 6 [(4, .int (u6 + (6 : Int32))), (6, .int v172), (5, .int v170), (0, .ref (idc 51 0)), (1, .ref (idc 0 i1)), (2, .ref (idc 4 i3)), (3, .ref (idc 34 i5))] dL_law_3320 rfl rfl (by first | decide | exact Nat.le_of_ble_eq_true rfl) rfl ?_
                                      refine x_goto 3323 23 dL_law_3323 rfl ?_
                                      refine x_sub [3, 4, 5, 6, 0] _ rfl ?_
                                      exact hr7 (u6 + (6 : Int32))
                                    · refine x_iconst 1160 0 (0 : Int32) dL_law_1160 rfl ?_
                                      exact x_zret 1161 hZ rfl dL_law_1161
                                  · refine x_goto 1162 3320 dL_law_1162 rfl ?_
                                    refine x_iinc 3320 6 [(4, .int (u6 + (6 : Int32))), (6, .int v172), (5, .int v170), (0, .ref (idc 51 0)), (1, .ref (idc 0 i1)), (2, .ref (idc 4 i3)), (3, .ref (idc 34 i5))] dL_law_3320 rfl rfl (by first | decide | exact Nat.le_of_ble_eq_true rfl) rfl ?_
                                    refine x_goto 3323 23 dL_law_3323 rfl ?_
                                    refine x_sub [3, 4, 5, 6, 0] _ rfl ?_
                                    exact hr7 (u6 + (6 : Int32))
                                · refine x_iconst 1143 0 (0 : Int32) dL_law_1143 rfl ?_
                                  exact x_zret 1144 hZ rfl dL_law_1144
                              · refine x_cnd (fun c178 => ?_) (fun c178 => ?_)
                                · refine x_tsw 40 1165 (14 : Int32) 14 1125 c178 rfl dL_law_40 (by first | decide | exact Nat.le_of_ble_eq_true rfl) (by first | decide | exact Nat.le_of_ble_eq_true rfl) rfl rfl ?_
                                  refine x_aload_n 1165 1 dL_law_1165 rfl ?_
                                  refine x_aload_n 1166 0 dL_law_1166 rfl ?_
                                  refine x_iload 1167 4 dL_law_1167 rfl ?_
                                  refine x_iconst 1169 1 (1 : Int32) dL_law_1169 rfl ?_
                                  refine x_iadd 1170 dL_law_1170 ?_
                                  refine x_sld 1171 dL_law_1171 ?_
                                  refine x_aload_n 1172 3 dL_law_1172 rfl ?_
                                  refine x_cSW 1173 9 [.ref (idc 0 i1), .int (gx g (u6 + (1 : Int32)).toNatClampNeg), .ref (idc 34 i5)] [] cs_X0_222 (im_X0_trialRisk hl (idc 0 i1) (gx g (u6 + (1 : Int32)).toNatClampNeg) i5) (by exact ⟨Nat.le_of_ble_eq_true rfl, by decide⟩) rfl (Nat.le_of_ble_eq_true rfl) dL_law_1173 fun v180 => x_stI ?_
                                  refine x_istore 1176 [(5, .int v180), (0, .ref (idc 51 0)), (1, .ref (idc 0 i1)), (2, .ref (idc 4 i3)), (3, .ref (idc 34 i5)), (4, .int u6)] dL_law_1176 (by first | decide | exact Nat.le_of_ble_eq_true rfl) rfl ?_
                                  refine x_aload_n 1178 3 dL_law_1178 rfl ?_
                                  refine x_aload_n 1179 1 dL_law_1179 rfl ?_
                                  refine x_iload 1180 5 dL_law_1180 rfl ?_
                                  refine x_iconst 1182 1 (1 : Int32) dL_law_1182 rfl ?_
                                  refine x_iadd 1183 dL_law_1183 ?_
                                  refine x_sld 1184 dL_law_1184 ?_
                                  refine x_cV 1185 2 [.int (gx g (u6 + (1 : Int32)).toNatClampNeg)] [] ⟨by decide, rfl⟩ cv_X0_224 (im_X5_trialRisk hl i3 (gx g (u6 + (1 : Int32)).toNatClampNeg)) (by exact ⟨Nat.le_of_ble_eq_true rfl, by decide⟩) rfl (Nat.le_of_ble_eq_true rfl) dL_law_1185 fun v182 => x_stI ?_
                                  refine x_istore 1188 [(6, .int v182), (5, .int v180), (0, .ref (idc 51 0)), (1, .ref (idc 0 i1)), (2, .ref (idc 4 i3)), (3, .ref (idc 34 i5)), (4, .int u6)] dL_law_1188 (by first | decide | exact Nat.le_of_ble_eq_true rfl) rfl ?_
                                  refine x_aload_n 1190 4 dL_law_1190 rfl ?_
                                  refine x_cV 1191 0 [] [] ⟨by decide, rfl⟩ cv_X0_173 (im_X5_thrown hl i3) (by exact ⟨Nat.le_of_ble_eq_true rfl, by decide⟩) rfl (Nat.le_of_ble_eq_true rfl) dL_law_1191 fun v183 => x_stI ?_
                                  refine x_iload 1194 1 dL_law_1194 rfl ?_
                                  refine x_icmp_eq 1196 1201 dL_law_1196 rfl (fun c184 => ?_) (fun c184 => ?_)
                                  · refine x_iload 1201 1 dL_law_1201 rfl ?_
                                    refine x_if_ne 1203 1218 dL_law_1203 rfl (fun c185 => ?_) (fun c185 => ?_)
                                    · refine x_aload_n 1206 5 dL_law_1206 rfl ?_
                                      refine x_iconst 1207 0 (0 : Int32) dL_law_1207 rfl ?_
                                      refine x_lald 1208 dL_law_1208 fun v186 => ?_
                                      refine x_iload 1209 0 dL_law_1209 rfl ?_
                                      refine x_i2l 1211 dL_law_1211 ?_
                                      refine x_lcmp 1212 dL_law_1212 ?_
                                      refine x_if_eq 1213 1218 dL_law_1213 rfl (fun c187 => ?_) (fun c187 => ?_)
                                      · refine x_goto 1218 3320 dL_law_1218 rfl ?_
                                        refine x_iinc 3320 6 [(4, .int (u6 + (6 : Int32))), (6, .int v182), (5, .int v180), (0, .ref (idc 51 0)), (1, .ref (idc 0 i1)), (2, .ref (idc 4 i3)), (3, .ref (idc 34 i5))] dL_law_3320 rfl rfl (by first | decide | exact Nat.le_of_ble_eq_true rfl) rfl ?_
                                        refine x_goto 3323 23 dL_law_3323 rfl ?_
                                        refine x_sub [3, 4, 5, 6, 0] _ rfl ?_
                                        exact hr7 (u6 + (6 : Int32))
                                      · refine x_iconst 1216 0 (0 : Int32) dL_law_1216 rfl ?_
                                        exact x_zret 1217 hZ rfl dL_law_1217
                                    · refine x_goto 1218 3320 dL_law_1218 rfl ?_
                                      refine x_iinc 3320 6 [(4, .int (u6 + (6 : Int32))), (6, .int v182), (5, .int v180), (0, .ref (idc 51 0)), (1, .ref (idc 0 i1)), (2, .ref (idc 4 i3)), (3, .ref (idc 34 i5))] dL_law_3320 rfl rfl (by first | decide | exact Nat.le_of_ble_eq_true rfl) rfl ?_
                                      refine x_goto 3323 23 dL_law_3323 rfl ?_
                                      refine x_sub [3, 4, 5, 6, 0] _ rfl ?_
                                      exact hr7 (u6 + (6 : Int32))
                                  · refine x_iconst 1199 0 (0 : Int32) dL_law_1199 rfl ?_
                                    exact x_zret 1200 hZ rfl dL_law_1200
                                · refine x_cnd (fun c188 => ?_) (fun c188 => ?_)
                                  · refine x_tsw 40 1221 (15 : Int32) 15 1181 c188 rfl dL_law_40 (by first | decide | exact Nat.le_of_ble_eq_true rfl) (by first | decide | exact Nat.le_of_ble_eq_true rfl) rfl rfl ?_
                                    refine x_aload_n 1221 1 dL_law_1221 rfl ?_
                                    refine x_cV 1222 1 [] [] ⟨by decide, rfl⟩ cv_X0_225 (im_X1_sessions hl i1) (by exact ⟨Nat.le_of_ble_eq_true rfl, by decide⟩) rfl (Nat.le_of_ble_eq_true rfl) dL_law_1222 fun v189 => x_stI ?_
                                    refine x_aload_n 1225 2 dL_law_1225 rfl ?_
                                    refine x_cV 1226 0 [] [.int v189] ⟨by decide, rfl⟩ cv_X0_228 (im_X5_sessions hl i3) (by exact ⟨Nat.le_of_ble_eq_true rfl, by decide⟩) rfl (Nat.le_of_ble_eq_true rfl) dL_law_1226 fun v190 => x_stI ?_
                                    refine x_icmp_eq 1229 3320 dL_law_1229 rfl (fun c191 => ?_) (fun c191 => ?_)
                                    · refine x_iinc 3320 4 [(4, .int (u6 + (6 : Int32))), (0, .ref (idc 51 0)), (1, .ref (idc 0 i1)), (2, .ref (idc 4 i3)), (3, .ref (idc 34 i5))] dL_law_3320 rfl rfl (by first | decide | exact Nat.le_of_ble_eq_true rfl) rfl ?_
                                      refine x_goto 3323 23 dL_law_3323 rfl ?_
                                      refine x_sub [1, 2, 3, 4, 0] _ rfl ?_
                                      exact hr7 (u6 + (6 : Int32))
                                    · refine x_iconst 1232 0 (0 : Int32) dL_law_1232 rfl ?_
                                      exact x_zret 1233 hZ rfl dL_law_1233
                                  · refine x_cnd (fun c192 => ?_) (fun c192 => ?_)
                                    · refine x_tsw 40 1234 (16 : Int32) 16 1194 c192 rfl dL_law_40 (by first | decide | exact Nat.le_of_ble_eq_true rfl) (by first | decide | exact Nat.le_of_ble_eq_true rfl) rfl rfl ?_
                                      refine x_aload_n 1234 1 dL_law_1234 rfl ?_
                                      refine x_aload_n 1235 0 dL_law_1235 rfl ?_
                                      refine x_iload 1236 4 dL_law_1236 rfl ?_
                                      refine x_iconst 1238 1 (1 : Int32) dL_law_1238 rfl ?_
                                      refine x_iadd 1239 dL_law_1239 ?_
                                      refine x_sld 1240 dL_law_1240 ?_
                                      refine x_aload_n 1241 3 dL_law_1241 rfl ?_
                                      refine x_cSW 1242 9 [.ref (idc 0 i1), .int (gx g (u6 + (1 : Int32)).toNatClampNeg), .ref (idc 34 i5)] [] cs_X0_229 (im_X0_isLive hl (idc 0 i1) (gx g (u6 + (1 : Int32)).toNatClampNeg) i5) (by exact ⟨Nat.le_of_ble_eq_true rfl, by decide⟩) rfl (Nat.le_of_ble_eq_true rfl) dL_law_1242 fun v194 => x_stI ?_
                                      refine x_istore 1245 [(5, .int v194), (0, .ref (idc 51 0)), (1, .ref (idc 0 i1)), (2, .ref (idc 4 i3)), (3, .ref (idc 34 i5)), (4, .int u6)] dL_law_1245 (by first | decide | exact Nat.le_of_ble_eq_true rfl) rfl ?_
                                      refine x_aload_n 1247 3 dL_law_1247 rfl ?_
                                      refine x_aload_n 1248 1 dL_law_1248 rfl ?_
                                      refine x_iload 1249 5 dL_law_1249 rfl ?_
                                      refine x_iconst 1251 1 (1 : Int32) dL_law_1251 rfl ?_
                                      refine x_iadd 1252 dL_law_1252 ?_
                                      refine x_sld 1253 dL_law_1253 ?_
                                      refine x_cV 1254 2 [.int (gx g (u6 + (1 : Int32)).toNatClampNeg)] [] ⟨by decide, rfl⟩ cv_X0_231 (im_X5_isLive hl i3 (gx g (u6 + (1 : Int32)).toNatClampNeg)) (by exact ⟨Nat.le_of_ble_eq_true rfl, by decide⟩) rfl (Nat.le_of_ble_eq_true rfl) dL_law_1254 fun v196 => x_stI ?_
                                      refine x_istore 1257 [(6, .int v196), (5, .int v194), (0, .ref (idc 51 0)), (1, .ref (idc 0 i1)), (2, .ref (idc 4 i3)), (3, .ref (idc 34 i5)), (4, .int u6)] dL_law_1257 (by first | decide | exact Nat.le_of_ble_eq_true rfl) rfl ?_
                                      refine x_aload_n 1259 4 dL_law_1259 rfl ?_
                                      refine x_cV 1260 0 [] [] ⟨by decide, rfl⟩ cv_X0_173 (im_X5_thrown hl i3) (by exact ⟨Nat.le_of_ble_eq_true rfl, by decide⟩) rfl (Nat.le_of_ble_eq_true rfl) dL_law_1260 fun v197 => x_stI ?_
                                      refine x_iload 1263 1 dL_law_1263 rfl ?_
                                      refine x_icmp_eq 1265 1270 dL_law_1265 rfl (fun c198 => ?_) (fun c198 => ?_)
                                      · refine x_iload 1270 1 dL_law_1270 rfl ?_
                                        refine x_if_ne 1272 1294 dL_law_1272 rfl (fun c199 => ?_) (fun c199 => ?_)
                                        · refine x_aload_n 1275 5 dL_law_1275 rfl ?_
                                          refine x_iconst 1276 0 (0 : Int32) dL_law_1276 rfl ?_
                                          refine x_lald 1277 dL_law_1277 fun v200 => ?_
                                          refine x_iload 1278 0 dL_law_1278 rfl ?_
                                          refine x_bndj 1288 (fun u201 => [(0, .ref (idc 51 0)), (1, .ref (idc 0 i1)), (2, .ref (idc 4 i3)), (3, .ref (idc 34 i5)), (4, .int u6)]) (fun u201 => [.long u201, .long v200]) (fun u201 => ?_) (fun hj203 => ?_)
                                          · show TX g Γ _ Z _ 1288 [(0, .ref (idc 51 0)), (1, .ref (idc 0 i1)), (2, .ref (idc 4 i3)), (3, .ref (idc 34 i5)), (4, .int u6)] [.long u201, .long v200] _
                                            refine x_lcmp 1288 dL_law_1288 ?_
                                            refine x_if_eq 1289 1294 dL_law_1289 rfl (fun c202 => ?_) (fun c202 => ?_)
                                            · refine x_goto 1294 3320 dL_law_1294 rfl ?_
                                              refine x_iinc 3320 4 [(4, .int (u6 + (6 : Int32))), (0, .ref (idc 51 0)), (1, .ref (idc 0 i1)), (2, .ref (idc 4 i3)), (3, .ref (idc 34 i5))] dL_law_3320 rfl rfl (by first | decide | exact Nat.le_of_ble_eq_true rfl) rfl ?_
                                              refine x_goto 3323 23 dL_law_3323 rfl ?_
                                              refine x_sub [1, 2, 3, 4, 0] _ rfl ?_
                                              exact hr7 (u6 + (6 : Int32))
                                            · refine x_iconst 1292 0 (0 : Int32) dL_law_1292 rfl ?_
                                              exact x_zret 1293 hZ rfl dL_law_1293
                                          · refine x_if_eq 1280 1287 dL_law_1280 rfl (fun c204 => ?_) (fun c204 => ?_)
                                            · refine x_lconst 1287 0 (0 : Int64) dL_law_1287 rfl ?_
                                              refine x_sub [2, 3, 4, 5, 6] _ rfl ?_
                                              exact hj203 (0 : Int64)
                                            · refine x_lconst 1283 1 (1 : Int64) dL_law_1283 rfl ?_
                                              refine x_goto 1284 1288 dL_law_1284 rfl ?_
                                              refine x_sub [2, 3, 4, 5, 6] _ rfl ?_
                                              exact hj203 (1 : Int64)
                                        · refine x_goto 1294 3320 dL_law_1294 rfl ?_
                                          refine x_iinc 3320 6 [(4, .int (u6 + (6 : Int32))), (6, .int v196), (5, .int v194), (0, .ref (idc 51 0)), (1, .ref (idc 0 i1)), (2, .ref (idc 4 i3)), (3, .ref (idc 34 i5))] dL_law_3320 rfl rfl (by first | decide | exact Nat.le_of_ble_eq_true rfl) rfl ?_
                                          refine x_goto 3323 23 dL_law_3323 rfl ?_
                                          refine x_sub [3, 4, 5, 6, 0] _ rfl ?_
                                          exact hr7 (u6 + (6 : Int32))
                                      · refine x_iconst 1268 0 (0 : Int32) dL_law_1268 rfl ?_
                                        exact x_zret 1269 hZ rfl dL_law_1269
                                    · refine x_cnd (fun c205 => ?_) (fun c205 => ?_)
                                      · refine x_tsw 40 1297 (17 : Int32) 17 1257 c205 rfl dL_law_40 (by first | decide | exact Nat.le_of_ble_eq_true rfl) (by first | decide | exact Nat.le_of_ble_eq_true rfl) rfl rfl ?_
                                        refine x_aload_n 1297 1 dL_law_1297 rfl ?_
                                        refine x_aload_n 1298 0 dL_law_1298 rfl ?_
                                        refine x_iload 1299 4 dL_law_1299 rfl ?_
                                        refine x_iconst 1301 1 (1 : Int32) dL_law_1301 rfl ?_
                                        refine x_iadd 1302 dL_law_1302 ?_
                                        refine x_sld 1303 dL_law_1303 ?_
                                        refine x_aload_n 1304 3 dL_law_1304 rfl ?_
                                        refine x_cSW 1305 9 [.ref (idc 0 i1), .int (gx g (u6 + (1 : Int32)).toNatClampNeg), .ref (idc 34 i5)] [] cs_X0_232 (im_X0_isLiveByAudit hl (idc 0 i1) (gx g (u6 + (1 : Int32)).toNatClampNeg) i5) (by exact ⟨Nat.le_of_ble_eq_true rfl, by decide⟩) rfl (Nat.le_of_ble_eq_true rfl) dL_law_1305 fun v207 => x_stI ?_
                                        refine x_istore 1308 [(5, .int v207), (0, .ref (idc 51 0)), (1, .ref (idc 0 i1)), (2, .ref (idc 4 i3)), (3, .ref (idc 34 i5)), (4, .int u6)] dL_law_1308 (by first | decide | exact Nat.le_of_ble_eq_true rfl) rfl ?_
                                        refine x_aload_n 1310 3 dL_law_1310 rfl ?_
                                        refine x_aload_n 1311 1 dL_law_1311 rfl ?_
                                        refine x_iload 1312 5 dL_law_1312 rfl ?_
                                        refine x_iconst 1314 1 (1 : Int32) dL_law_1314 rfl ?_
                                        refine x_iadd 1315 dL_law_1315 ?_
                                        refine x_sld 1316 dL_law_1316 ?_
                                        refine x_cV 1317 2 [.int (gx g (u6 + (1 : Int32)).toNatClampNeg)] [] ⟨by decide, rfl⟩ cv_X0_234 (im_X5_isLiveByAudit hl i3 (gx g (u6 + (1 : Int32)).toNatClampNeg)) (by exact ⟨Nat.le_of_ble_eq_true rfl, by decide⟩) rfl (Nat.le_of_ble_eq_true rfl) dL_law_1317 fun v209 => x_stI ?_
                                        refine x_istore 1320 [(6, .int v209), (5, .int v207), (0, .ref (idc 51 0)), (1, .ref (idc 0 i1)), (2, .ref (idc 4 i3)), (3, .ref (idc 34 i5)), (4, .int u6)] dL_law_1320 (by first | decide | exact Nat.le_of_ble_eq_true rfl) rfl ?_
                                        refine x_aload_n 1322 4 dL_law_1322 rfl ?_
                                        refine x_cV 1323 0 [] [] ⟨by decide, rfl⟩ cv_X0_173 (im_X5_thrown hl i3) (by exact ⟨Nat.le_of_ble_eq_true rfl, by decide⟩) rfl (Nat.le_of_ble_eq_true rfl) dL_law_1323 fun v210 => x_stI ?_
                                        refine x_iload 1326 1 dL_law_1326 rfl ?_
                                        refine x_icmp_eq 1328 1333 dL_law_1328 rfl (fun c211 => ?_) (fun c211 => ?_)
                                        · refine x_iload 1333 1 dL_law_1333 rfl ?_
                                          refine x_if_ne 1335 1357 dL_law_1335 rfl (fun c212 => ?_) (fun c212 => ?_)
                                          · refine x_aload_n 1338 5 dL_law_1338 rfl ?_
                                            refine x_iconst 1339 0 (0 : Int32) dL_law_1339 rfl ?_
                                            refine x_lald 1340 dL_law_1340 fun v213 => ?_
                                            refine x_iload 1341 0 dL_law_1341 rfl ?_
                                            refine x_bndj 1351 (fun u214 => [(0, .ref (idc 51 0)), (1, .ref (idc 0 i1)), (2, .ref (idc 4 i3)), (3, .ref (idc 34 i5)), (4, .int u6)]) (fun u214 => [.long u214, .long v213]) (fun u214 => ?_) (fun hj216 => ?_)
                                            · show TX g Γ _ Z _ 1351 [(0, .ref (idc 51 0)), (1, .ref (idc 0 i1)), (2, .ref (idc 4 i3)), (3, .ref (idc 34 i5)), (4, .int u6)] [.long u214, .long v213] _
                                              refine x_lcmp 1351 dL_law_1351 ?_
                                              refine x_if_eq 1352 1357 dL_law_1352 rfl (fun c215 => ?_) (fun c215 => ?_)
                                              · refine x_goto 1357 3320 dL_law_1357 rfl ?_
                                                refine x_iinc 3320 4 [(4, .int (u6 + (6 : Int32))), (0, .ref (idc 51 0)), (1, .ref (idc 0 i1)), (2, .ref (idc 4 i3)), (3, .ref (idc 34 i5))] dL_law_3320 rfl rfl (by first | decide | exact Nat.le_of_ble_eq_true rfl) rfl ?_
                                                refine x_goto 3323 23 dL_law_3323 rfl ?_
                                                refine x_sub [1, 2, 3, 4, 0] _ rfl ?_
                                                exact hr7 (u6 + (6 : Int32))
                                              · refine x_iconst 1355 0 (0 : Int32) dL_law_1355 rfl ?_
                                                exact x_zret 1356 hZ rfl dL_law_1356
                                            · refine x_if_eq 1343 1350 dL_law_1343 rfl (fun c217 => ?_) (fun c217 => ?_)
                                              · refine x_lconst 1350 0 (0 : Int64) dL_law_1350 rfl ?_
                                                refine x_sub [2, 3, 4, 5, 6] _ rfl ?_
                                                exact hj216 (0 : Int64)
                                              · refine x_lconst 1346 1 (1 : Int64) dL_law_1346 rfl ?_
                                                refine x_goto 1347 1351 dL_law_1347 rfl ?_
                                                refine x_sub [2, 3, 4, 5, 6] _ rfl ?_
                                                exact hj216 (1 : Int64)
                                          · refine x_goto 1357 3320 dL_law_1357 rfl ?_
                                            refine x_iinc 3320 6 [(4, .int (u6 + (6 : Int32))), (6, .int v209), (5, .int v207), (0, .ref (idc 51 0)), (1, .ref (idc 0 i1)), (2, .ref (idc 4 i3)), (3, .ref (idc 34 i5))] dL_law_3320 rfl rfl (by first | decide | exact Nat.le_of_ble_eq_true rfl) rfl ?_
                                            refine x_goto 3323 23 dL_law_3323 rfl ?_
                                            refine x_sub [3, 4, 5, 6, 0] _ rfl ?_
                                            exact hr7 (u6 + (6 : Int32))
                                        · refine x_iconst 1331 0 (0 : Int32) dL_law_1331 rfl ?_
                                          exact x_zret 1332 hZ rfl dL_law_1332
                                      · refine x_cnd (fun c218 => ?_) (fun c218 => ?_)
                                        · refine x_tsw 40 1360 (18 : Int32) 18 1320 c218 rfl dL_law_40 (by first | decide | exact Nat.le_of_ble_eq_true rfl) (by first | decide | exact Nat.le_of_ble_eq_true rfl) rfl rfl ?_
                                          refine x_aload_n 1360 1 dL_law_1360 rfl ?_
                                          refine x_aload_n 1361 0 dL_law_1361 rfl ?_
                                          refine x_iload 1362 4 dL_law_1362 rfl ?_
                                          refine x_iconst 1364 1 (1 : Int32) dL_law_1364 rfl ?_
                                          refine x_iadd 1365 dL_law_1365 ?_
                                          refine x_sld 1366 dL_law_1366 ?_
                                          refine x_aload_n 1367 3 dL_law_1367 rfl ?_
                                          refine x_cSW 1368 9 [.ref (idc 0 i1), .int (gx g (u6 + (1 : Int32)).toNatClampNeg), .ref (idc 34 i5)] [] cs_X0_235 (im_X0_level hl (idc 0 i1) (gx g (u6 + (1 : Int32)).toNatClampNeg) i5) (by exact ⟨Nat.le_of_ble_eq_true rfl, by decide⟩) rfl (Nat.le_of_ble_eq_true rfl) dL_law_1368 fun v220 => x_stI ?_
                                          refine x_istore 1371 [(5, .int v220), (0, .ref (idc 51 0)), (1, .ref (idc 0 i1)), (2, .ref (idc 4 i3)), (3, .ref (idc 34 i5)), (4, .int u6)] dL_law_1371 (by first | decide | exact Nat.le_of_ble_eq_true rfl) rfl ?_
                                          refine x_aload_n 1373 3 dL_law_1373 rfl ?_
                                          refine x_aload_n 1374 1 dL_law_1374 rfl ?_
                                          refine x_iload 1375 5 dL_law_1375 rfl ?_
                                          refine x_iconst 1377 1 (1 : Int32) dL_law_1377 rfl ?_
                                          refine x_iadd 1378 dL_law_1378 ?_
                                          refine x_sld 1379 dL_law_1379 ?_
                                          refine x_cV 1380 2 [.int (gx g (u6 + (1 : Int32)).toNatClampNeg)] [] ⟨by decide, rfl⟩ cv_X0_237 (im_X5_level hl i3 (gx g (u6 + (1 : Int32)).toNatClampNeg)) (by exact ⟨Nat.le_of_ble_eq_true rfl, by decide⟩) rfl (Nat.le_of_ble_eq_true rfl) dL_law_1380 fun v222 => x_stI ?_
                                          refine x_istore 1383 [(6, .int v222), (5, .int v220), (0, .ref (idc 51 0)), (1, .ref (idc 0 i1)), (2, .ref (idc 4 i3)), (3, .ref (idc 34 i5)), (4, .int u6)] dL_law_1383 (by first | decide | exact Nat.le_of_ble_eq_true rfl) rfl ?_
                                          refine x_aload_n 1385 4 dL_law_1385 rfl ?_
                                          refine x_cV 1386 0 [] [] ⟨by decide, rfl⟩ cv_X0_173 (im_X5_thrown hl i3) (by exact ⟨Nat.le_of_ble_eq_true rfl, by decide⟩) rfl (Nat.le_of_ble_eq_true rfl) dL_law_1386 fun v223 => x_stI ?_
                                          refine x_iload 1389 1 dL_law_1389 rfl ?_
                                          refine x_icmp_eq 1391 1396 dL_law_1391 rfl (fun c224 => ?_) (fun c224 => ?_)
                                          · refine x_iload 1396 1 dL_law_1396 rfl ?_
                                            refine x_if_ne 1398 1413 dL_law_1398 rfl (fun c225 => ?_) (fun c225 => ?_)
                                            · refine x_aload_n 1401 5 dL_law_1401 rfl ?_
                                              refine x_iconst 1402 0 (0 : Int32) dL_law_1402 rfl ?_
                                              refine x_lald 1403 dL_law_1403 fun v226 => ?_
                                              refine x_iload 1404 0 dL_law_1404 rfl ?_
                                              refine x_i2l 1406 dL_law_1406 ?_
                                              refine x_lcmp 1407 dL_law_1407 ?_
                                              refine x_if_eq 1408 1413 dL_law_1408 rfl (fun c227 => ?_) (fun c227 => ?_)
                                              · refine x_goto 1413 3320 dL_law_1413 rfl ?_
                                                refine x_iinc 3320 6 [(4, .int (u6 + (6 : Int32))), (6, .int v222), (5, .int v220), (0, .ref (idc 51 0)), (1, .ref (idc 0 i1)), (2, .ref (idc 4 i3)), (3, .ref (idc 34 i5))] dL_law_3320 rfl rfl (by first | decide | exact Nat.le_of_ble_eq_true rfl) rfl ?_
                                                refine x_goto 3323 23 dL_law_3323 rfl ?_
                                                refine x_sub [3, 4, 5, 6, 0] _ rfl ?_
                                                exact hr7 (u6 + (6 : Int32))
                                              · refine x_iconst 1411 0 (0 : Int32) dL_law_1411 rfl ?_
                                                exact x_zret 1412 hZ rfl dL_law_1412
                                            · refine x_goto 1413 3320 dL_law_1413 rfl ?_
                                              refine x_iinc 3320 6 [(4, .int (u6 + (6 : Int32))), (6, .int v222), (5, .int v220), (0, .ref (idc 51 0)), (1, .ref (idc 0 i1)), (2, .ref (idc 4 i3)), (3, .ref (idc 34 i5))] dL_law_3320 rfl rfl (by first | decide | exact Nat.le_of_ble_eq_true rfl) rfl ?_
                                              refine x_goto 3323 23 dL_law_3323 rfl ?_
                                              refine x_sub [3, 4, 5, 6, 0] _ rfl ?_
                                              exact hr7 (u6 + (6 : Int32))
                                          · refine x_iconst 1394 0 (0 : Int32) dL_law_1394 rfl ?_
                                            exact x_zret 1395 hZ rfl dL_law_1395
                                        · refine x_cnd (fun c228 => ?_) (fun c228 => ?_)
                                          · refine x_tsw 40 1416 (19 : Int32) 19 1376 c228 rfl dL_law_40 (by first | decide | exact Nat.le_of_ble_eq_true rfl) (by first | decide | exact Nat.le_of_ble_eq_true rfl) rfl rfl ?_
                                            refine x_aload_n 1416 1 dL_law_1416 rfl ?_
                                            refine x_aload_n 1417 0 dL_law_1417 rfl ?_
                                            refine x_iload 1418 4 dL_law_1418 rfl ?_
                                            refine x_iconst 1420 1 (1 : Int32) dL_law_1420 rfl ?_
                                            refine x_iadd 1421 dL_law_1421 ?_
                                            refine x_sld 1422 dL_law_1422 ?_
                                            refine x_aload_n 1423 0 dL_law_1423 rfl ?_
                                            refine x_iload 1424 4 dL_law_1424 rfl ?_
                                            refine x_iconst 1426 2 (2 : Int32) dL_law_1426 rfl ?_
                                            refine x_iadd 1427 dL_law_1427 ?_
                                            refine x_sld 1428 dL_law_1428 ?_
                                            refine x_aload_n 1429 0 dL_law_1429 rfl ?_
                                            refine x_iload 1430 4 dL_law_1430 rfl ?_
                                            refine x_iconst 1432 3 (3 : Int32) dL_law_1432 rfl ?_
                                            refine x_iadd 1433 dL_law_1433 ?_
                                            refine x_sld 1434 dL_law_1434 ?_
                                            refine x_bndj 1443 (fun u232 => [(0, .ref (idc 51 0)), (1, .ref (idc 0 i1)), (2, .ref (idc 4 i3)), (3, .ref (idc 34 i5)), (4, .int u6)]) (fun u232 => [.int u232, .int (gx g (u6 + (2 : Int32)).toNatClampNeg), .int (gx g (u6 + (1 : Int32)).toNatClampNeg), .ref (idc 0 i1)]) (fun u232 => ?_) (fun hj248 => ?_)
                                            · show TX g Γ _ Z _ 1443 [(0, .ref (idc 51 0)), (1, .ref (idc 0 i1)), (2, .ref (idc 4 i3)), (3, .ref (idc 34 i5)), (4, .int u6)] [.int u232, .int (gx g (u6 + (2 : Int32)).toNatClampNeg), .int (gx g (u6 + (1 : Int32)).toNatClampNeg), .ref (idc 0 i1)] _
                                              refine x_aload_n 1443 0 dL_law_1443 rfl ?_
                                              refine x_iload 1444 4 dL_law_1444 rfl ?_
                                              refine x_iconst 1446 4 (4 : Int32) dL_law_1446 rfl ?_
                                              refine x_iadd 1447 dL_law_1447 ?_
                                              refine x_sld 1448 dL_law_1448 ?_
                                              refine x_aload_n 1449 3 dL_law_1449 rfl ?_
                                              refine x_cSW 1450 12 [.ref (idc 0 i1), .int (gx g (u6 + (1 : Int32)).toNatClampNeg), .int (gx g (u6 + (2 : Int32)).toNatClampNeg), .int u232, .int (gx g (u6 + (4 : Int32)).toNatClampNeg), .ref (idc 34 i5)] [] cs_X0_238 (im_X0_stepUp hl (idc 0 i1) (gx g (u6 + (1 : Int32)).toNatClampNeg) (gx g (u6 + (2 : Int32)).toNatClampNeg) u232 (gx g (u6 + (4 : Int32)).toNatClampNeg) i5) (by exact ⟨Nat.le_of_ble_eq_true rfl, by decide⟩) rfl (Nat.le_of_ble_eq_true rfl) dL_law_1450 fun v234 => x_stI ?_
                                              refine x_istore 1453 [(5, .int v234), (0, .ref (idc 51 0)), (1, .ref (idc 0 i1)), (2, .ref (idc 4 i3)), (3, .ref (idc 34 i5)), (4, .int u6)] dL_law_1453 (by first | decide | exact Nat.le_of_ble_eq_true rfl) rfl ?_
                                              refine x_aload_n 1455 3 dL_law_1455 rfl ?_
                                              refine x_aload_n 1456 1 dL_law_1456 rfl ?_
                                              refine x_iload 1457 5 dL_law_1457 rfl ?_
                                              refine x_iconst 1459 1 (1 : Int32) dL_law_1459 rfl ?_
                                              refine x_iadd 1460 dL_law_1460 ?_
                                              refine x_sld 1461 dL_law_1461 ?_
                                              refine x_aload_n 1462 1 dL_law_1462 rfl ?_
                                              refine x_iload 1463 5 dL_law_1463 rfl ?_
                                              refine x_iconst 1465 2 (2 : Int32) dL_law_1465 rfl ?_
                                              refine x_iadd 1466 dL_law_1466 ?_
                                              refine x_sld 1467 dL_law_1467 ?_
                                              refine x_aload_n 1468 1 dL_law_1468 rfl ?_
                                              refine x_iload 1469 5 dL_law_1469 rfl ?_
                                              refine x_iconst 1471 3 (3 : Int32) dL_law_1471 rfl ?_
                                              refine x_iadd 1472 dL_law_1472 ?_
                                              refine x_sld 1473 dL_law_1473 ?_
                                              refine x_bndj 1482 (fun u238 => [(0, .ref (idc 51 0)), (1, .ref (idc 0 i1)), (2, .ref (idc 4 i3)), (3, .ref (idc 34 i5)), (4, .int u6), (5, .int v234)]) (fun u238 => [.int u238, .int (gx g (u6 + (2 : Int32)).toNatClampNeg), .int (gx g (u6 + (1 : Int32)).toNatClampNeg), .ref (idc 4 i3)]) (fun u238 => ?_) (fun hj246 => ?_)
                                              · show TX g Γ _ Z _ 1482 [(0, .ref (idc 51 0)), (1, .ref (idc 0 i1)), (2, .ref (idc 4 i3)), (3, .ref (idc 34 i5)), (4, .int u6), (5, .int v234)] [.int u238, .int (gx g (u6 + (2 : Int32)).toNatClampNeg), .int (gx g (u6 + (1 : Int32)).toNatClampNeg), .ref (idc 4 i3)] _
                                                refine x_aload_n 1482 0 dL_law_1482 rfl ?_
                                                refine x_iload 1483 4 dL_law_1483 rfl ?_
                                                refine x_iconst 1485 4 (4 : Int32) dL_law_1485 rfl ?_
                                                refine x_iadd 1486 dL_law_1486 ?_
                                                refine x_sld 1487 dL_law_1487 ?_
                                                refine x_cV 1488 3 [.int (gx g (u6 + (1 : Int32)).toNatClampNeg), .int (gx g (u6 + (2 : Int32)).toNatClampNeg), .int u238, .int (gx g (u6 + (4 : Int32)).toNatClampNeg)] [] ⟨by decide, rfl⟩ cv_X0_241 (im_X5_stepUp hl i3 (gx g (u6 + (1 : Int32)).toNatClampNeg) (gx g (u6 + (2 : Int32)).toNatClampNeg) u238 (gx g (u6 + (4 : Int32)).toNatClampNeg)) (by exact ⟨Nat.le_of_ble_eq_true rfl, by decide⟩) rfl (Nat.le_of_ble_eq_true rfl) dL_law_1488 fun v240 => x_stI ?_
                                                refine x_istore 1491 [(6, .int v240), (0, .ref (idc 51 0)), (1, .ref (idc 0 i1)), (2, .ref (idc 4 i3)), (3, .ref (idc 34 i5)), (4, .int u6), (5, .int v234)] dL_law_1491 (by first | decide | exact Nat.le_of_ble_eq_true rfl) rfl ?_
                                                refine x_aload_n 1493 3 dL_law_1493 rfl ?_
                                                refine x_cV 1494 0 [] [] ⟨by decide, rfl⟩ cv_X0_173 (im_X5_thrown hl i3) (by exact ⟨Nat.le_of_ble_eq_true rfl, by decide⟩) rfl (Nat.le_of_ble_eq_true rfl) dL_law_1494 fun v241 => x_stI ?_
                                                refine x_iload 1497 6 dL_law_1497 rfl ?_
                                                refine x_icmp_eq 1499 1504 dL_law_1499 rfl (fun c242 => ?_) (fun c242 => ?_)
                                                · refine x_iload 1504 6 dL_law_1504 rfl ?_
                                                  refine x_if_ne 1506 1521 dL_law_1506 rfl (fun c243 => ?_) (fun c243 => ?_)
                                                  · refine x_aload_n 1509 4 dL_law_1509 rfl ?_
                                                    refine x_iconst 1510 0 (0 : Int32) dL_law_1510 rfl ?_
                                                    refine x_lald 1511 dL_law_1511 fun v244 => ?_
                                                    refine x_iload 1512 0 dL_law_1512 rfl ?_
                                                    refine x_i2l 1514 dL_law_1514 ?_
                                                    refine x_lcmp 1515 dL_law_1515 ?_
                                                    refine x_if_eq 1516 1521 dL_law_1516 rfl (fun c245 => ?_) (fun c245 => ?_)
                                                    · refine x_goto 1521 3320 dL_law_1521 rfl ?_
                                                      refine x_iinc 3320 5 [(4, .int (u6 + (6 : Int32))), (6, .int v240), (0, .ref (idc 51 0)), (1, .ref (idc 0 i1)), (2, .ref (idc 4 i3)), (3, .ref (idc 34 i5)), (5, .int v234)] dL_law_3320 rfl rfl (by first | decide | exact Nat.le_of_ble_eq_true rfl) rfl ?_
                                                      refine x_goto 3323 23 dL_law_3323 rfl ?_
                                                      refine x_sub [2, 3, 4, 5, 0] _ rfl ?_
                                                      exact hr7 (u6 + (6 : Int32))
                                                    · refine x_iconst 1519 0 (0 : Int32) dL_law_1519 rfl ?_
                                                      exact x_zret 1520 hZ rfl dL_law_1520
                                                  · refine x_goto 1521 3320 dL_law_1521 rfl ?_
                                                    refine x_iinc 3320 5 [(4, .int (u6 + (6 : Int32))), (6, .int v240), (0, .ref (idc 51 0)), (1, .ref (idc 0 i1)), (2, .ref (idc 4 i3)), (3, .ref (idc 34 i5)), (5, .int v234)] dL_law_3320 rfl rfl (by first | decide | exact Nat.le_of_ble_eq_true rfl) rfl ?_
                                                    refine x_goto 3323 23 dL_law_3323 rfl ?_
                                                    refine x_sub [2, 3, 4, 5, 0] _ rfl ?_
                                                    exact hr7 (u6 + (6 : Int32))
                                                · refine x_iconst 1502 0 (0 : Int32) dL_law_1502 rfl ?_
                                                  exact x_zret 1503 hZ rfl dL_law_1503
                                              · refine x_if_eq 1474 1481 dL_law_1474 rfl (fun c247 => ?_) (fun c247 => ?_)
                                                · refine x_iconst 1481 0 (0 : Int32) dL_law_1481 rfl ?_
                                                  refine x_sub [1, 2, 3, 4, 5, 0] _ rfl ?_
                                                  exact hj246 (0 : Int32)
                                                · refine x_iconst 1477 1 (1 : Int32) dL_law_1477 rfl ?_
                                                  refine x_goto 1478 1482 dL_law_1478 rfl ?_
                                                  refine x_sub [1, 2, 3, 4, 5, 0] _ rfl ?_
                                                  exact hj246 (1 : Int32)
                                            · refine x_if_eq 1435 1442 dL_law_1435 rfl (fun c249 => ?_) (fun c249 => ?_)
                                              · refine x_iconst 1442 0 (0 : Int32) dL_law_1442 rfl ?_
                                                exact hj248 (0 : Int32)
                                              · refine x_iconst 1438 1 (1 : Int32) dL_law_1438 rfl ?_
                                                refine x_goto 1439 1443 dL_law_1439 rfl ?_
                                                exact hj248 (1 : Int32)
                                          · refine x_cnd (fun c250 => ?_) (fun c250 => ?_)
                                            · refine x_tsw 40 1524 (20 : Int32) 20 1484 c250 rfl dL_law_40 (by first | decide | exact Nat.le_of_ble_eq_true rfl) (by first | decide | exact Nat.le_of_ble_eq_true rfl) rfl rfl ?_
                                              refine x_aload_n 1524 1 dL_law_1524 rfl ?_
                                              refine x_aload_n 1525 0 dL_law_1525 rfl ?_
                                              refine x_iload 1526 4 dL_law_1526 rfl ?_
                                              refine x_iconst 1528 1 (1 : Int32) dL_law_1528 rfl ?_
                                              refine x_iadd 1529 dL_law_1529 ?_
                                              refine x_sld 1530 dL_law_1530 ?_
                                              refine x_aload_n 1531 3 dL_law_1531 rfl ?_
                                              refine x_cSW 1532 42 [.ref (idc 0 i1), .int (gx g (u6 + (1 : Int32)).toNatClampNeg), .ref (idc 34 i5)] [] cs_X0_242 (im_X0_signOut hl (idc 0 i1) (gx g (u6 + (1 : Int32)).toNatClampNeg) i5) (by exact ⟨Nat.le_of_ble_eq_true rfl, by decide⟩) rfl (Nat.le_of_ble_eq_true rfl) dL_law_1532 fun v252 => x_stI ?_
                                              refine x_istore 1535 [(5, .int v252), (0, .ref (idc 51 0)), (1, .ref (idc 0 i1)), (2, .ref (idc 4 i3)), (3, .ref (idc 34 i5)), (4, .int u6)] dL_law_1535 (by first | decide | exact Nat.le_of_ble_eq_true rfl) rfl ?_
                                              refine x_aload_n 1537 3 dL_law_1537 rfl ?_
                                              refine x_aload_n 1538 1 dL_law_1538 rfl ?_
                                              refine x_iload 1539 5 dL_law_1539 rfl ?_
                                              refine x_iconst 1541 1 (1 : Int32) dL_law_1541 rfl ?_
                                              refine x_iadd 1542 dL_law_1542 ?_
                                              refine x_sld 1543 dL_law_1543 ?_
                                              refine x_cV 1544 4 [.int (gx g (u6 + (1 : Int32)).toNatClampNeg)] [] ⟨by decide, rfl⟩ cv_X0_244 (im_X5_signOut hl i3 (gx g (u6 + (1 : Int32)).toNatClampNeg)) (by exact ⟨Nat.le_of_ble_eq_true rfl, by decide⟩) rfl (Nat.le_of_ble_eq_true rfl) dL_law_1544 fun v254 => x_stI ?_
                                              refine x_istore 1547 [(6, .int v254), (5, .int v252), (0, .ref (idc 51 0)), (1, .ref (idc 0 i1)), (2, .ref (idc 4 i3)), (3, .ref (idc 34 i5)), (4, .int u6)] dL_law_1547 (by first | decide | exact Nat.le_of_ble_eq_true rfl) rfl ?_
                                              refine x_aload_n 1549 4 dL_law_1549 rfl ?_
                                              refine x_cV 1550 0 [] [] ⟨by decide, rfl⟩ cv_X0_173 (im_X5_thrown hl i3) (by exact ⟨Nat.le_of_ble_eq_true rfl, by decide⟩) rfl (Nat.le_of_ble_eq_true rfl) dL_law_1550 fun v255 => x_stI ?_
                                              refine x_iload 1553 1 dL_law_1553 rfl ?_
                                              refine x_icmp_eq 1555 1560 dL_law_1555 rfl (fun c256 => ?_) (fun c256 => ?_)
                                              · refine x_iload 1560 1 dL_law_1560 rfl ?_
                                                refine x_if_ne 1562 1577 dL_law_1562 rfl (fun c257 => ?_) (fun c257 => ?_)
                                                · refine x_aload_n 1565 5 dL_law_1565 rfl ?_
                                                  refine x_iconst 1566 0 (0 : Int32) dL_law_1566 rfl ?_
                                                  refine x_lald 1567 dL_law_1567 fun v258 => ?_
                                                  refine x_iload 1568 0 dL_law_1568 rfl ?_
                                                  refine x_i2l 1570 dL_law_1570 ?_
                                                  refine x_lcmp 1571 dL_law_1571 ?_
                                                  refine x_if_eq 1572 1577 dL_law_1572 rfl (fun c259 => ?_) (fun c259 => ?_)
                                                  · refine x_goto 1577 3320 dL_law_1577 rfl ?_
                                                    refine x_iinc 3320 6 [(4, .int (u6 + (6 : Int32))), (6, .int v254), (5, .int v252), (0, .ref (idc 51 0)), (1, .ref (idc 0 i1)), (2, .ref (idc 4 i3)), (3, .ref (idc 34 i5))] dL_law_3320 rfl rfl (by first | decide | exact Nat.le_of_ble_eq_true rfl) rfl ?_
                                                    refine x_goto 3323 23 dL_law_3323 rfl ?_
                                                    refine x_sub [3, 4, 5, 6, 0] _ rfl ?_
                                                    exact hr7 (u6 + (6 : Int32))
                                                  · refine x_iconst 1575 0 (0 : Int32) dL_law_1575 rfl ?_
                                                    exact x_zret 1576 hZ rfl dL_law_1576
                                                · refine x_goto 1577 3320 dL_law_1577 rfl ?_
                                                  refine x_iinc 3320 6 [(4, .int (u6 + (6 : Int32))), (6, .int v254), (5, .int v252), (0, .ref (idc 51 0)), (1, .ref (idc 0 i1)), (2, .ref (idc 4 i3)), (3, .ref (idc 34 i5))] dL_law_3320 rfl rfl (by first | decide | exact Nat.le_of_ble_eq_true rfl) rfl ?_
                                                  refine x_goto 3323 23 dL_law_3323 rfl ?_
                                                  refine x_sub [3, 4, 5, 6, 0] _ rfl ?_
                                                  exact hr7 (u6 + (6 : Int32))
                                              · refine x_iconst 1558 0 (0 : Int32) dL_law_1558 rfl ?_
                                                exact x_zret 1559 hZ rfl dL_law_1559
                                            · refine x_cnd (fun c260 => ?_) (fun c260 => ?_)
                                              · refine x_tsw 40 1580 (21 : Int32) 21 1540 c260 rfl dL_law_40 (by first | decide | exact Nat.le_of_ble_eq_true rfl) (by first | decide | exact Nat.le_of_ble_eq_true rfl) rfl rfl ?_
                                                refine x_aload_n 1580 1 dL_law_1580 rfl ?_
                                                refine x_aload_n 1581 0 dL_law_1581 rfl ?_
                                                refine x_iload 1582 4 dL_law_1582 rfl ?_
                                                refine x_iconst 1584 1 (1 : Int32) dL_law_1584 rfl ?_
                                                refine x_iadd 1585 dL_law_1585 ?_
                                                refine x_sld 1586 dL_law_1586 ?_
                                                refine x_aload_n 1587 3 dL_law_1587 rfl ?_
                                                refine x_cSW 1588 9 [.ref (idc 0 i1), .int (gx g (u6 + (1 : Int32)).toNatClampNeg), .ref (idc 34 i5)] [] cs_X0_245 (im_X0_helper hl (idc 0 i1) (gx g (u6 + (1 : Int32)).toNatClampNeg) i5) (by exact ⟨Nat.le_of_ble_eq_true rfl, by decide⟩) rfl (Nat.le_of_ble_eq_true rfl) dL_law_1588 fun v262 => x_stI ?_
                                                refine x_istore 1591 [(5, .int v262), (0, .ref (idc 51 0)), (1, .ref (idc 0 i1)), (2, .ref (idc 4 i3)), (3, .ref (idc 34 i5)), (4, .int u6)] dL_law_1591 (by first | decide | exact Nat.le_of_ble_eq_true rfl) rfl ?_
                                                refine x_aload_n 1593 3 dL_law_1593 rfl ?_
                                                refine x_aload_n 1594 1 dL_law_1594 rfl ?_
                                                refine x_iload 1595 5 dL_law_1595 rfl ?_
                                                refine x_iconst 1597 1 (1 : Int32) dL_law_1597 rfl ?_
                                                refine x_iadd 1598 dL_law_1598 ?_
                                                refine x_sld 1599 dL_law_1599 ?_
                                                refine x_cV 1600 2 [.int (gx g (u6 + (1 : Int32)).toNatClampNeg)] [] ⟨by decide, rfl⟩ cv_X0_247 (im_X5_helper hl i3 (gx g (u6 + (1 : Int32)).toNatClampNeg)) (by exact ⟨Nat.le_of_ble_eq_true rfl, by decide⟩) rfl (Nat.le_of_ble_eq_true rfl) dL_law_1600 fun v264 => x_stI ?_
                                                refine x_istore 1603 [(6, .int v264), (5, .int v262), (0, .ref (idc 51 0)), (1, .ref (idc 0 i1)), (2, .ref (idc 4 i3)), (3, .ref (idc 34 i5)), (4, .int u6)] dL_law_1603 (by first | decide | exact Nat.le_of_ble_eq_true rfl) rfl ?_
                                                refine x_aload_n 1605 4 dL_law_1605 rfl ?_
                                                refine x_cV 1606 0 [] [] ⟨by decide, rfl⟩ cv_X0_173 (im_X5_thrown hl i3) (by exact ⟨Nat.le_of_ble_eq_true rfl, by decide⟩) rfl (Nat.le_of_ble_eq_true rfl) dL_law_1606 fun v265 => x_stI ?_
                                                refine x_iload 1609 1 dL_law_1609 rfl ?_
                                                refine x_icmp_eq 1611 1616 dL_law_1611 rfl (fun c266 => ?_) (fun c266 => ?_)
                                                · refine x_iload 1616 1 dL_law_1616 rfl ?_
                                                  refine x_if_ne 1618 1640 dL_law_1618 rfl (fun c267 => ?_) (fun c267 => ?_)
                                                  · refine x_aload_n 1621 5 dL_law_1621 rfl ?_
                                                    refine x_iconst 1622 0 (0 : Int32) dL_law_1622 rfl ?_
                                                    refine x_lald 1623 dL_law_1623 fun v268 => ?_
                                                    refine x_iload 1624 0 dL_law_1624 rfl ?_
                                                    refine x_bndj 1634 (fun u269 => [(0, .ref (idc 51 0)), (1, .ref (idc 0 i1)), (2, .ref (idc 4 i3)), (3, .ref (idc 34 i5)), (4, .int u6)]) (fun u269 => [.long u269, .long v268]) (fun u269 => ?_) (fun hj271 => ?_)
                                                    · show TX g Γ _ Z _ 1634 [(0, .ref (idc 51 0)), (1, .ref (idc 0 i1)), (2, .ref (idc 4 i3)), (3, .ref (idc 34 i5)), (4, .int u6)] [.long u269, .long v268] _
                                                      refine x_lcmp 1634 dL_law_1634 ?_
                                                      refine x_if_eq 1635 1640 dL_law_1635 rfl (fun c270 => ?_) (fun c270 => ?_)
                                                      · refine x_goto 1640 3320 dL_law_1640 rfl ?_
                                                        refine x_iinc 3320 4 [(4, .int (u6 + (6 : Int32))), (0, .ref (idc 51 0)), (1, .ref (idc 0 i1)), (2, .ref (idc 4 i3)), (3, .ref (idc 34 i5))] dL_law_3320 rfl rfl (by first | decide | exact Nat.le_of_ble_eq_true rfl) rfl ?_
                                                        refine x_goto 3323 23 dL_law_3323 rfl ?_
                                                        refine x_sub [1, 2, 3, 4, 0] _ rfl ?_
                                                        exact hr7 (u6 + (6 : Int32))
                                                      · refine x_iconst 1638 0 (0 : Int32) dL_law_1638 rfl ?_
                                                        exact x_zret 1639 hZ rfl dL_law_1639
                                                    · refine x_if_eq 1626 1633 dL_law_1626 rfl (fun c272 => ?_) (fun c272 => ?_)
                                                      · refine x_lconst 1633 0 (0 : Int64) dL_law_1633 rfl ?_
                                                        refine x_sub [2, 3, 4, 5, 6] _ rfl ?_
                                                        exact hj271 (0 : Int64)
                                                      · refine x_lconst 1629 1 (1 : Int64) dL_law_1629 rfl ?_
                                                        refine x_goto 1630 1634 dL_law_1630 rfl ?_
                                                        refine x_sub [2, 3, 4, 5, 6] _ rfl ?_
                                                        exact hj271 (1 : Int64)
                                                  · refine x_goto 1640 3320 dL_law_1640 rfl ?_
                                                    refine x_iinc 3320 6 [(4, .int (u6 + (6 : Int32))), (6, .int v264), (5, .int v262), (0, .ref (idc 51 0)), (1, .ref (idc 0 i1)), (2, .ref (idc 4 i3)), (3, .ref (idc 34 i5))] dL_law_3320 rfl rfl (by first | decide | exact Nat.le_of_ble_eq_true rfl) rfl ?_
                                                    refine x_goto 3323 23 dL_law_3323 rfl ?_
                                                    refine x_sub [3, 4, 5, 6, 0] _ rfl ?_
                                                    exact hr7 (u6 + (6 : Int32))
                                                · refine x_iconst 1614 0 (0 : Int32) dL_law_1614 rfl ?_
                                                  exact x_zret 1615 hZ rfl dL_law_1615
                                              · refine x_cnd (fun c273 => ?_) (fun c273 => ?_)
                                                · refine x_tsw 40 1643 (22 : Int32) 22 1603 c273 rfl dL_law_40 (by first | decide | exact Nat.le_of_ble_eq_true rfl) (by first | decide | exact Nat.le_of_ble_eq_true rfl) rfl rfl ?_
                                                  refine x_aload_n 1643 1 dL_law_1643 rfl ?_
                                                  refine x_aload_n 1644 0 dL_law_1644 rfl ?_
                                                  refine x_iload 1645 4 dL_law_1645 rfl ?_
                                                  refine x_iconst 1647 1 (1 : Int32) dL_law_1647 rfl ?_
                                                  refine x_iadd 1648 dL_law_1648 ?_
                                                  refine x_sld 1649 dL_law_1649 ?_
                                                  refine x_aload_n 1650 0 dL_law_1650 rfl ?_
                                                  refine x_iload 1651 4 dL_law_1651 rfl ?_
                                                  refine x_iconst 1653 2 (2 : Int32) dL_law_1653 rfl ?_
                                                  refine x_iadd 1654 dL_law_1654 ?_
                                                  refine x_sld 1655 dL_law_1655 ?_
                                                  refine x_aload_n 1656 3 dL_law_1656 rfl ?_
                                                  refine x_cSW 1657 10 [.ref (idc 0 i1), .int (gx g (u6 + (1 : Int32)).toNatClampNeg), .int (gx g (u6 + (2 : Int32)).toNatClampNeg), .ref (idc 34 i5)] [] cs_X0_248 (im_X0_act hl (idc 0 i1) (gx g (u6 + (1 : Int32)).toNatClampNeg) (gx g (u6 + (2 : Int32)).toNatClampNeg) i5) (by exact ⟨Nat.le_of_ble_eq_true rfl, by decide⟩) rfl (Nat.le_of_ble_eq_true rfl) dL_law_1657 fun v276 => x_stI ?_
                                                  refine x_istore 1660 [(5, .int v276), (0, .ref (idc 51 0)), (1, .ref (idc 0 i1)), (2, .ref (idc 4 i3)), (3, .ref (idc 34 i5)), (4, .int u6)] dL_law_1660 (by first | decide | exact Nat.le_of_ble_eq_true rfl) rfl ?_
                                                  refine x_aload_n 1662 3 dL_law_1662 rfl ?_
                                                  refine x_aload_n 1663 1 dL_law_1663 rfl ?_
                                                  refine x_iload 1664 5 dL_law_1664 rfl ?_
                                                  refine x_iconst 1666 1 (1 : Int32) dL_law_1666 rfl ?_
                                                  refine x_iadd 1667 dL_law_1667 ?_
                                                  refine x_sld 1668 dL_law_1668 ?_
                                                  refine x_aload_n 1669 1 dL_law_1669 rfl ?_
                                                  refine x_iload 1670 5 dL_law_1670 rfl ?_
                                                  refine x_iconst 1672 2 (2 : Int32) dL_law_1672 rfl ?_
                                                  refine x_iadd 1673 dL_law_1673 ?_
                                                  refine x_sld 1674 dL_law_1674 ?_
                                                  refine x_cV 1675 2 [.int (gx g (u6 + (1 : Int32)).toNatClampNeg), .int (gx g (u6 + (2 : Int32)).toNatClampNeg)] [] ⟨by decide, rfl⟩ cv_X0_250 (im_X5_act hl i3 (gx g (u6 + (1 : Int32)).toNatClampNeg) (gx g (u6 + (2 : Int32)).toNatClampNeg)) (by exact ⟨Nat.le_of_ble_eq_true rfl, by decide⟩) rfl (Nat.le_of_ble_eq_true rfl) dL_law_1675 fun v279 => x_stI ?_
                                                  refine x_istore 1678 [(6, .int v279), (5, .int v276), (0, .ref (idc 51 0)), (1, .ref (idc 0 i1)), (2, .ref (idc 4 i3)), (3, .ref (idc 34 i5)), (4, .int u6)] dL_law_1678 (by first | decide | exact Nat.le_of_ble_eq_true rfl) rfl ?_
                                                  refine x_aload_n 1680 4 dL_law_1680 rfl ?_
                                                  refine x_cV 1681 0 [] [] ⟨by decide, rfl⟩ cv_X0_173 (im_X5_thrown hl i3) (by exact ⟨Nat.le_of_ble_eq_true rfl, by decide⟩) rfl (Nat.le_of_ble_eq_true rfl) dL_law_1681 fun v280 => x_stI ?_
                                                  refine x_iload 1684 1 dL_law_1684 rfl ?_
                                                  refine x_icmp_eq 1686 1691 dL_law_1686 rfl (fun c281 => ?_) (fun c281 => ?_)
                                                  · refine x_iload 1691 1 dL_law_1691 rfl ?_
                                                    refine x_if_ne 1693 1708 dL_law_1693 rfl (fun c282 => ?_) (fun c282 => ?_)
                                                    · refine x_aload_n 1696 5 dL_law_1696 rfl ?_
                                                      refine x_iconst 1697 0 (0 : Int32) dL_law_1697 rfl ?_
                                                      refine x_lald 1698 dL_law_1698 fun v283 => ?_
                                                      refine x_iload 1699 0 dL_law_1699 rfl ?_
                                                      refine x_i2l 1701 dL_law_1701 ?_
                                                      refine x_lcmp 1702 dL_law_1702 ?_
                                                      refine x_if_eq 1703 1708 dL_law_1703 rfl (fun c284 => ?_) (fun c284 => ?_)
                                                      · refine x_goto 1708 3320 dL_law_1708 rfl ?_
                                                        refine x_iinc 3320 6 [(4, .int (u6 + (6 : Int32))), (6, .int v279), (5, .int v276), (0, .ref (idc 51 0)), (1, .ref (idc 0 i1)), (2, .ref (idc 4 i3)), (3, .ref (idc 34 i5))] dL_law_3320 rfl rfl (by first | decide | exact Nat.le_of_ble_eq_true rfl) rfl ?_
                                                        refine x_goto 3323 23 dL_law_3323 rfl ?_
                                                        refine x_sub [3, 4, 5, 6, 0] _ rfl ?_
                                                        exact hr7 (u6 + (6 : Int32))
                                                      · refine x_iconst 1706 0 (0 : Int32) dL_law_1706 rfl ?_
                                                        exact x_zret 1707 hZ rfl dL_law_1707
                                                    · refine x_goto 1708 3320 dL_law_1708 rfl ?_
                                                      refine x_iinc 3320 6 [(4, .int (u6 + (6 : Int32))), (6, .int v279), (5, .int v276), (0, .ref (idc 51 0)), (1, .ref (idc 0 i1)), (2, .ref (idc 4 i3)), (3, .ref (idc 34 i5))] dL_law_3320 rfl rfl (by first | decide | exact Nat.le_of_ble_eq_true rfl) rfl ?_
                                                      refine x_goto 3323 23 dL_law_3323 rfl ?_
                                                      refine x_sub [3, 4, 5, 6, 0] _ rfl ?_
                                                      exact hr7 (u6 + (6 : Int32))
                                                  · refine x_iconst 1689 0 (0 : Int32) dL_law_1689 rfl ?_
                                                    exact x_zret 1690 hZ rfl dL_law_1690
                                                · refine x_cnd (fun c285 => ?_) (fun c285 => ?_)
                                                  · refine x_tsw 40 1711 (23 : Int32) 23 1671 c285 rfl dL_law_40 (by first | decide | exact Nat.le_of_ble_eq_true rfl) (by first | decide | exact Nat.le_of_ble_eq_true rfl) rfl rfl ?_
                                                    refine x_aload_n 1711 1 dL_law_1711 rfl ?_
                                                    refine x_aload_n 1712 0 dL_law_1712 rfl ?_
                                                    refine x_iload 1713 4 dL_law_1713 rfl ?_
                                                    refine x_iconst 1715 1 (1 : Int32) dL_law_1715 rfl ?_
                                                    refine x_iadd 1716 dL_law_1716 ?_
                                                    refine x_sld 1717 dL_law_1717 ?_
                                                    refine x_aload_n 1718 0 dL_law_1718 rfl ?_
                                                    refine x_iload 1719 4 dL_law_1719 rfl ?_
                                                    refine x_iconst 1721 2 (2 : Int32) dL_law_1721 rfl ?_
                                                    refine x_iadd 1722 dL_law_1722 ?_
                                                    refine x_sld 1723 dL_law_1723 ?_
                                                    refine x_aload_n 1724 0 dL_law_1724 rfl ?_
                                                    refine x_iload 1725 4 dL_law_1725 rfl ?_
                                                    refine x_iconst 1727 3 (3 : Int32) dL_law_1727 rfl ?_
                                                    refine x_iadd 1728 dL_law_1728 ?_
                                                    refine x_sld 1729 dL_law_1729 ?_
                                                    refine x_aload_n 1730 3 dL_law_1730 rfl ?_
                                                    refine x_cSW 1731 9 [.ref (idc 0 i1), .int (gx g (u6 + (1 : Int32)).toNatClampNeg), .int (gx g (u6 + (2 : Int32)).toNatClampNeg), .int (gx g (u6 + (3 : Int32)).toNatClampNeg), .ref (idc 34 i5)] [] cs_X0_251 (im_X0_consent hl (idc 0 i1) (gx g (u6 + (1 : Int32)).toNatClampNeg) (gx g (u6 + (2 : Int32)).toNatClampNeg) (gx g (u6 + (3 : Int32)).toNatClampNeg) i5) (by exact ⟨Nat.le_of_ble_eq_true rfl, by decide⟩) rfl (Nat.le_of_ble_eq_true rfl) dL_law_1731 fun v289 => x_stI ?_
                                                    refine x_istore 1734 [(5, .int v289), (0, .ref (idc 51 0)), (1, .ref (idc 0 i1)), (2, .ref (idc 4 i3)), (3, .ref (idc 34 i5)), (4, .int u6)] dL_law_1734 (by first | decide | exact Nat.le_of_ble_eq_true rfl) rfl ?_
                                                    refine x_aload_n 1736 3 dL_law_1736 rfl ?_
                                                    refine x_aload_n 1737 1 dL_law_1737 rfl ?_
                                                    refine x_iload 1738 5 dL_law_1738 rfl ?_
                                                    refine x_iconst 1740 1 (1 : Int32) dL_law_1740 rfl ?_
                                                    refine x_iadd 1741 dL_law_1741 ?_
                                                    refine x_sld 1742 dL_law_1742 ?_
                                                    refine x_aload_n 1743 1 dL_law_1743 rfl ?_
                                                    refine x_iload 1744 5 dL_law_1744 rfl ?_
                                                    refine x_iconst 1746 2 (2 : Int32) dL_law_1746 rfl ?_
                                                    refine x_iadd 1747 dL_law_1747 ?_
                                                    refine x_sld 1748 dL_law_1748 ?_
                                                    refine x_aload_n 1749 1 dL_law_1749 rfl ?_
                                                    refine x_iload 1750 5 dL_law_1750 rfl ?_
                                                    refine x_iconst 1752 3 (3 : Int32) dL_law_1752 rfl ?_
                                                    refine x_iadd 1753 dL_law_1753 ?_
                                                    refine x_sld 1754 dL_law_1754 ?_
                                                    refine x_cV 1755 2 [.int (gx g (u6 + (1 : Int32)).toNatClampNeg), .int (gx g (u6 + (2 : Int32)).toNatClampNeg), .int (gx g (u6 + (3 : Int32)).toNatClampNeg)] [] ⟨by decide, rfl⟩ cv_X0_253 (im_X5_consent hl i3 (gx g (u6 + (1 : Int32)).toNatClampNeg) (gx g (u6 + (2 : Int32)).toNatClampNeg) (gx g (u6 + (3 : Int32)).toNatClampNeg)) (by exact ⟨Nat.le_of_ble_eq_true rfl, by decide⟩) rfl (Nat.le_of_ble_eq_true rfl) dL_law_1755 fun v293 => x_stI ?_
                                                    refine x_istore 1758 [(6, .int v293), (5, .int v289), (0, .ref (idc 51 0)), (1, .ref (idc 0 i1)), (2, .ref (idc 4 i3)), (3, .ref (idc 34 i5)), (4, .int u6)] dL_law_1758 (by first | decide | exact Nat.le_of_ble_eq_true rfl) rfl ?_
                                                    refine x_aload_n 1760 4 dL_law_1760 rfl ?_
                                                    refine x_cV 1761 0 [] [] ⟨by decide, rfl⟩ cv_X0_173 (im_X5_thrown hl i3) (by exact ⟨Nat.le_of_ble_eq_true rfl, by decide⟩) rfl (Nat.le_of_ble_eq_true rfl) dL_law_1761 fun v294 => x_stI ?_
                                                    refine x_iload 1764 1 dL_law_1764 rfl ?_
                                                    refine x_icmp_eq 1766 1771 dL_law_1766 rfl (fun c295 => ?_) (fun c295 => ?_)
                                                    · refine x_iload 1771 1 dL_law_1771 rfl ?_
                                                      refine x_if_ne 1773 1788 dL_law_1773 rfl (fun c296 => ?_) (fun c296 => ?_)
                                                      · refine x_aload_n 1776 5 dL_law_1776 rfl ?_
                                                        refine x_iconst 1777 0 (0 : Int32) dL_law_1777 rfl ?_
                                                        refine x_lald 1778 dL_law_1778 fun v297 => ?_
                                                        refine x_iload 1779 0 dL_law_1779 rfl ?_
                                                        refine x_i2l 1781 dL_law_1781 ?_
                                                        refine x_lcmp 1782 dL_law_1782 ?_
                                                        refine x_if_eq 1783 1788 dL_law_1783 rfl (fun c298 => ?_) (fun c298 => ?_)
                                                        · refine x_goto 1788 3320 dL_law_1788 rfl ?_
                                                          refine x_iinc 3320 6 [(4, .int (u6 + (6 : Int32))), (6, .int v293), (5, .int v289), (0, .ref (idc 51 0)), (1, .ref (idc 0 i1)), (2, .ref (idc 4 i3)), (3, .ref (idc 34 i5))] dL_law_3320 rfl rfl (by first | decide | exact Nat.le_of_ble_eq_true rfl) rfl ?_
                                                          refine x_goto 3323 23 dL_law_3323 rfl ?_
                                                          refine x_sub [3, 4, 5, 6, 0] _ rfl ?_
                                                          exact hr7 (u6 + (6 : Int32))
                                                        · refine x_iconst 1786 0 (0 : Int32) dL_law_1786 rfl ?_
                                                          exact x_zret 1787 hZ rfl dL_law_1787
                                                      · refine x_goto 1788 3320 dL_law_1788 rfl ?_
                                                        refine x_iinc 3320 6 [(4, .int (u6 + (6 : Int32))), (6, .int v293), (5, .int v289), (0, .ref (idc 51 0)), (1, .ref (idc 0 i1)), (2, .ref (idc 4 i3)), (3, .ref (idc 34 i5))] dL_law_3320 rfl rfl (by first | decide | exact Nat.le_of_ble_eq_true rfl) rfl ?_
                                                        refine x_goto 3323 23 dL_law_3323 rfl ?_
                                                        refine x_sub [3, 4, 5, 6, 0] _ rfl ?_
                                                        exact hr7 (u6 + (6 : Int32))
                                                    · refine x_iconst 1769 0 (0 : Int32) dL_law_1769 rfl ?_
                                                      exact x_zret 1770 hZ rfl dL_law_1770
                                                  · refine x_cnd (fun c299 => ?_) (fun c299 => ?_)
                                                    · refine x_tsw 40 1791 (24 : Int32) 24 1751 c299 rfl dL_law_40 (by first | decide | exact Nat.le_of_ble_eq_true rfl) (by first | decide | exact Nat.le_of_ble_eq_true rfl) rfl rfl ?_
                                                      refine x_aload_n 1791 1 dL_law_1791 rfl ?_
                                                      refine x_aload_n 1792 0 dL_law_1792 rfl ?_
                                                      refine x_iload 1793 4 dL_law_1793 rfl ?_
                                                      refine x_iconst 1795 1 (1 : Int32) dL_law_1795 rfl ?_
                                                      refine x_iadd 1796 dL_law_1796 ?_
                                                      refine x_sld 1797 dL_law_1797 ?_
                                                      refine x_aload_n 1798 0 dL_law_1798 rfl ?_
                                                      refine x_iload 1799 4 dL_law_1799 rfl ?_
                                                      refine x_iconst 1801 2 (2 : Int32) dL_law_1801 rfl ?_
                                                      refine x_iadd 1802 dL_law_1802 ?_
                                                      refine x_sld 1803 dL_law_1803 ?_
                                                      refine x_aload_n 1804 3 dL_law_1804 rfl ?_
                                                      refine x_cSW 1805 10 [.ref (idc 0 i1), .int (gx g (u6 + (1 : Int32)).toNatClampNeg), .int (gx g (u6 + (2 : Int32)).toNatClampNeg), .ref (idc 34 i5)] [] cs_X0_254 (im_X0_withdraw hl (idc 0 i1) (gx g (u6 + (1 : Int32)).toNatClampNeg) (gx g (u6 + (2 : Int32)).toNatClampNeg) i5) (by exact ⟨Nat.le_of_ble_eq_true rfl, by decide⟩) rfl (Nat.le_of_ble_eq_true rfl) dL_law_1805 fun v302 => x_stI ?_
                                                      refine x_istore 1808 [(5, .int v302), (0, .ref (idc 51 0)), (1, .ref (idc 0 i1)), (2, .ref (idc 4 i3)), (3, .ref (idc 34 i5)), (4, .int u6)] dL_law_1808 (by first | decide | exact Nat.le_of_ble_eq_true rfl) rfl ?_
                                                      refine x_aload_n 1810 3 dL_law_1810 rfl ?_
                                                      refine x_aload_n 1811 1 dL_law_1811 rfl ?_
                                                      refine x_iload 1812 5 dL_law_1812 rfl ?_
                                                      refine x_iconst 1814 1 (1 : Int32) dL_law_1814 rfl ?_
                                                      refine x_iadd 1815 dL_law_1815 ?_
                                                      refine x_sld 1816 dL_law_1816 ?_
                                                      refine x_aload_n 1817 1 dL_law_1817 rfl ?_
                                                      refine x_iload 1818 5 dL_law_1818 rfl ?_
                                                      refine x_iconst 1820 2 (2 : Int32) dL_law_1820 rfl ?_
                                                      refine x_iadd 1821 dL_law_1821 ?_
                                                      refine x_sld 1822 dL_law_1822 ?_
                                                      refine x_cV 1823 2 [.int (gx g (u6 + (1 : Int32)).toNatClampNeg), .int (gx g (u6 + (2 : Int32)).toNatClampNeg)] [] ⟨by decide, rfl⟩ cv_X0_256 (im_X5_withdraw hl i3 (gx g (u6 + (1 : Int32)).toNatClampNeg) (gx g (u6 + (2 : Int32)).toNatClampNeg)) (by exact ⟨Nat.le_of_ble_eq_true rfl, by decide⟩) rfl (Nat.le_of_ble_eq_true rfl) dL_law_1823 fun v305 => x_stI ?_
                                                      refine x_istore 1826 [(6, .int v305), (5, .int v302), (0, .ref (idc 51 0)), (1, .ref (idc 0 i1)), (2, .ref (idc 4 i3)), (3, .ref (idc 34 i5)), (4, .int u6)] dL_law_1826 (by first | decide | exact Nat.le_of_ble_eq_true rfl) rfl ?_
                                                      refine x_aload_n 1828 4 dL_law_1828 rfl ?_
                                                      refine x_cV 1829 0 [] [] ⟨by decide, rfl⟩ cv_X0_173 (im_X5_thrown hl i3) (by exact ⟨Nat.le_of_ble_eq_true rfl, by decide⟩) rfl (Nat.le_of_ble_eq_true rfl) dL_law_1829 fun v306 => x_stI ?_
                                                      refine x_iload 1832 1 dL_law_1832 rfl ?_
                                                      refine x_icmp_eq 1834 1839 dL_law_1834 rfl (fun c307 => ?_) (fun c307 => ?_)
                                                      · refine x_iload 1839 1 dL_law_1839 rfl ?_
                                                        refine x_if_ne 1841 1856 dL_law_1841 rfl (fun c308 => ?_) (fun c308 => ?_)
                                                        · refine x_aload_n 1844 5 dL_law_1844 rfl ?_
                                                          refine x_iconst 1845 0 (0 : Int32) dL_law_1845 rfl ?_
                                                          refine x_lald 1846 dL_law_1846 fun v309 => ?_
                                                          refine x_iload 1847 0 dL_law_1847 rfl ?_
                                                          refine x_i2l 1849 dL_law_1849 ?_
                                                          refine x_lcmp 1850 dL_law_1850 ?_
                                                          refine x_if_eq 1851 1856 dL_law_1851 rfl (fun c310 => ?_) (fun c310 => ?_)
                                                          · refine x_goto 1856 3320 dL_law_1856 rfl ?_
                                                            refine x_iinc 3320 6 [(4, .int (u6 + (6 : Int32))), (6, .int v305), (5, .int v302), (0, .ref (idc 51 0)), (1, .ref (idc 0 i1)), (2, .ref (idc 4 i3)), (3, .ref (idc 34 i5))] dL_law_3320 rfl rfl (by first | decide | exact Nat.le_of_ble_eq_true rfl) rfl ?_
                                                            refine x_goto 3323 23 dL_law_3323 rfl ?_
                                                            refine x_sub [3, 4, 5, 6, 0] _ rfl ?_
                                                            exact hr7 (u6 + (6 : Int32))
                                                          · refine x_iconst 1854 0 (0 : Int32) dL_law_1854 rfl ?_
                                                            exact x_zret 1855 hZ rfl dL_law_1855
                                                        · refine x_goto 1856 3320 dL_law_1856 rfl ?_
                                                          refine x_iinc 3320 6 [(4, .int (u6 + (6 : Int32))), (6, .int v305), (5, .int v302), (0, .ref (idc 51 0)), (1, .ref (idc 0 i1)), (2, .ref (idc 4 i3)), (3, .ref (idc 34 i5))] dL_law_3320 rfl rfl (by first | decide | exact Nat.le_of_ble_eq_true rfl) rfl ?_
                                                          refine x_goto 3323 23 dL_law_3323 rfl ?_
                                                          refine x_sub [3, 4, 5, 6, 0] _ rfl ?_
                                                          exact hr7 (u6 + (6 : Int32))
                                                      · refine x_iconst 1837 0 (0 : Int32) dL_law_1837 rfl ?_
                                                        exact x_zret 1838 hZ rfl dL_law_1838
                                                    · refine x_cnd (fun c311 => ?_) (fun c311 => ?_)
                                                      · refine x_tsw 40 1859 (25 : Int32) 25 1819 c311 rfl dL_law_40 (by first | decide | exact Nat.le_of_ble_eq_true rfl) (by first | decide | exact Nat.le_of_ble_eq_true rfl) rfl rfl ?_
                                                        refine x_aload_n 1859 1 dL_law_1859 rfl ?_
                                                        refine x_aload_n 1860 0 dL_law_1860 rfl ?_
                                                        refine x_iload 1861 4 dL_law_1861 rfl ?_
                                                        refine x_iconst 1863 1 (1 : Int32) dL_law_1863 rfl ?_
                                                        refine x_iadd 1864 dL_law_1864 ?_
                                                        refine x_sld 1865 dL_law_1865 ?_
                                                        refine x_aload_n 1866 0 dL_law_1866 rfl ?_
                                                        refine x_iload 1867 4 dL_law_1867 rfl ?_
                                                        refine x_iconst 1869 2 (2 : Int32) dL_law_1869 rfl ?_
                                                        refine x_iadd 1870 dL_law_1870 ?_
                                                        refine x_sld 1871 dL_law_1871 ?_
                                                        refine x_aload_n 1872 3 dL_law_1872 rfl ?_
                                                        refine x_cSW 1873 9 [.ref (idc 0 i1), .int (gx g (u6 + (1 : Int32)).toNatClampNeg), .int (gx g (u6 + (2 : Int32)).toNatClampNeg), .ref (idc 34 i5)] [] cs_X0_257 (im_X0_need hl (idc 0 i1) (gx g (u6 + (1 : Int32)).toNatClampNeg) (gx g (u6 + (2 : Int32)).toNatClampNeg) i5) (by exact ⟨Nat.le_of_ble_eq_true rfl, by decide⟩) rfl (Nat.le_of_ble_eq_true rfl) dL_law_1873 fun v314 => x_stI ?_
                                                        refine x_istore 1876 [(5, .int v314), (0, .ref (idc 51 0)), (1, .ref (idc 0 i1)), (2, .ref (idc 4 i3)), (3, .ref (idc 34 i5)), (4, .int u6)] dL_law_1876 (by first | decide | exact Nat.le_of_ble_eq_true rfl) rfl ?_
                                                        refine x_aload_n 1878 3 dL_law_1878 rfl ?_
                                                        refine x_aload_n 1879 1 dL_law_1879 rfl ?_
                                                        refine x_iload 1880 5 dL_law_1880 rfl ?_
                                                        refine x_iconst 1882 1 (1 : Int32) dL_law_1882 rfl ?_
                                                        refine x_iadd 1883 dL_law_1883 ?_
                                                        refine x_sld 1884 dL_law_1884 ?_
                                                        refine x_aload_n 1885 1 dL_law_1885 rfl ?_
                                                        refine x_iload 1886 5 dL_law_1886 rfl ?_
                                                        refine x_iconst 1888 2 (2 : Int32) dL_law_1888 rfl ?_
                                                        refine x_iadd 1889 dL_law_1889 ?_
                                                        refine x_sld 1890 dL_law_1890 ?_
                                                        refine x_cV 1891 2 [.int (gx g (u6 + (1 : Int32)).toNatClampNeg), .int (gx g (u6 + (2 : Int32)).toNatClampNeg)] [] ⟨by decide, rfl⟩ cv_X0_259 (im_X5_need hl i3 (gx g (u6 + (1 : Int32)).toNatClampNeg) (gx g (u6 + (2 : Int32)).toNatClampNeg)) (by exact ⟨Nat.le_of_ble_eq_true rfl, by decide⟩) rfl (Nat.le_of_ble_eq_true rfl) dL_law_1891 fun v317 => x_stI ?_
                                                        refine x_istore 1894 [(6, .int v317), (5, .int v314), (0, .ref (idc 51 0)), (1, .ref (idc 0 i1)), (2, .ref (idc 4 i3)), (3, .ref (idc 34 i5)), (4, .int u6)] dL_law_1894 (by first | decide | exact Nat.le_of_ble_eq_true rfl) rfl ?_
                                                        refine x_aload_n 1896 4 dL_law_1896 rfl ?_
                                                        refine x_cV 1897 0 [] [] ⟨by decide, rfl⟩ cv_X0_173 (im_X5_thrown hl i3) (by exact ⟨Nat.le_of_ble_eq_true rfl, by decide⟩) rfl (Nat.le_of_ble_eq_true rfl) dL_law_1897 fun v318 => x_stI ?_
                                                        refine x_iload 1900 1 dL_law_1900 rfl ?_
                                                        refine x_icmp_eq 1902 1907 dL_law_1902 rfl (fun c319 => ?_) (fun c319 => ?_)
                                                        · refine x_iload 1907 1 dL_law_1907 rfl ?_
                                                          refine x_if_ne 1909 1924 dL_law_1909 rfl (fun c320 => ?_) (fun c320 => ?_)
                                                          · refine x_aload_n 1912 5 dL_law_1912 rfl ?_
                                                            refine x_iconst 1913 0 (0 : Int32) dL_law_1913 rfl ?_
                                                            refine x_lald 1914 dL_law_1914 fun v321 => ?_
                                                            refine x_iload 1915 0 dL_law_1915 rfl ?_
                                                            refine x_i2l 1917 dL_law_1917 ?_
                                                            refine x_lcmp 1918 dL_law_1918 ?_
                                                            refine x_if_eq 1919 1924 dL_law_1919 rfl (fun c322 => ?_) (fun c322 => ?_)
                                                            · refine x_goto 1924 3320 dL_law_1924 rfl ?_
                                                              refine x_iinc 3320 6 [(4, .int (u6 + (6 : Int32))), (6, .int v317), (5, .int v314), (0, .ref (idc 51 0)), (1, .ref (idc 0 i1)), (2, .ref (idc 4 i3)), (3, .ref (idc 34 i5))] dL_law_3320 rfl rfl (by first | decide | exact Nat.le_of_ble_eq_true rfl) rfl ?_
                                                              refine x_goto 3323 23 dL_law_3323 rfl ?_
                                                              refine x_sub [3, 4, 5, 6, 0] _ rfl ?_
                                                              exact hr7 (u6 + (6 : Int32))
                                                            · refine x_iconst 1922 0 (0 : Int32) dL_law_1922 rfl ?_
                                                              exact x_zret 1923 hZ rfl dL_law_1923
                                                          · refine x_goto 1924 3320 dL_law_1924 rfl ?_
                                                            refine x_iinc 3320 6 [(4, .int (u6 + (6 : Int32))), (6, .int v317), (5, .int v314), (0, .ref (idc 51 0)), (1, .ref (idc 0 i1)), (2, .ref (idc 4 i3)), (3, .ref (idc 34 i5))] dL_law_3320 rfl rfl (by first | decide | exact Nat.le_of_ble_eq_true rfl) rfl ?_
                                                            refine x_goto 3323 23 dL_law_3323 rfl ?_
                                                            refine x_sub [3, 4, 5, 6, 0] _ rfl ?_
                                                            exact hr7 (u6 + (6 : Int32))
                                                        · refine x_iconst 1905 0 (0 : Int32) dL_law_1905 rfl ?_
                                                          exact x_zret 1906 hZ rfl dL_law_1906
                                                      · refine x_cnd (fun c323 => ?_) (fun c323 => ?_)
                                                        · refine x_tsw 40 1927 (26 : Int32) 26 1887 c323 rfl dL_law_40 (by first | decide | exact Nat.le_of_ble_eq_true rfl) (by first | decide | exact Nat.le_of_ble_eq_true rfl) rfl rfl ?_
                                                          refine x_aload_n 1927 1 dL_law_1927 rfl ?_
                                                          refine x_aload_n 1928 0 dL_law_1928 rfl ?_
                                                          refine x_iload 1929 4 dL_law_1929 rfl ?_
                                                          refine x_iconst 1931 1 (1 : Int32) dL_law_1931 rfl ?_
                                                          refine x_iadd 1932 dL_law_1932 ?_
                                                          refine x_sld 1933 dL_law_1933 ?_
                                                          refine x_aload_n 1934 0 dL_law_1934 rfl ?_
                                                          refine x_iload 1935 4 dL_law_1935 rfl ?_
                                                          refine x_iconst 1937 2 (2 : Int32) dL_law_1937 rfl ?_
                                                          refine x_iadd 1938 dL_law_1938 ?_
                                                          refine x_sld 1939 dL_law_1939 ?_
                                                          refine x_aload_n 1940 0 dL_law_1940 rfl ?_
                                                          refine x_iload 1941 4 dL_law_1941 rfl ?_
                                                          refine x_iconst 1943 3 (3 : Int32) dL_law_1943 rfl ?_
                                                          refine x_iadd 1944 dL_law_1944 ?_
                                                          refine x_sld 1945 dL_law_1945 ?_
                                                          refine x_aload_n 1946 0 dL_law_1946 rfl ?_
                                                          refine x_iload 1947 4 dL_law_1947 rfl ?_
                                                          refine x_iconst 1949 4 (4 : Int32) dL_law_1949 rfl ?_
                                                          refine x_iadd 1950 dL_law_1950 ?_
                                                          refine x_sld 1951 dL_law_1951 ?_
                                                          refine x_aload_n 1952 3 dL_law_1952 rfl ?_
                                                          refine x_cSW 1953 9 [.ref (idc 0 i1), .int (gx g (u6 + (1 : Int32)).toNatClampNeg), .int (gx g (u6 + (2 : Int32)).toNatClampNeg), .int (gx g (u6 + (3 : Int32)).toNatClampNeg), .int (gx g (u6 + (4 : Int32)).toNatClampNeg), .ref (idc 34 i5)] [] cs_X0_260 (im_X0_authorize hl (idc 0 i1) (gx g (u6 + (1 : Int32)).toNatClampNeg) (gx g (u6 + (2 : Int32)).toNatClampNeg) (gx g (u6 + (3 : Int32)).toNatClampNeg) (gx g (u6 + (4 : Int32)).toNatClampNeg) i5) (by exact ⟨Nat.le_of_ble_eq_true rfl, by decide⟩) rfl (Nat.le_of_ble_eq_true rfl) dL_law_1953 fun v328 => x_stI ?_
                                                          refine x_istore 1956 [(5, .int v328), (0, .ref (idc 51 0)), (1, .ref (idc 0 i1)), (2, .ref (idc 4 i3)), (3, .ref (idc 34 i5)), (4, .int u6)] dL_law_1956 (by first | decide | exact Nat.le_of_ble_eq_true rfl) rfl ?_
                                                          refine x_aload_n 1958 3 dL_law_1958 rfl ?_
                                                          refine x_aload_n 1959 1 dL_law_1959 rfl ?_
                                                          refine x_iload 1960 5 dL_law_1960 rfl ?_
                                                          refine x_iconst 1962 1 (1 : Int32) dL_law_1962 rfl ?_
                                                          refine x_iadd 1963 dL_law_1963 ?_
                                                          refine x_sld 1964 dL_law_1964 ?_
                                                          refine x_aload_n 1965 1 dL_law_1965 rfl ?_
                                                          refine x_iload 1966 5 dL_law_1966 rfl ?_
                                                          refine x_iconst 1968 2 (2 : Int32) dL_law_1968 rfl ?_
                                                          refine x_iadd 1969 dL_law_1969 ?_
                                                          refine x_sld 1970 dL_law_1970 ?_
                                                          refine x_aload_n 1971 1 dL_law_1971 rfl ?_
                                                          refine x_iload 1972 5 dL_law_1972 rfl ?_
                                                          refine x_iconst 1974 3 (3 : Int32) dL_law_1974 rfl ?_
                                                          refine x_iadd 1975 dL_law_1975 ?_
                                                          refine x_sld 1976 dL_law_1976 ?_
                                                          refine x_aload_n 1977 1 dL_law_1977 rfl ?_
                                                          refine x_iload 1978 5 dL_law_1978 rfl ?_
                                                          refine x_iconst 1980 4 (4 : Int32) dL_law_1980 rfl ?_
                                                          refine x_iadd 1981 dL_law_1981 ?_
                                                          refine x_sld 1982 dL_law_1982 ?_
                                                          refine x_cV 1983 2 [.int (gx g (u6 + (1 : Int32)).toNatClampNeg), .int (gx g (u6 + (2 : Int32)).toNatClampNeg), .int (gx g (u6 + (3 : Int32)).toNatClampNeg), .int (gx g (u6 + (4 : Int32)).toNatClampNeg)] [] ⟨by decide, rfl⟩ cv_X0_263 (im_X5_authorize hl i3 (gx g (u6 + (1 : Int32)).toNatClampNeg) (gx g (u6 + (2 : Int32)).toNatClampNeg) (gx g (u6 + (3 : Int32)).toNatClampNeg) (gx g (u6 + (4 : Int32)).toNatClampNeg)) (by exact ⟨Nat.le_of_ble_eq_true rfl, by decide⟩) rfl (Nat.le_of_ble_eq_true rfl) dL_law_1983 fun v333 => x_stI ?_
                                                          refine x_istore 1986 [(6, .int v333), (5, .int v328), (0, .ref (idc 51 0)), (1, .ref (idc 0 i1)), (2, .ref (idc 4 i3)), (3, .ref (idc 34 i5)), (4, .int u6)] dL_law_1986 (by first | decide | exact Nat.le_of_ble_eq_true rfl) rfl ?_
                                                          refine x_aload_n 1988 4 dL_law_1988 rfl ?_
                                                          refine x_cV 1989 0 [] [] ⟨by decide, rfl⟩ cv_X0_173 (im_X5_thrown hl i3) (by exact ⟨Nat.le_of_ble_eq_true rfl, by decide⟩) rfl (Nat.le_of_ble_eq_true rfl) dL_law_1989 fun v334 => x_stI ?_
                                                          refine x_iload 1992 1 dL_law_1992 rfl ?_
                                                          refine x_icmp_eq 1994 1999 dL_law_1994 rfl (fun c335 => ?_) (fun c335 => ?_)
                                                          · refine x_iload 1999 1 dL_law_1999 rfl ?_
                                                            refine x_if_ne 2001 2016 dL_law_2001 rfl (fun c336 => ?_) (fun c336 => ?_)
                                                            · refine x_aload_n 2004 5 dL_law_2004 rfl ?_
                                                              refine x_iconst 2005 0 (0 : Int32) dL_law_2005 rfl ?_
                                                              refine x_lald 2006 dL_law_2006 fun v337 => ?_
                                                              refine x_iload 2007 0 dL_law_2007 rfl ?_
                                                              refine x_i2l 2009 dL_law_2009 ?_
                                                              refine x_lcmp 2010 dL_law_2010 ?_
                                                              refine x_if_eq 2011 2016 dL_law_2011 rfl (fun c338 => ?_) (fun c338 => ?_)
                                                              · refine x_goto 2016 3320 dL_law_2016 rfl ?_
                                                                refine x_iinc 3320 6 [(4, .int (u6 + (6 : Int32))), (6, .int v333), (5, .int v328), (0, .ref (idc 51 0)), (1, .ref (idc 0 i1)), (2, .ref (idc 4 i3)), (3, .ref (idc 34 i5))] dL_law_3320 rfl rfl (by first | decide | exact Nat.le_of_ble_eq_true rfl) rfl ?_
                                                                refine x_goto 3323 23 dL_law_3323 rfl ?_
                                                                refine x_sub [3, 4, 5, 6, 0] _ rfl ?_
                                                                exact hr7 (u6 + (6 : Int32))
                                                              · refine x_iconst 2014 0 (0 : Int32) dL_law_2014 rfl ?_
                                                                exact x_zret 2015 hZ rfl dL_law_2015
                                                            · refine x_goto 2016 3320 dL_law_2016 rfl ?_
                                                              refine x_iinc 3320 6 [(4, .int (u6 + (6 : Int32))), (6, .int v333), (5, .int v328), (0, .ref (idc 51 0)), (1, .ref (idc 0 i1)), (2, .ref (idc 4 i3)), (3, .ref (idc 34 i5))] dL_law_3320 rfl rfl (by first | decide | exact Nat.le_of_ble_eq_true rfl) rfl ?_
                                                              refine x_goto 3323 23 dL_law_3323 rfl ?_
                                                              refine x_sub [3, 4, 5, 6, 0] _ rfl ?_
                                                              exact hr7 (u6 + (6 : Int32))
                                                          · refine x_iconst 1997 0 (0 : Int32) dL_law_1997 rfl ?_
                                                            exact x_zret 1998 hZ rfl dL_law_1998
                                                        · refine x_cnd (fun c339 => ?_) (fun c339 => ?_)
                                                          · refine x_tsw 40 2019 (27 : Int32) 27 1979 c339 rfl dL_law_40 (by first | decide | exact Nat.le_of_ble_eq_true rfl) (by first | decide | exact Nat.le_of_ble_eq_true rfl) rfl rfl ?_
                                                            refine x_aload_n 2019 1 dL_law_2019 rfl ?_
                                                            refine x_aload_n 2020 0 dL_law_2020 rfl ?_
                                                            refine x_iload 2021 4 dL_law_2021 rfl ?_
                                                            refine x_iconst 2023 1 (1 : Int32) dL_law_2023 rfl ?_
                                                            refine x_iadd 2024 dL_law_2024 ?_
                                                            refine x_sld 2025 dL_law_2025 ?_
                                                            refine x_aload_n 2026 3 dL_law_2026 rfl ?_
                                                            refine x_cSW 2027 10 [.ref (idc 0 i1), .int (gx g (u6 + (1 : Int32)).toNatClampNeg), .ref (idc 34 i5)] [] cs_X0_264 (im_X0_redeem hl (idc 0 i1) (gx g (u6 + (1 : Int32)).toNatClampNeg) i5) (by exact ⟨Nat.le_of_ble_eq_true rfl, by decide⟩) rfl (Nat.le_of_ble_eq_true rfl) dL_law_2027 fun v341 => x_stI ?_
                                                            refine x_istore 2030 [(5, .int v341), (0, .ref (idc 51 0)), (1, .ref (idc 0 i1)), (2, .ref (idc 4 i3)), (3, .ref (idc 34 i5)), (4, .int u6)] dL_law_2030 (by first | decide | exact Nat.le_of_ble_eq_true rfl) rfl ?_
                                                            refine x_aload_n 2032 3 dL_law_2032 rfl ?_
                                                            refine x_aload_n 2033 1 dL_law_2033 rfl ?_
                                                            refine x_iload 2034 5 dL_law_2034 rfl ?_
                                                            refine x_iconst 2036 1 (1 : Int32) dL_law_2036 rfl ?_
                                                            refine x_iadd 2037 dL_law_2037 ?_
                                                            refine x_sld 2038 dL_law_2038 ?_
                                                            refine x_cV 2039 2 [.int (gx g (u6 + (1 : Int32)).toNatClampNeg)] [] ⟨by decide, rfl⟩ cv_X0_266 (im_X5_redeem hl i3 (gx g (u6 + (1 : Int32)).toNatClampNeg)) (by exact ⟨Nat.le_of_ble_eq_true rfl, by decide⟩) rfl (Nat.le_of_ble_eq_true rfl) dL_law_2039 fun v343 => x_stI ?_
                                                            refine x_istore 2042 [(6, .int v343), (5, .int v341), (0, .ref (idc 51 0)), (1, .ref (idc 0 i1)), (2, .ref (idc 4 i3)), (3, .ref (idc 34 i5)), (4, .int u6)] dL_law_2042 (by first | decide | exact Nat.le_of_ble_eq_true rfl) rfl ?_
                                                            refine x_aload_n 2044 4 dL_law_2044 rfl ?_
                                                            refine x_cV 2045 0 [] [] ⟨by decide, rfl⟩ cv_X0_173 (im_X5_thrown hl i3) (by exact ⟨Nat.le_of_ble_eq_true rfl, by decide⟩) rfl (Nat.le_of_ble_eq_true rfl) dL_law_2045 fun v344 => x_stI ?_
                                                            refine x_iload 2048 1 dL_law_2048 rfl ?_
                                                            refine x_icmp_eq 2050 2055 dL_law_2050 rfl (fun c345 => ?_) (fun c345 => ?_)
                                                            · refine x_iload 2055 1 dL_law_2055 rfl ?_
                                                              refine x_if_ne 2057 2072 dL_law_2057 rfl (fun c346 => ?_) (fun c346 => ?_)
                                                              · refine x_aload_n 2060 5 dL_law_2060 rfl ?_
                                                                refine x_iconst 2061 0 (0 : Int32) dL_law_2061 rfl ?_
                                                                refine x_lald 2062 dL_law_2062 fun v347 => ?_
                                                                refine x_iload 2063 0 dL_law_2063 rfl ?_
                                                                refine x_i2l 2065 dL_law_2065 ?_
                                                                refine x_lcmp 2066 dL_law_2066 ?_
                                                                refine x_if_eq 2067 2072 dL_law_2067 rfl (fun c348 => ?_) (fun c348 => ?_)
                                                                · refine x_goto 2072 3320 dL_law_2072 rfl ?_
                                                                  refine x_iinc 3320 6 [(4, .int (u6 + (6 : Int32))), (6, .int v343), (5, .int v341), (0, .ref (idc 51 0)), (1, .ref (idc 0 i1)), (2, .ref (idc 4 i3)), (3, .ref (idc 34 i5))] dL_law_3320 rfl rfl (by first | decide | exact Nat.le_of_ble_eq_true rfl) rfl ?_
                                                                  refine x_goto 3323 23 dL_law_3323 rfl ?_
                                                                  refine x_sub [3, 4, 5, 6, 0] _ rfl ?_
                                                                  exact hr7 (u6 + (6 : Int32))
                                                                · refine x_iconst 2070 0 (0 : Int32) dL_law_2070 rfl ?_
                                                                  exact x_zret 2071 hZ rfl dL_law_2071
                                                              · refine x_goto 2072 3320 dL_law_2072 rfl ?_
                                                                refine x_iinc 3320 6 [(4, .int (u6 + (6 : Int32))), (6, .int v343), (5, .int v341), (0, .ref (idc 51 0)), (1, .ref (idc 0 i1)), (2, .ref (idc 4 i3)), (3, .ref (idc 34 i5))] dL_law_3320 rfl rfl (by first | decide | exact Nat.le_of_ble_eq_true rfl) rfl ?_
                                                                refine x_goto 3323 23 dL_law_3323 rfl ?_
                                                                refine x_sub [3, 4, 5, 6, 0] _ rfl ?_
                                                                exact hr7 (u6 + (6 : Int32))
                                                            · refine x_iconst 2053 0 (0 : Int32) dL_law_2053 rfl ?_
                                                              exact x_zret 2054 hZ rfl dL_law_2054
                                                          · refine x_cnd (fun c349 => ?_) (fun c349 => ?_)
                                                            · refine x_tsw 40 2075 (28 : Int32) 28 2035 c349 rfl dL_law_40 (by first | decide | exact Nat.le_of_ble_eq_true rfl) (by first | decide | exact Nat.le_of_ble_eq_true rfl) rfl rfl ?_
                                                              refine x_aload_n 2075 1 dL_law_2075 rfl ?_
                                                              refine x_aload_n 2076 0 dL_law_2076 rfl ?_
                                                              refine x_iload 2077 4 dL_law_2077 rfl ?_
                                                              refine x_iconst 2079 1 (1 : Int32) dL_law_2079 rfl ?_
                                                              refine x_iadd 2080 dL_law_2080 ?_
                                                              refine x_sld 2081 dL_law_2081 ?_
                                                              refine x_aload_n 2082 0 dL_law_2082 rfl ?_
                                                              refine x_iload 2083 4 dL_law_2083 rfl ?_
                                                              refine x_iconst 2085 2 (2 : Int32) dL_law_2085 rfl ?_
                                                              refine x_iadd 2086 dL_law_2086 ?_
                                                              refine x_sld 2087 dL_law_2087 ?_
                                                              refine x_aload_n 2088 3 dL_law_2088 rfl ?_
                                                              refine x_cSW 2089 11 [.ref (idc 0 i1), .int (gx g (u6 + (1 : Int32)).toNatClampNeg), .int (gx g (u6 + (2 : Int32)).toNatClampNeg), .ref (idc 34 i5)] [] cs_X0_267 (im_X0_refresh hl (idc 0 i1) (gx g (u6 + (1 : Int32)).toNatClampNeg) (gx g (u6 + (2 : Int32)).toNatClampNeg) i5) (by exact ⟨Nat.le_of_ble_eq_true rfl, by decide⟩) rfl (Nat.le_of_ble_eq_true rfl) dL_law_2089 fun v352 => x_stI ?_
                                                              refine x_istore 2092 [(5, .int v352), (0, .ref (idc 51 0)), (1, .ref (idc 0 i1)), (2, .ref (idc 4 i3)), (3, .ref (idc 34 i5)), (4, .int u6)] dL_law_2092 (by first | decide | exact Nat.le_of_ble_eq_true rfl) rfl ?_
                                                              refine x_aload_n 2094 3 dL_law_2094 rfl ?_
                                                              refine x_aload_n 2095 1 dL_law_2095 rfl ?_
                                                              refine x_iload 2096 5 dL_law_2096 rfl ?_
                                                              refine x_iconst 2098 1 (1 : Int32) dL_law_2098 rfl ?_
                                                              refine x_iadd 2099 dL_law_2099 ?_
                                                              refine x_sld 2100 dL_law_2100 ?_
                                                              refine x_aload_n 2101 1 dL_law_2101 rfl ?_
                                                              refine x_iload 2102 5 dL_law_2102 rfl ?_
                                                              refine x_iconst 2104 2 (2 : Int32) dL_law_2104 rfl ?_
                                                              refine x_iadd 2105 dL_law_2105 ?_
                                                              refine x_sld 2106 dL_law_2106 ?_
                                                              refine x_cV 2107 2 [.int (gx g (u6 + (1 : Int32)).toNatClampNeg), .int (gx g (u6 + (2 : Int32)).toNatClampNeg)] [] ⟨by decide, rfl⟩ cv_X0_269 (im_X5_refresh hl i3 (gx g (u6 + (1 : Int32)).toNatClampNeg) (gx g (u6 + (2 : Int32)).toNatClampNeg)) (by exact ⟨Nat.le_of_ble_eq_true rfl, by decide⟩) rfl (Nat.le_of_ble_eq_true rfl) dL_law_2107 fun v355 => x_stI ?_
                                                              refine x_istore 2110 [(6, .int v355), (5, .int v352), (0, .ref (idc 51 0)), (1, .ref (idc 0 i1)), (2, .ref (idc 4 i3)), (3, .ref (idc 34 i5)), (4, .int u6)] dL_law_2110 (by first | decide | exact Nat.le_of_ble_eq_true rfl) rfl ?_
                                                              refine x_aload_n 2112 4 dL_law_2112 rfl ?_
                                                              refine x_cV 2113 0 [] [] ⟨by decide, rfl⟩ cv_X0_173 (im_X5_thrown hl i3) (by exact ⟨Nat.le_of_ble_eq_true rfl, by decide⟩) rfl (Nat.le_of_ble_eq_true rfl) dL_law_2113 fun v356 => x_stI ?_
                                                              refine x_iload 2116 1 dL_law_2116 rfl ?_
                                                              refine x_icmp_eq 2118 2123 dL_law_2118 rfl (fun c357 => ?_) (fun c357 => ?_)
                                                              · refine x_iload 2123 1 dL_law_2123 rfl ?_
                                                                refine x_if_ne 2125 2140 dL_law_2125 rfl (fun c358 => ?_) (fun c358 => ?_)
                                                                · refine x_aload_n 2128 5 dL_law_2128 rfl ?_
                                                                  refine x_iconst 2129 0 (0 : Int32) dL_law_2129 rfl ?_
                                                                  refine x_lald 2130 dL_law_2130 fun v359 => ?_
                                                                  refine x_iload 2131 0 dL_law_2131 rfl ?_
                                                                  refine x_i2l 2133 dL_law_2133 ?_
                                                                  refine x_lcmp 2134 dL_law_2134 ?_
                                                                  refine x_if_eq 2135 2140 dL_law_2135 rfl (fun c360 => ?_) (fun c360 => ?_)
                                                                  · refine x_goto 2140 3320 dL_law_2140 rfl ?_
                                                                    refine x_iinc 3320 6 [(4, .int (u6 + (6 : Int32))), (6, .int v355), (5, .int v352), (0, .ref (idc 51 0)), (1, .ref (idc 0 i1)), (2, .ref (idc 4 i3)), (3, .ref (idc 34 i5))] dL_law_3320 rfl rfl (by first | decide | exact Nat.le_of_ble_eq_true rfl) rfl ?_
                                                                    refine x_goto 3323 23 dL_law_3323 rfl ?_
                                                                    refine x_sub [3, 4, 5, 6, 0] _ rfl ?_
                                                                    exact hr7 (u6 + (6 : Int32))
                                                                  · refine x_iconst 2138 0 (0 : Int32) dL_law_2138 rfl ?_
                                                                    exact x_zret 2139 hZ rfl dL_law_2139
                                                                · refine x_goto 2140 3320 dL_law_2140 rfl ?_
                                                                  refine x_iinc 3320 6 [(4, .int (u6 + (6 : Int32))), (6, .int v355), (5, .int v352), (0, .ref (idc 51 0)), (1, .ref (idc 0 i1)), (2, .ref (idc 4 i3)), (3, .ref (idc 34 i5))] dL_law_3320 rfl rfl (by first | decide | exact Nat.le_of_ble_eq_true rfl) rfl ?_
                                                                  refine x_goto 3323 23 dL_law_3323 rfl ?_
                                                                  refine x_sub [3, 4, 5, 6, 0] _ rfl ?_
                                                                  exact hr7 (u6 + (6 : Int32))
                                                              · refine x_iconst 2121 0 (0 : Int32) dL_law_2121 rfl ?_
                                                                exact x_zret 2122 hZ rfl dL_law_2122
                                                            · refine x_cnd (fun c361 => ?_) (fun c361 => ?_)
                                                              · refine x_tsw 40 2143 (29 : Int32) 29 2103 c361 rfl dL_law_40 (by first | decide | exact Nat.le_of_ble_eq_true rfl) (by first | decide | exact Nat.le_of_ble_eq_true rfl) rfl rfl ?_
                                                                refine x_aload_n 2143 1 dL_law_2143 rfl ?_
                                                                refine x_aload_n 2144 0 dL_law_2144 rfl ?_
                                                                refine x_iload 2145 4 dL_law_2145 rfl ?_
                                                                refine x_iconst 2147 1 (1 : Int32) dL_law_2147 rfl ?_
                                                                refine x_iadd 2148 dL_law_2148 ?_
                                                                refine x_sld 2149 dL_law_2149 ?_
                                                                refine x_aload_n 2150 3 dL_law_2150 rfl ?_
                                                                refine x_cSW 2151 9 [.ref (idc 0 i1), .int (gx g (u6 + (1 : Int32)).toNatClampNeg), .ref (idc 34 i5)] [] cs_X0_270 (im_X0_isGood hl (idc 0 i1) (gx g (u6 + (1 : Int32)).toNatClampNeg) i5) (by exact ⟨Nat.le_of_ble_eq_true rfl, by decide⟩) rfl (Nat.le_of_ble_eq_true rfl) dL_law_2151 fun v363 => x_stI ?_
                                                                refine x_istore 2154 [(5, .int v363), (0, .ref (idc 51 0)), (1, .ref (idc 0 i1)), (2, .ref (idc 4 i3)), (3, .ref (idc 34 i5)), (4, .int u6)] dL_law_2154 (by first | decide | exact Nat.le_of_ble_eq_true rfl) rfl ?_
                                                                refine x_aload_n 2156 3 dL_law_2156 rfl ?_
                                                                refine x_aload_n 2157 1 dL_law_2157 rfl ?_
                                                                refine x_iload 2158 5 dL_law_2158 rfl ?_
                                                                refine x_iconst 2160 1 (1 : Int32) dL_law_2160 rfl ?_
                                                                refine x_iadd 2161 dL_law_2161 ?_
                                                                refine x_sld 2162 dL_law_2162 ?_
                                                                refine x_cV 2163 2 [.int (gx g (u6 + (1 : Int32)).toNatClampNeg)] [] ⟨by decide, rfl⟩ cv_X0_272 (im_X5_isGood hl i3 (gx g (u6 + (1 : Int32)).toNatClampNeg)) (by exact ⟨Nat.le_of_ble_eq_true rfl, by decide⟩) rfl (Nat.le_of_ble_eq_true rfl) dL_law_2163 fun v365 => x_stI ?_
                                                                refine x_istore 2166 [(6, .int v365), (5, .int v363), (0, .ref (idc 51 0)), (1, .ref (idc 0 i1)), (2, .ref (idc 4 i3)), (3, .ref (idc 34 i5)), (4, .int u6)] dL_law_2166 (by first | decide | exact Nat.le_of_ble_eq_true rfl) rfl ?_
                                                                refine x_aload_n 2168 4 dL_law_2168 rfl ?_
                                                                refine x_cV 2169 0 [] [] ⟨by decide, rfl⟩ cv_X0_173 (im_X5_thrown hl i3) (by exact ⟨Nat.le_of_ble_eq_true rfl, by decide⟩) rfl (Nat.le_of_ble_eq_true rfl) dL_law_2169 fun v366 => x_stI ?_
                                                                refine x_iload 2172 1 dL_law_2172 rfl ?_
                                                                refine x_icmp_eq 2174 2179 dL_law_2174 rfl (fun c367 => ?_) (fun c367 => ?_)
                                                                · refine x_iload 2179 1 dL_law_2179 rfl ?_
                                                                  refine x_if_ne 2181 2203 dL_law_2181 rfl (fun c368 => ?_) (fun c368 => ?_)
                                                                  · refine x_aload_n 2184 5 dL_law_2184 rfl ?_
                                                                    refine x_iconst 2185 0 (0 : Int32) dL_law_2185 rfl ?_
                                                                    refine x_lald 2186 dL_law_2186 fun v369 => ?_
                                                                    refine x_iload 2187 0 dL_law_2187 rfl ?_
                                                                    refine x_bndj 2197 (fun u370 => [(0, .ref (idc 51 0)), (1, .ref (idc 0 i1)), (2, .ref (idc 4 i3)), (3, .ref (idc 34 i5)), (4, .int u6)]) (fun u370 => [.long u370, .long v369]) (fun u370 => ?_) (fun hj372 => ?_)
                                                                    · show TX g Γ _ Z _ 2197 [(0, .ref (idc 51 0)), (1, .ref (idc 0 i1)), (2, .ref (idc 4 i3)), (3, .ref (idc 34 i5)), (4, .int u6)] [.long u370, .long v369] _
                                                                      refine x_lcmp 2197 dL_law_2197 ?_
                                                                      refine x_if_eq 2198 2203 dL_law_2198 rfl (fun c371 => ?_) (fun c371 => ?_)
                                                                      · refine x_goto 2203 3320 dL_law_2203 rfl ?_
                                                                        refine x_iinc 3320 4 [(4, .int (u6 + (6 : Int32))), (0, .ref (idc 51 0)), (1, .ref (idc 0 i1)), (2, .ref (idc 4 i3)), (3, .ref (idc 34 i5))] dL_law_3320 rfl rfl (by first | decide | exact Nat.le_of_ble_eq_true rfl) rfl ?_
                                                                        refine x_goto 3323 23 dL_law_3323 rfl ?_
                                                                        refine x_sub [1, 2, 3, 4, 0] _ rfl ?_
                                                                        exact hr7 (u6 + (6 : Int32))
                                                                      · refine x_iconst 2201 0 (0 : Int32) dL_law_2201 rfl ?_
                                                                        exact x_zret 2202 hZ rfl dL_law_2202
                                                                    · refine x_if_eq 2189 2196 dL_law_2189 rfl (fun c373 => ?_) (fun c373 => ?_)
                                                                      · refine x_lconst 2196 0 (0 : Int64) dL_law_2196 rfl ?_
                                                                        refine x_sub [2, 3, 4, 5, 6] _ rfl ?_
                                                                        exact hj372 (0 : Int64)
                                                                      · refine x_lconst 2192 1 (1 : Int64) dL_law_2192 rfl ?_
                                                                        refine x_goto 2193 2197 dL_law_2193 rfl ?_
                                                                        refine x_sub [2, 3, 4, 5, 6] _ rfl ?_
                                                                        exact hj372 (1 : Int64)
                                                                  · refine x_goto 2203 3320 dL_law_2203 rfl ?_
                                                                    refine x_iinc 3320 6 [(4, .int (u6 + (6 : Int32))), (6, .int v365), (5, .int v363), (0, .ref (idc 51 0)), (1, .ref (idc 0 i1)), (2, .ref (idc 4 i3)), (3, .ref (idc 34 i5))] dL_law_3320 rfl rfl (by first | decide | exact Nat.le_of_ble_eq_true rfl) rfl ?_
                                                                    refine x_goto 3323 23 dL_law_3323 rfl ?_
                                                                    refine x_sub [3, 4, 5, 6, 0] _ rfl ?_
                                                                    exact hr7 (u6 + (6 : Int32))
                                                                · refine x_iconst 2177 0 (0 : Int32) dL_law_2177 rfl ?_
                                                                  exact x_zret 2178 hZ rfl dL_law_2178
                                                              · refine x_cnd (fun c374 => ?_) (fun c374 => ?_)
                                                                · refine x_tsw 40 2206 (30 : Int32) 30 2166 c374 rfl dL_law_40 (by first | decide | exact Nat.le_of_ble_eq_true rfl) (by first | decide | exact Nat.le_of_ble_eq_true rfl) rfl rfl ?_
                                                                  refine x_aload_n 2206 1 dL_law_2206 rfl ?_
                                                                  refine x_aload_n 2207 0 dL_law_2207 rfl ?_
                                                                  refine x_iload 2208 4 dL_law_2208 rfl ?_
                                                                  refine x_iconst 2210 1 (1 : Int32) dL_law_2210 rfl ?_
                                                                  refine x_iadd 2211 dL_law_2211 ?_
                                                                  refine x_sld 2212 dL_law_2212 ?_
                                                                  refine x_aload_n 2213 3 dL_law_2213 rfl ?_
                                                                  refine x_cSW 2214 9 [.ref (idc 0 i1), .int (gx g (u6 + (1 : Int32)).toNatClampNeg), .ref (idc 34 i5)] [] cs_X0_273 (im_X0_tokenOf hl (idc 0 i1) (gx g (u6 + (1 : Int32)).toNatClampNeg) i5) (by exact ⟨Nat.le_of_ble_eq_true rfl, by decide⟩) rfl (Nat.le_of_ble_eq_true rfl) dL_law_2214 fun v376 => x_stI ?_
                                                                  refine x_istore 2217 [(5, .int v376), (0, .ref (idc 51 0)), (1, .ref (idc 0 i1)), (2, .ref (idc 4 i3)), (3, .ref (idc 34 i5)), (4, .int u6)] dL_law_2217 (by first | decide | exact Nat.le_of_ble_eq_true rfl) rfl ?_
                                                                  refine x_aload_n 2219 3 dL_law_2219 rfl ?_
                                                                  refine x_aload_n 2220 1 dL_law_2220 rfl ?_
                                                                  refine x_iload 2221 5 dL_law_2221 rfl ?_
                                                                  refine x_iconst 2223 1 (1 : Int32) dL_law_2223 rfl ?_
                                                                  refine x_iadd 2224 dL_law_2224 ?_
                                                                  refine x_sld 2225 dL_law_2225 ?_
                                                                  refine x_cV 2226 2 [.int (gx g (u6 + (1 : Int32)).toNatClampNeg)] [] ⟨by decide, rfl⟩ cv_X0_275 (im_X5_tokenOf hl i3 (gx g (u6 + (1 : Int32)).toNatClampNeg)) (by exact ⟨Nat.le_of_ble_eq_true rfl, by decide⟩) rfl (Nat.le_of_ble_eq_true rfl) dL_law_2226 fun v378 => x_stI ?_
                                                                  refine x_istore 2229 [(6, .int v378), (5, .int v376), (0, .ref (idc 51 0)), (1, .ref (idc 0 i1)), (2, .ref (idc 4 i3)), (3, .ref (idc 34 i5)), (4, .int u6)] dL_law_2229 (by first | decide | exact Nat.le_of_ble_eq_true rfl) rfl ?_
                                                                  refine x_aload_n 2231 4 dL_law_2231 rfl ?_
                                                                  refine x_cV 2232 0 [] [] ⟨by decide, rfl⟩ cv_X0_173 (im_X5_thrown hl i3) (by exact ⟨Nat.le_of_ble_eq_true rfl, by decide⟩) rfl (Nat.le_of_ble_eq_true rfl) dL_law_2232 fun v379 => x_stI ?_
                                                                  refine x_iload 2235 1 dL_law_2235 rfl ?_
                                                                  refine x_icmp_eq 2237 2242 dL_law_2237 rfl (fun c380 => ?_) (fun c380 => ?_)
                                                                  · refine x_iload 2242 1 dL_law_2242 rfl ?_
                                                                    refine x_if_ne 2244 2259 dL_law_2244 rfl (fun c381 => ?_) (fun c381 => ?_)
                                                                    · refine x_aload_n 2247 5 dL_law_2247 rfl ?_
                                                                      refine x_iconst 2248 0 (0 : Int32) dL_law_2248 rfl ?_
                                                                      refine x_lald 2249 dL_law_2249 fun v382 => ?_
                                                                      refine x_iload 2250 0 dL_law_2250 rfl ?_
                                                                      refine x_i2l 2252 dL_law_2252 ?_
                                                                      refine x_lcmp 2253 dL_law_2253 ?_
                                                                      refine x_if_eq 2254 2259 dL_law_2254 rfl (fun c383 => ?_) (fun c383 => ?_)
                                                                      · refine x_goto 2259 3320 dL_law_2259 rfl ?_
                                                                        refine x_iinc 3320 6 [(4, .int (u6 + (6 : Int32))), (6, .int v378), (5, .int v376), (0, .ref (idc 51 0)), (1, .ref (idc 0 i1)), (2, .ref (idc 4 i3)), (3, .ref (idc 34 i5))] dL_law_3320 rfl rfl (by first | decide | exact Nat.le_of_ble_eq_true rfl) rfl ?_
                                                                        refine x_goto 3323 23 dL_law_3323 rfl ?_
                                                                        refine x_sub [3, 4, 5, 6, 0] _ rfl ?_
                                                                        exact hr7 (u6 + (6 : Int32))
                                                                      · refine x_iconst 2257 0 (0 : Int32) dL_law_2257 rfl ?_
                                                                        exact x_zret 2258 hZ rfl dL_law_2258
                                                                    · refine x_goto 2259 3320 dL_law_2259 rfl ?_
                                                                      refine x_iinc 3320 6 [(4, .int (u6 + (6 : Int32))), (6, .int v378), (5, .int v376), (0, .ref (idc 51 0)), (1, .ref (idc 0 i1)), (2, .ref (idc 4 i3)), (3, .ref (idc 34 i5))] dL_law_3320 rfl rfl (by first | decide | exact Nat.le_of_ble_eq_true rfl) rfl ?_
                                                                      refine x_goto 3323 23 dL_law_3323 rfl ?_
                                                                      refine x_sub [3, 4, 5, 6, 0] _ rfl ?_
                                                                      exact hr7 (u6 + (6 : Int32))
                                                                  · refine x_iconst 2240 0 (0 : Int32) dL_law_2240 rfl ?_
                                                                    exact x_zret 2241 hZ rfl dL_law_2241
                                                                · refine x_cnd (fun c384 => ?_) (fun c384 => ?_)
                                                                  · refine x_tsw 40 2262 (31 : Int32) 31 2222 c384 rfl dL_law_40 (by first | decide | exact Nat.le_of_ble_eq_true rfl) (by first | decide | exact Nat.le_of_ble_eq_true rfl) rfl rfl ?_
                                                                    refine x_aload_n 2262 1 dL_law_2262 rfl ?_
                                                                    refine x_aload_n 2263 0 dL_law_2263 rfl ?_
                                                                    refine x_iload 2264 4 dL_law_2264 rfl ?_
                                                                    refine x_iconst 2266 1 (1 : Int32) dL_law_2266 rfl ?_
                                                                    refine x_iadd 2267 dL_law_2267 ?_
                                                                    refine x_sld 2268 dL_law_2268 ?_
                                                                    refine x_aload_n 2269 0 dL_law_2269 rfl ?_
                                                                    refine x_iload 2270 4 dL_law_2270 rfl ?_
                                                                    refine x_iconst 2272 2 (2 : Int32) dL_law_2272 rfl ?_
                                                                    refine x_iadd 2273 dL_law_2273 ?_
                                                                    refine x_sld 2274 dL_law_2274 ?_
                                                                    refine x_aload_n 2275 0 dL_law_2275 rfl ?_
                                                                    refine x_iload 2276 4 dL_law_2276 rfl ?_
                                                                    refine x_iconst 2278 3 (3 : Int32) dL_law_2278 rfl ?_
                                                                    refine x_iadd 2279 dL_law_2279 ?_
                                                                    refine x_sld 2280 dL_law_2280 ?_
                                                                    refine x_aload_n 2281 3 dL_law_2281 rfl ?_
                                                                    refine x_cSW 2282 9 [.ref (idc 0 i1), .int (gx g (u6 + (1 : Int32)).toNatClampNeg), .int (gx g (u6 + (2 : Int32)).toNatClampNeg), .int (gx g (u6 + (3 : Int32)).toNatClampNeg), .ref (idc 34 i5)] [] cs_X0_276 (im_X0_exchange hl (idc 0 i1) (gx g (u6 + (1 : Int32)).toNatClampNeg) (gx g (u6 + (2 : Int32)).toNatClampNeg) (gx g (u6 + (3 : Int32)).toNatClampNeg) i5) (by exact ⟨Nat.le_of_ble_eq_true rfl, by decide⟩) rfl (Nat.le_of_ble_eq_true rfl) dL_law_2282 fun v388 => x_stI ?_
                                                                    refine x_istore 2285 [(5, .int v388), (0, .ref (idc 51 0)), (1, .ref (idc 0 i1)), (2, .ref (idc 4 i3)), (3, .ref (idc 34 i5)), (4, .int u6)] dL_law_2285 (by first | decide | exact Nat.le_of_ble_eq_true rfl) rfl ?_
                                                                    refine x_aload_n 2287 3 dL_law_2287 rfl ?_
                                                                    refine x_aload_n 2288 1 dL_law_2288 rfl ?_
                                                                    refine x_iload 2289 5 dL_law_2289 rfl ?_
                                                                    refine x_iconst 2291 1 (1 : Int32) dL_law_2291 rfl ?_
                                                                    refine x_iadd 2292 dL_law_2292 ?_
                                                                    refine x_sld 2293 dL_law_2293 ?_
                                                                    refine x_aload_n 2294 1 dL_law_2294 rfl ?_
                                                                    refine x_iload 2295 5 dL_law_2295 rfl ?_
                                                                    refine x_iconst 2297 2 (2 : Int32) dL_law_2297 rfl ?_
                                                                    refine x_iadd 2298 dL_law_2298 ?_
                                                                    refine x_sld 2299 dL_law_2299 ?_
                                                                    refine x_aload_n 2300 1 dL_law_2300 rfl ?_
                                                                    refine x_iload 2301 5 dL_law_2301 rfl ?_
                                                                    refine x_iconst 2303 3 (3 : Int32) dL_law_2303 rfl ?_
                                                                    refine x_iadd 2304 dL_law_2304 ?_
                                                                    refine x_sld 2305 dL_law_2305 ?_
                                                                    refine x_cV 2306 2 [.int (gx g (u6 + (1 : Int32)).toNatClampNeg), .int (gx g (u6 + (2 : Int32)).toNatClampNeg), .int (gx g (u6 + (3 : Int32)).toNatClampNeg)] [] ⟨by decide, rfl⟩ cv_X0_278 (im_X5_exchange hl i3 (gx g (u6 + (1 : Int32)).toNatClampNeg) (gx g (u6 + (2 : Int32)).toNatClampNeg) (gx g (u6 + (3 : Int32)).toNatClampNeg)) (by exact ⟨Nat.le_of_ble_eq_true rfl, by decide⟩) rfl (Nat.le_of_ble_eq_true rfl) dL_law_2306 fun v392 => x_stI ?_
                                                                    refine x_istore 2309 [(6, .int v392), (5, .int v388), (0, .ref (idc 51 0)), (1, .ref (idc 0 i1)), (2, .ref (idc 4 i3)), (3, .ref (idc 34 i5)), (4, .int u6)] dL_law_2309 (by first | decide | exact Nat.le_of_ble_eq_true rfl) rfl ?_
                                                                    refine x_aload_n 2311 4 dL_law_2311 rfl ?_
                                                                    refine x_cV 2312 0 [] [] ⟨by decide, rfl⟩ cv_X0_173 (im_X5_thrown hl i3) (by exact ⟨Nat.le_of_ble_eq_true rfl, by decide⟩) rfl (Nat.le_of_ble_eq_true rfl) dL_law_2312 fun v393 => x_stI ?_
                                                                    refine x_iload 2315 1 dL_law_2315 rfl ?_
                                                                    refine x_icmp_eq 2317 2322 dL_law_2317 rfl (fun c394 => ?_) (fun c394 => ?_)
                                                                    · refine x_iload 2322 1 dL_law_2322 rfl ?_
                                                                      refine x_if_ne 2324 2339 dL_law_2324 rfl (fun c395 => ?_) (fun c395 => ?_)
                                                                      · refine x_aload_n 2327 5 dL_law_2327 rfl ?_
                                                                        refine x_iconst 2328 0 (0 : Int32) dL_law_2328 rfl ?_
                                                                        refine x_lald 2329 dL_law_2329 fun v396 => ?_
                                                                        refine x_iload 2330 0 dL_law_2330 rfl ?_
                                                                        refine x_i2l 2332 dL_law_2332 ?_
                                                                        refine x_lcmp 2333 dL_law_2333 ?_
                                                                        refine x_if_eq 2334 2339 dL_law_2334 rfl (fun c397 => ?_) (fun c397 => ?_)
                                                                        · refine x_goto 2339 3320 dL_law_2339 rfl ?_
                                                                          refine x_iinc 3320 6 [(4, .int (u6 + (6 : Int32))), (6, .int v392), (5, .int v388), (0, .ref (idc 51 0)), (1, .ref (idc 0 i1)), (2, .ref (idc 4 i3)), (3, .ref (idc 34 i5))] dL_law_3320 rfl rfl (by first | decide | exact Nat.le_of_ble_eq_true rfl) rfl ?_
                                                                          refine x_goto 3323 23 dL_law_3323 rfl ?_
                                                                          refine x_sub [3, 4, 5, 6, 0] _ rfl ?_
                                                                          exact hr7 (u6 + (6 : Int32))
                                                                        · refine x_iconst 2337 0 (0 : Int32) dL_law_2337 rfl ?_
                                                                          exact x_zret 2338 hZ rfl dL_law_2338
                                                                      · refine x_goto 2339 3320 dL_law_2339 rfl ?_
                                                                        refine x_iinc 3320 6 [(4, .int (u6 + (6 : Int32))), (6, .int v392), (5, .int v388), (0, .ref (idc 51 0)), (1, .ref (idc 0 i1)), (2, .ref (idc 4 i3)), (3, .ref (idc 34 i5))] dL_law_3320 rfl rfl (by first | decide | exact Nat.le_of_ble_eq_true rfl) rfl ?_
                                                                        refine x_goto 3323 23 dL_law_3323 rfl ?_
                                                                        refine x_sub [3, 4, 5, 6, 0] _ rfl ?_
                                                                        exact hr7 (u6 + (6 : Int32))
                                                                    · refine x_iconst 2320 0 (0 : Int32) dL_law_2320 rfl ?_
                                                                      exact x_zret 2321 hZ rfl dL_law_2321
                                                                  · refine x_cnd (fun c398 => ?_) (fun c398 => ?_)
                                                                    · refine x_tsw 40 2342 (32 : Int32) 32 2302 c398 rfl dL_law_40 (by first | decide | exact Nat.le_of_ble_eq_true rfl) (by first | decide | exact Nat.le_of_ble_eq_true rfl) rfl rfl ?_
                                                                      refine x_aload_n 2342 1 dL_law_2342 rfl ?_
                                                                      refine x_aload_n 2343 0 dL_law_2343 rfl ?_
                                                                      refine x_iload 2344 4 dL_law_2344 rfl ?_
                                                                      refine x_iconst 2346 1 (1 : Int32) dL_law_2346 rfl ?_
                                                                      refine x_iadd 2347 dL_law_2347 ?_
                                                                      refine x_sld 2348 dL_law_2348 ?_
                                                                      refine x_aload_n 2349 3 dL_law_2349 rfl ?_
                                                                      refine x_cSW 2350 9 [.ref (idc 0 i1), .int (gx g (u6 + (1 : Int32)).toNatClampNeg), .ref (idc 34 i5)] [] cs_X0_279 (im_X0_token hl (idc 0 i1) (gx g (u6 + (1 : Int32)).toNatClampNeg) i5) (by exact ⟨Nat.le_of_ble_eq_true rfl, by decide⟩) rfl (Nat.le_of_ble_eq_true rfl) dL_law_2350 fun v400 => x_stI ?_
                                                                      refine x_istore 2353 [(5, .int v400), (0, .ref (idc 51 0)), (1, .ref (idc 0 i1)), (2, .ref (idc 4 i3)), (3, .ref (idc 34 i5)), (4, .int u6)] dL_law_2353 (by first | decide | exact Nat.le_of_ble_eq_true rfl) rfl ?_
                                                                      refine x_aload_n 2355 3 dL_law_2355 rfl ?_
                                                                      refine x_aload_n 2356 1 dL_law_2356 rfl ?_
                                                                      refine x_iload 2357 5 dL_law_2357 rfl ?_
                                                                      refine x_iconst 2359 1 (1 : Int32) dL_law_2359 rfl ?_
                                                                      refine x_iadd 2360 dL_law_2360 ?_
                                                                      refine x_sld 2361 dL_law_2361 ?_
                                                                      refine x_cV 2362 2 [.int (gx g (u6 + (1 : Int32)).toNatClampNeg)] [] ⟨by decide, rfl⟩ cv_X0_281 (im_X5_token hl i3 (gx g (u6 + (1 : Int32)).toNatClampNeg)) (by exact ⟨Nat.le_of_ble_eq_true rfl, by decide⟩) rfl (Nat.le_of_ble_eq_true rfl) dL_law_2362 fun v402 => x_stI ?_
                                                                      refine x_istore 2365 [(6, .int v402), (5, .int v400), (0, .ref (idc 51 0)), (1, .ref (idc 0 i1)), (2, .ref (idc 4 i3)), (3, .ref (idc 34 i5)), (4, .int u6)] dL_law_2365 (by first | decide | exact Nat.le_of_ble_eq_true rfl) rfl ?_
                                                                      refine x_aload_n 2367 4 dL_law_2367 rfl ?_
                                                                      refine x_cV 2368 0 [] [] ⟨by decide, rfl⟩ cv_X0_173 (im_X5_thrown hl i3) (by exact ⟨Nat.le_of_ble_eq_true rfl, by decide⟩) rfl (Nat.le_of_ble_eq_true rfl) dL_law_2368 fun v403 => x_stI ?_
                                                                      refine x_iload 2371 1 dL_law_2371 rfl ?_
                                                                      refine x_icmp_eq 2373 2378 dL_law_2373 rfl (fun c404 => ?_) (fun c404 => ?_)
                                                                      · refine x_iload 2378 1 dL_law_2378 rfl ?_
                                                                        refine x_if_ne 2380 2395 dL_law_2380 rfl (fun c405 => ?_) (fun c405 => ?_)
                                                                        · refine x_aload_n 2383 5 dL_law_2383 rfl ?_
                                                                          refine x_iconst 2384 0 (0 : Int32) dL_law_2384 rfl ?_
                                                                          refine x_lald 2385 dL_law_2385 fun v406 => ?_
                                                                          refine x_iload 2386 0 dL_law_2386 rfl ?_
                                                                          refine x_i2l 2388 dL_law_2388 ?_
                                                                          refine x_lcmp 2389 dL_law_2389 ?_
                                                                          refine x_if_eq 2390 2395 dL_law_2390 rfl (fun c407 => ?_) (fun c407 => ?_)
                                                                          · refine x_goto 2395 3320 dL_law_2395 rfl ?_
                                                                            refine x_iinc 3320 6 [(4, .int (u6 + (6 : Int32))), (6, .int v402), (5, .int v400), (0, .ref (idc 51 0)), (1, .ref (idc 0 i1)), (2, .ref (idc 4 i3)), (3, .ref (idc 34 i5))] dL_law_3320 rfl rfl (by first | decide | exact Nat.le_of_ble_eq_true rfl) rfl ?_
                                                                            refine x_goto 3323 23 dL_law_3323 rfl ?_
                                                                            refine x_sub [3, 4, 5, 6, 0] _ rfl ?_
                                                                            exact hr7 (u6 + (6 : Int32))
                                                                          · refine x_iconst 2393 0 (0 : Int32) dL_law_2393 rfl ?_
                                                                            exact x_zret 2394 hZ rfl dL_law_2394
                                                                        · refine x_goto 2395 3320 dL_law_2395 rfl ?_
                                                                          refine x_iinc 3320 6 [(4, .int (u6 + (6 : Int32))), (6, .int v402), (5, .int v400), (0, .ref (idc 51 0)), (1, .ref (idc 0 i1)), (2, .ref (idc 4 i3)), (3, .ref (idc 34 i5))] dL_law_3320 rfl rfl (by first | decide | exact Nat.le_of_ble_eq_true rfl) rfl ?_
                                                                          refine x_goto 3323 23 dL_law_3323 rfl ?_
                                                                          refine x_sub [3, 4, 5, 6, 0] _ rfl ?_
                                                                          exact hr7 (u6 + (6 : Int32))
                                                                      · refine x_iconst 2376 0 (0 : Int32) dL_law_2376 rfl ?_
                                                                        exact x_zret 2377 hZ rfl dL_law_2377
                                                                    · refine x_cnd (fun c408 => ?_) (fun c408 => ?_)
                                                                      · refine x_tsw 40 2398 (33 : Int32) 33 2358 c408 rfl dL_law_40 (by first | decide | exact Nat.le_of_ble_eq_true rfl) (by first | decide | exact Nat.le_of_ble_eq_true rfl) rfl rfl ?_
                                                                        refine x_aload_n 2398 1 dL_law_2398 rfl ?_
                                                                        refine x_aload_n 2399 3 dL_law_2399 rfl ?_
                                                                        refine x_cSW 2400 8 [.ref (idc 0 i1), .ref (idc 34 i5)] [] cs_X0_282 (im_X0_turn hl (idc 0 i1) i5) (by exact ⟨Nat.le_of_ble_eq_true rfl, by decide⟩) rfl (Nat.le_of_ble_eq_true rfl) dL_law_2400 fun v409 => x_stI ?_
                                                                        refine x_istore 2403 [(5, .int v409), (0, .ref (idc 51 0)), (1, .ref (idc 0 i1)), (2, .ref (idc 4 i3)), (3, .ref (idc 34 i5)), (4, .int u6)] dL_law_2403 (by first | decide | exact Nat.le_of_ble_eq_true rfl) rfl ?_
                                                                        refine x_aload_n 2405 3 dL_law_2405 rfl ?_
                                                                        refine x_cV 2406 1 [] [] ⟨by decide, rfl⟩ cv_X0_284 (im_X5_turn hl i3) (by exact ⟨Nat.le_of_ble_eq_true rfl, by decide⟩) rfl (Nat.le_of_ble_eq_true rfl) dL_law_2406 fun v410 => x_stI ?_
                                                                        refine x_istore 2409 [(6, .int v410), (5, .int v409), (0, .ref (idc 51 0)), (1, .ref (idc 0 i1)), (2, .ref (idc 4 i3)), (3, .ref (idc 34 i5)), (4, .int u6)] dL_law_2409 (by first | decide | exact Nat.le_of_ble_eq_true rfl) rfl ?_
                                                                        refine x_aload_n 2411 4 dL_law_2411 rfl ?_
                                                                        refine x_cV 2412 0 [] [] ⟨by decide, rfl⟩ cv_X0_173 (im_X5_thrown hl i3) (by exact ⟨Nat.le_of_ble_eq_true rfl, by decide⟩) rfl (Nat.le_of_ble_eq_true rfl) dL_law_2412 fun v411 => x_stI ?_
                                                                        refine x_iload 2415 1 dL_law_2415 rfl ?_
                                                                        refine x_icmp_eq 2417 2422 dL_law_2417 rfl (fun c412 => ?_) (fun c412 => ?_)
                                                                        · refine x_iload 2422 1 dL_law_2422 rfl ?_
                                                                          refine x_if_ne 2424 2439 dL_law_2424 rfl (fun c413 => ?_) (fun c413 => ?_)
                                                                          · refine x_aload_n 2427 5 dL_law_2427 rfl ?_
                                                                            refine x_iconst 2428 0 (0 : Int32) dL_law_2428 rfl ?_
                                                                            refine x_lald 2429 dL_law_2429 fun v414 => ?_
                                                                            refine x_iload 2430 0 dL_law_2430 rfl ?_
                                                                            refine x_i2l 2432 dL_law_2432 ?_
                                                                            refine x_lcmp 2433 dL_law_2433 ?_
                                                                            refine x_if_eq 2434 2439 dL_law_2434 rfl (fun c415 => ?_) (fun c415 => ?_)
                                                                            · refine x_goto 2439 3320 dL_law_2439 rfl ?_
                                                                              refine x_iinc 3320 6 [(4, .int (u6 + (6 : Int32))), (6, .int v410), (5, .int v409), (0, .ref (idc 51 0)), (1, .ref (idc 0 i1)), (2, .ref (idc 4 i3)), (3, .ref (idc 34 i5))] dL_law_3320 rfl rfl (by first | decide | exact Nat.le_of_ble_eq_true rfl) rfl ?_
                                                                              refine x_goto 3323 23 dL_law_3323 rfl ?_
                                                                              refine x_sub [3, 4, 5, 6, 0] _ rfl ?_
                                                                              exact hr7 (u6 + (6 : Int32))
                                                                            · refine x_iconst 2437 0 (0 : Int32) dL_law_2437 rfl ?_
                                                                              exact x_zret 2438 hZ rfl dL_law_2438
                                                                          · refine x_goto 2439 3320 dL_law_2439 rfl ?_
                                                                            refine x_iinc 3320 6 [(4, .int (u6 + (6 : Int32))), (6, .int v410), (5, .int v409), (0, .ref (idc 51 0)), (1, .ref (idc 0 i1)), (2, .ref (idc 4 i3)), (3, .ref (idc 34 i5))] dL_law_3320 rfl rfl (by first | decide | exact Nat.le_of_ble_eq_true rfl) rfl ?_
                                                                            refine x_goto 3323 23 dL_law_3323 rfl ?_
                                                                            refine x_sub [3, 4, 5, 6, 0] _ rfl ?_
                                                                            exact hr7 (u6 + (6 : Int32))
                                                                        · refine x_iconst 2420 0 (0 : Int32) dL_law_2420 rfl ?_
                                                                          exact x_zret 2421 hZ rfl dL_law_2421
                                                                      · refine x_cnd (fun c416 => ?_) (fun c416 => ?_)
                                                                        · refine x_tsw 40 2442 (34 : Int32) 34 2402 c416 rfl dL_law_40 (by first | decide | exact Nat.le_of_ble_eq_true rfl) (by first | decide | exact Nat.le_of_ble_eq_true rfl) rfl rfl ?_
                                                                          refine x_aload_n 2442 1 dL_law_2442 rfl ?_
                                                                          refine x_aload_n 2443 3 dL_law_2443 rfl ?_
                                                                          refine x_cSW 2444 10 [.ref (idc 0 i1), .ref (idc 34 i5)] [] cs_X0_285 (im_X0_emergency hl (idc 0 i1) i5) (by exact ⟨Nat.le_of_ble_eq_true rfl, by decide⟩) rfl (Nat.le_of_ble_eq_true rfl) dL_law_2444 fun v417 => x_stI ?_
                                                                          refine x_istore 2447 [(5, .int v417), (0, .ref (idc 51 0)), (1, .ref (idc 0 i1)), (2, .ref (idc 4 i3)), (3, .ref (idc 34 i5)), (4, .int u6)] dL_law_2447 (by first | decide | exact Nat.le_of_ble_eq_true rfl) rfl ?_
                                                                          refine x_aload_n 2449 3 dL_law_2449 rfl ?_
                                                                          refine x_cV 2450 1 [] [] ⟨by decide, rfl⟩ cv_X0_287 (im_X5_emergency hl i3) (by exact ⟨Nat.le_of_ble_eq_true rfl, by decide⟩) rfl (Nat.le_of_ble_eq_true rfl) dL_law_2450 fun v418 => x_stI ?_
                                                                          refine x_istore 2453 [(6, .int v418), (5, .int v417), (0, .ref (idc 51 0)), (1, .ref (idc 0 i1)), (2, .ref (idc 4 i3)), (3, .ref (idc 34 i5)), (4, .int u6)] dL_law_2453 (by first | decide | exact Nat.le_of_ble_eq_true rfl) rfl ?_
                                                                          refine x_aload_n 2455 4 dL_law_2455 rfl ?_
                                                                          refine x_cV 2456 0 [] [] ⟨by decide, rfl⟩ cv_X0_173 (im_X5_thrown hl i3) (by exact ⟨Nat.le_of_ble_eq_true rfl, by decide⟩) rfl (Nat.le_of_ble_eq_true rfl) dL_law_2456 fun v419 => x_stI ?_
                                                                          refine x_iload 2459 1 dL_law_2459 rfl ?_
                                                                          refine x_icmp_eq 2461 2466 dL_law_2461 rfl (fun c420 => ?_) (fun c420 => ?_)
                                                                          · refine x_iload 2466 1 dL_law_2466 rfl ?_
                                                                            refine x_if_ne 2468 2483 dL_law_2468 rfl (fun c421 => ?_) (fun c421 => ?_)
                                                                            · refine x_aload_n 2471 5 dL_law_2471 rfl ?_
                                                                              refine x_iconst 2472 0 (0 : Int32) dL_law_2472 rfl ?_
                                                                              refine x_lald 2473 dL_law_2473 fun v422 => ?_
                                                                              refine x_iload 2474 0 dL_law_2474 rfl ?_
                                                                              refine x_i2l 2476 dL_law_2476 ?_
                                                                              refine x_lcmp 2477 dL_law_2477 ?_
                                                                              refine x_if_eq 2478 2483 dL_law_2478 rfl (fun c423 => ?_) (fun c423 => ?_)
                                                                              · refine x_goto 2483 3320 dL_law_2483 rfl ?_
                                                                                refine x_iinc 3320 6 [(4, .int (u6 + (6 : Int32))), (6, .int v418), (5, .int v417), (0, .ref (idc 51 0)), (1, .ref (idc 0 i1)), (2, .ref (idc 4 i3)), (3, .ref (idc 34 i5))] dL_law_3320 rfl rfl (by first | decide | exact Nat.le_of_ble_eq_true rfl) rfl ?_
                                                                                refine x_goto 3323 23 dL_law_3323 rfl ?_
                                                                                refine x_sub [3, 4, 5, 6, 0] _ rfl ?_
                                                                                exact hr7 (u6 + (6 : Int32))
                                                                              · refine x_iconst 2481 0 (0 : Int32) dL_law_2481 rfl ?_
                                                                                exact x_zret 2482 hZ rfl dL_law_2482
                                                                            · refine x_goto 2483 3320 dL_law_2483 rfl ?_
                                                                              refine x_iinc 3320 6 [(4, .int (u6 + (6 : Int32))), (6, .int v418), (5, .int v417), (0, .ref (idc 51 0)), (1, .ref (idc 0 i1)), (2, .ref (idc 4 i3)), (3, .ref (idc 34 i5))] dL_law_3320 rfl rfl (by first | decide | exact Nat.le_of_ble_eq_true rfl) rfl ?_
                                                                              refine x_goto 3323 23 dL_law_3323 rfl ?_
                                                                              refine x_sub [3, 4, 5, 6, 0] _ rfl ?_
                                                                              exact hr7 (u6 + (6 : Int32))
                                                                          · refine x_iconst 2464 0 (0 : Int32) dL_law_2464 rfl ?_
                                                                            exact x_zret 2465 hZ rfl dL_law_2465
                                                                        · refine x_cnd (fun c424 => ?_) (fun c424 => ?_)
                                                                          · refine x_tsw 40 2486 (35 : Int32) 35 2446 c424 rfl dL_law_40 (by first | decide | exact Nat.le_of_ble_eq_true rfl) (by first | decide | exact Nat.le_of_ble_eq_true rfl) rfl rfl ?_
                                                                            refine x_aload_n 2486 1 dL_law_2486 rfl ?_
                                                                            refine x_cV 2487 0 [] [] ⟨by decide, rfl⟩ cv_X0_288 (im_X1_signing hl i1) (by exact ⟨Nat.le_of_ble_eq_true rfl, by decide⟩) rfl (Nat.le_of_ble_eq_true rfl) dL_law_2487 fun v425 => x_stI ?_
                                                                            refine x_aload_n 2490 2 dL_law_2490 rfl ?_
                                                                            refine x_cV 2491 0 [] [.int v425] ⟨by decide, rfl⟩ cv_X0_291 (im_X5_signing hl i3) (by exact ⟨Nat.le_of_ble_eq_true rfl, by decide⟩) rfl (Nat.le_of_ble_eq_true rfl) dL_law_2491 fun v426 => x_stI ?_
                                                                            refine x_icmp_eq 2494 3320 dL_law_2494 rfl (fun c427 => ?_) (fun c427 => ?_)
                                                                            · refine x_iinc 3320 4 [(4, .int (u6 + (6 : Int32))), (0, .ref (idc 51 0)), (1, .ref (idc 0 i1)), (2, .ref (idc 4 i3)), (3, .ref (idc 34 i5))] dL_law_3320 rfl rfl (by first | decide | exact Nat.le_of_ble_eq_true rfl) rfl ?_
                                                                              refine x_goto 3323 23 dL_law_3323 rfl ?_
                                                                              refine x_sub [1, 2, 3, 4, 0] _ rfl ?_
                                                                              exact hr7 (u6 + (6 : Int32))
                                                                            · refine x_iconst 2497 0 (0 : Int32) dL_law_2497 rfl ?_
                                                                              exact x_zret 2498 hZ rfl dL_law_2498
                                                                          · refine x_cnd (fun c428 => ?_) (fun c428 => ?_)
                                                                            · refine x_tsw 40 2499 (36 : Int32) 36 2459 c428 rfl dL_law_40 (by first | decide | exact Nat.le_of_ble_eq_true rfl) (by first | decide | exact Nat.le_of_ble_eq_true rfl) rfl rfl ?_
                                                                              refine x_aload_n 2499 1 dL_law_2499 rfl ?_
                                                                              refine x_aload_n 2500 0 dL_law_2500 rfl ?_
                                                                              refine x_iload 2501 4 dL_law_2501 rfl ?_
                                                                              refine x_iconst 2503 1 (1 : Int32) dL_law_2503 rfl ?_
                                                                              refine x_iadd 2504 dL_law_2504 ?_
                                                                              refine x_sld 2505 dL_law_2505 ?_
                                                                              refine x_aload_n 2506 3 dL_law_2506 rfl ?_
                                                                              refine x_cSW 2507 8 [.ref (idc 0 i1), .int (gx g (u6 + (1 : Int32)).toNatClampNeg), .ref (idc 34 i5)] [] cs_X0_292 (im_X0_isPublished hl (idc 0 i1) (gx g (u6 + (1 : Int32)).toNatClampNeg) i5) (by exact ⟨Nat.le_of_ble_eq_true rfl, by decide⟩) rfl (Nat.le_of_ble_eq_true rfl) dL_law_2507 fun v430 => x_stI ?_
                                                                              refine x_istore 2510 [(5, .int v430), (0, .ref (idc 51 0)), (1, .ref (idc 0 i1)), (2, .ref (idc 4 i3)), (3, .ref (idc 34 i5)), (4, .int u6)] dL_law_2510 (by first | decide | exact Nat.le_of_ble_eq_true rfl) rfl ?_
                                                                              refine x_aload_n 2512 3 dL_law_2512 rfl ?_
                                                                              refine x_aload_n 2513 1 dL_law_2513 rfl ?_
                                                                              refine x_iload 2514 5 dL_law_2514 rfl ?_
                                                                              refine x_iconst 2516 1 (1 : Int32) dL_law_2516 rfl ?_
                                                                              refine x_iadd 2517 dL_law_2517 ?_
                                                                              refine x_sld 2518 dL_law_2518 ?_
                                                                              refine x_cV 2519 1 [.int (gx g (u6 + (1 : Int32)).toNatClampNeg)] [] ⟨by decide, rfl⟩ cv_X0_294 (im_X5_isPublished hl i3 (gx g (u6 + (1 : Int32)).toNatClampNeg)) (by exact ⟨Nat.le_of_ble_eq_true rfl, by decide⟩) rfl (Nat.le_of_ble_eq_true rfl) dL_law_2519 fun v432 => x_stI ?_
                                                                              refine x_istore 2522 [(6, .int v432), (5, .int v430), (0, .ref (idc 51 0)), (1, .ref (idc 0 i1)), (2, .ref (idc 4 i3)), (3, .ref (idc 34 i5)), (4, .int u6)] dL_law_2522 (by first | decide | exact Nat.le_of_ble_eq_true rfl) rfl ?_
                                                                              refine x_aload_n 2524 4 dL_law_2524 rfl ?_
                                                                              refine x_cV 2525 0 [] [] ⟨by decide, rfl⟩ cv_X0_173 (im_X5_thrown hl i3) (by exact ⟨Nat.le_of_ble_eq_true rfl, by decide⟩) rfl (Nat.le_of_ble_eq_true rfl) dL_law_2525 fun v433 => x_stI ?_
                                                                              refine x_iload 2528 1 dL_law_2528 rfl ?_
                                                                              refine x_icmp_eq 2530 2535 dL_law_2530 rfl (fun c434 => ?_) (fun c434 => ?_)
                                                                              · refine x_iload 2535 1 dL_law_2535 rfl ?_
                                                                                refine x_if_ne 2537 2559 dL_law_2537 rfl (fun c435 => ?_) (fun c435 => ?_)
                                                                                · refine x_aload_n 2540 5 dL_law_2540 rfl ?_
                                                                                  refine x_iconst 2541 0 (0 : Int32) dL_law_2541 rfl ?_
                                                                                  refine x_lald 2542 dL_law_2542 fun v436 => ?_
                                                                                  refine x_iload 2543 0 dL_law_2543 rfl ?_
                                                                                  refine x_bndj 2553 (fun u437 => [(0, .ref (idc 51 0)), (1, .ref (idc 0 i1)), (2, .ref (idc 4 i3)), (3, .ref (idc 34 i5)), (4, .int u6)]) (fun u437 => [.long u437, .long v436]) (fun u437 => ?_) (fun hj439 => ?_)
                                                                                  · show TX g Γ _ Z _ 2553 [(0, .ref (idc 51 0)), (1, .ref (idc 0 i1)), (2, .ref (idc 4 i3)), (3, .ref (idc 34 i5)), (4, .int u6)] [.long u437, .long v436] _
                                                                                    refine x_lcmp 2553 dL_law_2553 ?_
                                                                                    refine x_if_eq 2554 2559 dL_law_2554 rfl (fun c438 => ?_) (fun c438 => ?_)
                                                                                    · refine x_goto 2559 3320 dL_law_2559 rfl ?_
                                                                                      refine x_iinc 3320 4 [(4, .int (u6 + (6 : Int32))), (0, .ref (idc 51 0)), (1, .ref (idc 0 i1)), (2, .ref (idc 4 i3)), (3, .ref (idc 34 i5))] dL_law_3320 rfl rfl (by first | decide | exact Nat.le_of_ble_eq_true rfl) rfl ?_
                                                                                      refine x_goto 3323 23 dL_law_3323 rfl ?_
                                                                                      refine x_sub [1, 2, 3, 4, 0] _ rfl ?_
                                                                                      exact hr7 (u6 + (6 : Int32))
                                                                                    · refine x_iconst 2557 0 (0 : Int32) dL_law_2557 rfl ?_
                                                                                      exact x_zret 2558 hZ rfl dL_law_2558
                                                                                  · refine x_if_eq 2545 2552 dL_law_2545 rfl (fun c440 => ?_) (fun c440 => ?_)
                                                                                    · refine x_lconst 2552 0 (0 : Int64) dL_law_2552 rfl ?_
                                                                                      refine x_sub [2, 3, 4, 5, 6] _ rfl ?_
                                                                                      exact hj439 (0 : Int64)
                                                                                    · refine x_lconst 2548 1 (1 : Int64) dL_law_2548 rfl ?_
                                                                                      refine x_goto 2549 2553 dL_law_2549 rfl ?_
                                                                                      refine x_sub [2, 3, 4, 5, 6] _ rfl ?_
                                                                                      exact hj439 (1 : Int64)
                                                                                · refine x_goto 2559 3320 dL_law_2559 rfl ?_
                                                                                  refine x_iinc 3320 6 [(4, .int (u6 + (6 : Int32))), (6, .int v432), (5, .int v430), (0, .ref (idc 51 0)), (1, .ref (idc 0 i1)), (2, .ref (idc 4 i3)), (3, .ref (idc 34 i5))] dL_law_3320 rfl rfl (by first | decide | exact Nat.le_of_ble_eq_true rfl) rfl ?_
                                                                                  refine x_goto 3323 23 dL_law_3323 rfl ?_
                                                                                  refine x_sub [3, 4, 5, 6, 0] _ rfl ?_
                                                                                  exact hr7 (u6 + (6 : Int32))
                                                                              · refine x_iconst 2533 0 (0 : Int32) dL_law_2533 rfl ?_
                                                                                exact x_zret 2534 hZ rfl dL_law_2534
                                                                            · refine x_cnd (fun c441 => ?_) (fun c441 => ?_)
                                                                              · refine x_tsw 40 2562 (37 : Int32) 37 2522 c441 rfl dL_law_40 (by first | decide | exact Nat.le_of_ble_eq_true rfl) (by first | decide | exact Nat.le_of_ble_eq_true rfl) rfl rfl ?_
                                                                                refine x_aload_n 2562 1 dL_law_2562 rfl ?_
                                                                                refine x_aload_n 2563 0 dL_law_2563 rfl ?_
                                                                                refine x_iload 2564 4 dL_law_2564 rfl ?_
                                                                                refine x_iconst 2566 1 (1 : Int32) dL_law_2566 rfl ?_
                                                                                refine x_iadd 2567 dL_law_2567 ?_
                                                                                refine x_sld 2568 dL_law_2568 ?_
                                                                                refine x_aload_n 2569 3 dL_law_2569 rfl ?_
                                                                                refine x_cSW 2570 9 [.ref (idc 0 i1), .int (gx g (u6 + (1 : Int32)).toNatClampNeg), .ref (idc 34 i5)] [] cs_X0_295 (im_X0_line hl (idc 0 i1) (gx g (u6 + (1 : Int32)).toNatClampNeg) i5) (by exact ⟨Nat.le_of_ble_eq_true rfl, by decide⟩) rfl (Nat.le_of_ble_eq_true rfl) dL_law_2570 fun v443 => x_stI ?_
                                                                                refine x_istore 2573 [(5, .int v443), (0, .ref (idc 51 0)), (1, .ref (idc 0 i1)), (2, .ref (idc 4 i3)), (3, .ref (idc 34 i5)), (4, .int u6)] dL_law_2573 (by first | decide | exact Nat.le_of_ble_eq_true rfl) rfl ?_
                                                                                refine x_aload_n 2575 3 dL_law_2575 rfl ?_
                                                                                refine x_aload_n 2576 1 dL_law_2576 rfl ?_
                                                                                refine x_iload 2577 5 dL_law_2577 rfl ?_
                                                                                refine x_iconst 2579 1 (1 : Int32) dL_law_2579 rfl ?_
                                                                                refine x_iadd 2580 dL_law_2580 ?_
                                                                                refine x_sld 2581 dL_law_2581 ?_
                                                                                refine x_cV 2582 2 [.int (gx g (u6 + (1 : Int32)).toNatClampNeg)] [] ⟨by decide, rfl⟩ cv_X0_297 (im_X5_line hl i3 (gx g (u6 + (1 : Int32)).toNatClampNeg)) (by exact ⟨Nat.le_of_ble_eq_true rfl, by decide⟩) rfl (Nat.le_of_ble_eq_true rfl) dL_law_2582 fun v445 => x_stI ?_
                                                                                refine x_istore 2585 [(6, .int v445), (5, .int v443), (0, .ref (idc 51 0)), (1, .ref (idc 0 i1)), (2, .ref (idc 4 i3)), (3, .ref (idc 34 i5)), (4, .int u6)] dL_law_2585 (by first | decide | exact Nat.le_of_ble_eq_true rfl) rfl ?_
                                                                                refine x_aload_n 2587 4 dL_law_2587 rfl ?_
                                                                                refine x_cV 2588 0 [] [] ⟨by decide, rfl⟩ cv_X0_173 (im_X5_thrown hl i3) (by exact ⟨Nat.le_of_ble_eq_true rfl, by decide⟩) rfl (Nat.le_of_ble_eq_true rfl) dL_law_2588 fun v446 => x_stI ?_
                                                                                refine x_iload 2591 1 dL_law_2591 rfl ?_
                                                                                refine x_icmp_eq 2593 2598 dL_law_2593 rfl (fun c447 => ?_) (fun c447 => ?_)
                                                                                · refine x_iload 2598 1 dL_law_2598 rfl ?_
                                                                                  refine x_if_ne 2600 2615 dL_law_2600 rfl (fun c448 => ?_) (fun c448 => ?_)
                                                                                  · refine x_aload_n 2603 5 dL_law_2603 rfl ?_
                                                                                    refine x_iconst 2604 0 (0 : Int32) dL_law_2604 rfl ?_
                                                                                    refine x_lald 2605 dL_law_2605 fun v449 => ?_
                                                                                    refine x_iload 2606 0 dL_law_2606 rfl ?_
                                                                                    refine x_i2l 2608 dL_law_2608 ?_
                                                                                    refine x_lcmp 2609 dL_law_2609 ?_
                                                                                    refine x_if_eq 2610 2615 dL_law_2610 rfl (fun c450 => ?_) (fun c450 => ?_)
                                                                                    · refine x_goto 2615 3320 dL_law_2615 rfl ?_
                                                                                      refine x_iinc 3320 6 [(4, .int (u6 + (6 : Int32))), (6, .int v445), (5, .int v443), (0, .ref (idc 51 0)), (1, .ref (idc 0 i1)), (2, .ref (idc 4 i3)), (3, .ref (idc 34 i5))] dL_law_3320 rfl rfl (by first | decide | exact Nat.le_of_ble_eq_true rfl) rfl ?_
                                                                                      refine x_goto 3323 23 dL_law_3323 rfl ?_
                                                                                      refine x_sub [3, 4, 5, 6, 0] _ rfl ?_
                                                                                      exact hr7 (u6 + (6 : Int32))
                                                                                    · refine x_iconst 2613 0 (0 : Int32) dL_law_2613 rfl ?_
                                                                                      exact x_zret 2614 hZ rfl dL_law_2614
                                                                                  · refine x_goto 2615 3320 dL_law_2615 rfl ?_
                                                                                    refine x_iinc 3320 6 [(4, .int (u6 + (6 : Int32))), (6, .int v445), (5, .int v443), (0, .ref (idc 51 0)), (1, .ref (idc 0 i1)), (2, .ref (idc 4 i3)), (3, .ref (idc 34 i5))] dL_law_3320 rfl rfl (by first | decide | exact Nat.le_of_ble_eq_true rfl) rfl ?_
                                                                                    refine x_goto 3323 23 dL_law_3323 rfl ?_
                                                                                    refine x_sub [3, 4, 5, 6, 0] _ rfl ?_
                                                                                    exact hr7 (u6 + (6 : Int32))
                                                                                · refine x_iconst 2596 0 (0 : Int32) dL_law_2596 rfl ?_
                                                                                  exact x_zret 2597 hZ rfl dL_law_2597
                                                                              · refine x_cnd (fun c451 => ?_) (fun c451 => ?_)
                                                                                · refine x_tsw 40 2618 (38 : Int32) 38 2578 c451 rfl dL_law_40 (by first | decide | exact Nat.le_of_ble_eq_true rfl) (by first | decide | exact Nat.le_of_ble_eq_true rfl) rfl rfl ?_
                                                                                  refine x_aload_n 2618 1 dL_law_2618 rfl ?_
                                                                                  refine x_aload_n 2619 0 dL_law_2619 rfl ?_
                                                                                  refine x_iload 2620 4 dL_law_2620 rfl ?_
                                                                                  refine x_iconst 2622 1 (1 : Int32) dL_law_2622 rfl ?_
                                                                                  refine x_iadd 2623 dL_law_2623 ?_
                                                                                  refine x_sld 2624 dL_law_2624 ?_
                                                                                  refine x_aload_n 2625 0 dL_law_2625 rfl ?_
                                                                                  refine x_iload 2626 4 dL_law_2626 rfl ?_
                                                                                  refine x_iconst 2628 2 (2 : Int32) dL_law_2628 rfl ?_
                                                                                  refine x_iadd 2629 dL_law_2629 ?_
                                                                                  refine x_sld 2630 dL_law_2630 ?_
                                                                                  refine x_aload_n 2631 0 dL_law_2631 rfl ?_
                                                                                  refine x_iload 2632 4 dL_law_2632 rfl ?_
                                                                                  refine x_iconst 2634 3 (3 : Int32) dL_law_2634 rfl ?_
                                                                                  refine x_iadd 2635 dL_law_2635 ?_
                                                                                  refine x_sld 2636 dL_law_2636 ?_
                                                                                  refine x_aload_n 2637 3 dL_law_2637 rfl ?_
                                                                                  refine x_cSW 2638 9 [.ref (idc 0 i1), .int (gx g (u6 + (1 : Int32)).toNatClampNeg), .int (gx g (u6 + (2 : Int32)).toNatClampNeg), .int (gx g (u6 + (3 : Int32)).toNatClampNeg), .ref (idc 34 i5)] [] cs_X0_298 (im_X0_check hl (idc 0 i1) (gx g (u6 + (1 : Int32)).toNatClampNeg) (gx g (u6 + (2 : Int32)).toNatClampNeg) (gx g (u6 + (3 : Int32)).toNatClampNeg) i5) (by exact ⟨Nat.le_of_ble_eq_true rfl, by decide⟩) rfl (Nat.le_of_ble_eq_true rfl) dL_law_2638 fun v455 => x_stI ?_
                                                                                  refine x_istore 2641 [(5, .int v455), (0, .ref (idc 51 0)), (1, .ref (idc 0 i1)), (2, .ref (idc 4 i3)), (3, .ref (idc 34 i5)), (4, .int u6)] dL_law_2641 (by first | decide | exact Nat.le_of_ble_eq_true rfl) rfl ?_
                                                                                  refine x_aload_n 2643 3 dL_law_2643 rfl ?_
                                                                                  refine x_aload_n 2644 1 dL_law_2644 rfl ?_
                                                                                  refine x_iload 2645 5 dL_law_2645 rfl ?_
                                                                                  refine x_iconst 2647 1 (1 : Int32) dL_law_2647 rfl ?_
                                                                                  refine x_iadd 2648 dL_law_2648 ?_
                                                                                  refine x_sld 2649 dL_law_2649 ?_
                                                                                  refine x_aload_n 2650 1 dL_law_2650 rfl ?_
                                                                                  refine x_iload 2651 5 dL_law_2651 rfl ?_
                                                                                  refine x_iconst 2653 2 (2 : Int32) dL_law_2653 rfl ?_
                                                                                  refine x_iadd 2654 dL_law_2654 ?_
                                                                                  refine x_sld 2655 dL_law_2655 ?_
                                                                                  refine x_aload_n 2656 1 dL_law_2656 rfl ?_
                                                                                  refine x_iload 2657 5 dL_law_2657 rfl ?_
                                                                                  refine x_iconst 2659 3 (3 : Int32) dL_law_2659 rfl ?_
                                                                                  refine x_iadd 2660 dL_law_2660 ?_
                                                                                  refine x_sld 2661 dL_law_2661 ?_
                                                                                  refine x_cV 2662 2 [.int (gx g (u6 + (1 : Int32)).toNatClampNeg), .int (gx g (u6 + (2 : Int32)).toNatClampNeg), .int (gx g (u6 + (3 : Int32)).toNatClampNeg)] [] ⟨by decide, rfl⟩ cv_X0_300 (im_X5_check hl i3 (gx g (u6 + (1 : Int32)).toNatClampNeg) (gx g (u6 + (2 : Int32)).toNatClampNeg) (gx g (u6 + (3 : Int32)).toNatClampNeg)) (by exact ⟨Nat.le_of_ble_eq_true rfl, by decide⟩) rfl (Nat.le_of_ble_eq_true rfl) dL_law_2662 fun v459 => x_stI ?_
                                                                                  refine x_istore 2665 [(6, .int v459), (5, .int v455), (0, .ref (idc 51 0)), (1, .ref (idc 0 i1)), (2, .ref (idc 4 i3)), (3, .ref (idc 34 i5)), (4, .int u6)] dL_law_2665 (by first | decide | exact Nat.le_of_ble_eq_true rfl) rfl ?_
                                                                                  refine x_aload_n 2667 4 dL_law_2667 rfl ?_
                                                                                  refine x_cV 2668 0 [] [] ⟨by decide, rfl⟩ cv_X0_173 (im_X5_thrown hl i3) (by exact ⟨Nat.le_of_ble_eq_true rfl, by decide⟩) rfl (Nat.le_of_ble_eq_true rfl) dL_law_2668 fun v460 => x_stI ?_
                                                                                  refine x_iload 2671 1 dL_law_2671 rfl ?_
                                                                                  refine x_icmp_eq 2673 2678 dL_law_2673 rfl (fun c461 => ?_) (fun c461 => ?_)
                                                                                  · refine x_iload 2678 1 dL_law_2678 rfl ?_
                                                                                    refine x_if_ne 2680 2695 dL_law_2680 rfl (fun c462 => ?_) (fun c462 => ?_)
                                                                                    · refine x_aload_n 2683 5 dL_law_2683 rfl ?_
                                                                                      refine x_iconst 2684 0 (0 : Int32) dL_law_2684 rfl ?_
                                                                                      refine x_lald 2685 dL_law_2685 fun v463 => ?_
                                                                                      refine x_iload 2686 0 dL_law_2686 rfl ?_
                                                                                      refine x_i2l 2688 dL_law_2688 ?_
                                                                                      refine x_lcmp 2689 dL_law_2689 ?_
                                                                                      refine x_if_eq 2690 2695 dL_law_2690 rfl (fun c464 => ?_) (fun c464 => ?_)
                                                                                      · refine x_goto 2695 3320 dL_law_2695 rfl ?_
                                                                                        refine x_iinc 3320 6 [(4, .int (u6 + (6 : Int32))), (6, .int v459), (5, .int v455), (0, .ref (idc 51 0)), (1, .ref (idc 0 i1)), (2, .ref (idc 4 i3)), (3, .ref (idc 34 i5))] dL_law_3320 rfl rfl (by first | decide | exact Nat.le_of_ble_eq_true rfl) rfl ?_
                                                                                        refine x_goto 3323 23 dL_law_3323 rfl ?_
                                                                                        refine x_sub [3, 4, 5, 6, 0] _ rfl ?_
                                                                                        exact hr7 (u6 + (6 : Int32))
                                                                                      · refine x_iconst 2693 0 (0 : Int32) dL_law_2693 rfl ?_
                                                                                        exact x_zret 2694 hZ rfl dL_law_2694
                                                                                    · refine x_goto 2695 3320 dL_law_2695 rfl ?_
                                                                                      refine x_iinc 3320 6 [(4, .int (u6 + (6 : Int32))), (6, .int v459), (5, .int v455), (0, .ref (idc 51 0)), (1, .ref (idc 0 i1)), (2, .ref (idc 4 i3)), (3, .ref (idc 34 i5))] dL_law_3320 rfl rfl (by first | decide | exact Nat.le_of_ble_eq_true rfl) rfl ?_
                                                                                      refine x_goto 3323 23 dL_law_3323 rfl ?_
                                                                                      refine x_sub [3, 4, 5, 6, 0] _ rfl ?_
                                                                                      exact hr7 (u6 + (6 : Int32))
                                                                                  · refine x_iconst 2676 0 (0 : Int32) dL_law_2676 rfl ?_
                                                                                    exact x_zret 2677 hZ rfl dL_law_2677
                                                                                · refine x_cnd (fun c465 => ?_) (fun c465 => ?_)
                                                                                  · refine x_tsw 40 2698 (39 : Int32) 39 2658 c465 rfl dL_law_40 (by first | decide | exact Nat.le_of_ble_eq_true rfl) (by first | decide | exact Nat.le_of_ble_eq_true rfl) rfl rfl ?_
                                                                                    refine x_aload_n 2698 1 dL_law_2698 rfl ?_
                                                                                    refine x_aload_n 2699 0 dL_law_2699 rfl ?_
                                                                                    refine x_iload 2700 4 dL_law_2700 rfl ?_
                                                                                    refine x_iconst 2702 1 (1 : Int32) dL_law_2702 rfl ?_
                                                                                    refine x_iadd 2703 dL_law_2703 ?_
                                                                                    refine x_sld 2704 dL_law_2704 ?_
                                                                                    refine x_aload_n 2705 3 dL_law_2705 rfl ?_
                                                                                    refine x_cSW 2706 9 [.ref (idc 0 i1), .int (gx g (u6 + (1 : Int32)).toNatClampNeg), .ref (idc 34 i5)] [] cs_X0_301 (im_X0_lag hl (idc 0 i1) (gx g (u6 + (1 : Int32)).toNatClampNeg) i5) (by exact ⟨Nat.le_of_ble_eq_true rfl, by decide⟩) rfl (Nat.le_of_ble_eq_true rfl) dL_law_2706 fun v467 => x_stI ?_
                                                                                    refine x_istore 2709 [(5, .int v467), (0, .ref (idc 51 0)), (1, .ref (idc 0 i1)), (2, .ref (idc 4 i3)), (3, .ref (idc 34 i5)), (4, .int u6)] dL_law_2709 (by first | decide | exact Nat.le_of_ble_eq_true rfl) rfl ?_
                                                                                    refine x_aload_n 2711 3 dL_law_2711 rfl ?_
                                                                                    refine x_aload_n 2712 1 dL_law_2712 rfl ?_
                                                                                    refine x_iload 2713 5 dL_law_2713 rfl ?_
                                                                                    refine x_iconst 2715 1 (1 : Int32) dL_law_2715 rfl ?_
                                                                                    refine x_iadd 2716 dL_law_2716 ?_
                                                                                    refine x_sld 2717 dL_law_2717 ?_
                                                                                    refine x_cV 2718 2 [.int (gx g (u6 + (1 : Int32)).toNatClampNeg)] [] ⟨by decide, rfl⟩ cv_X0_303 (im_X5_lag hl i3 (gx g (u6 + (1 : Int32)).toNatClampNeg)) (by exact ⟨Nat.le_of_ble_eq_true rfl, by decide⟩) rfl (Nat.le_of_ble_eq_true rfl) dL_law_2718 fun v469 => x_stI ?_
                                                                                    refine x_istore 2721 [(6, .int v469), (5, .int v467), (0, .ref (idc 51 0)), (1, .ref (idc 0 i1)), (2, .ref (idc 4 i3)), (3, .ref (idc 34 i5)), (4, .int u6)] dL_law_2721 (by first | decide | exact Nat.le_of_ble_eq_true rfl) rfl ?_
                                                                                    refine x_aload_n 2723 4 dL_law_2723 rfl ?_
                                                                                    refine x_cV 2724 0 [] [] ⟨by decide, rfl⟩ cv_X0_173 (im_X5_thrown hl i3) (by exact ⟨Nat.le_of_ble_eq_true rfl, by decide⟩) rfl (Nat.le_of_ble_eq_true rfl) dL_law_2724 fun v470 => x_stI ?_
                                                                                    refine x_iload 2727 1 dL_law_2727 rfl ?_
                                                                                    refine x_icmp_eq 2729 2734 dL_law_2729 rfl (fun c471 => ?_) (fun c471 => ?_)
                                                                                    · refine x_iload 2734 1 dL_law_2734 rfl ?_
                                                                                      refine x_if_ne 2736 2751 dL_law_2736 rfl (fun c472 => ?_) (fun c472 => ?_)
                                                                                      · refine x_aload_n 2739 5 dL_law_2739 rfl ?_
                                                                                        refine x_iconst 2740 0 (0 : Int32) dL_law_2740 rfl ?_
                                                                                        refine x_lald 2741 dL_law_2741 fun v473 => ?_
                                                                                        refine x_iload 2742 0 dL_law_2742 rfl ?_
                                                                                        refine x_i2l 2744 dL_law_2744 ?_
                                                                                        refine x_lcmp 2745 dL_law_2745 ?_
                                                                                        refine x_if_eq 2746 2751 dL_law_2746 rfl (fun c474 => ?_) (fun c474 => ?_)
                                                                                        · refine x_goto 2751 3320 dL_law_2751 rfl ?_
                                                                                          refine x_iinc 3320 6 [(4, .int (u6 + (6 : Int32))), (6, .int v469), (5, .int v467), (0, .ref (idc 51 0)), (1, .ref (idc 0 i1)), (2, .ref (idc 4 i3)), (3, .ref (idc 34 i5))] dL_law_3320 rfl rfl (by first | decide | exact Nat.le_of_ble_eq_true rfl) rfl ?_
                                                                                          refine x_goto 3323 23 dL_law_3323 rfl ?_
                                                                                          refine x_sub [3, 4, 5, 6, 0] _ rfl ?_
                                                                                          exact hr7 (u6 + (6 : Int32))
                                                                                        · refine x_iconst 2749 0 (0 : Int32) dL_law_2749 rfl ?_
                                                                                          exact x_zret 2750 hZ rfl dL_law_2750
                                                                                      · refine x_goto 2751 3320 dL_law_2751 rfl ?_
                                                                                        refine x_iinc 3320 6 [(4, .int (u6 + (6 : Int32))), (6, .int v469), (5, .int v467), (0, .ref (idc 51 0)), (1, .ref (idc 0 i1)), (2, .ref (idc 4 i3)), (3, .ref (idc 34 i5))] dL_law_3320 rfl rfl (by first | decide | exact Nat.le_of_ble_eq_true rfl) rfl ?_
                                                                                        refine x_goto 3323 23 dL_law_3323 rfl ?_
                                                                                        refine x_sub [3, 4, 5, 6, 0] _ rfl ?_
                                                                                        exact hr7 (u6 + (6 : Int32))
                                                                                    · refine x_iconst 2732 0 (0 : Int32) dL_law_2732 rfl ?_
                                                                                      exact x_zret 2733 hZ rfl dL_law_2733
                                                                                  · refine x_cnd (fun c475 => ?_) (fun c475 => ?_)
                                                                                    · refine x_tsw 40 2754 (40 : Int32) 40 2714 c475 rfl dL_law_40 (by first | decide | exact Nat.le_of_ble_eq_true rfl) (by first | decide | exact Nat.le_of_ble_eq_true rfl) rfl rfl ?_
                                                                                      refine x_aload_n 2754 1 dL_law_2754 rfl ?_
                                                                                      refine x_aload_n 2755 0 dL_law_2755 rfl ?_
                                                                                      refine x_iload 2756 4 dL_law_2756 rfl ?_
                                                                                      refine x_iconst 2758 1 (1 : Int32) dL_law_2758 rfl ?_
                                                                                      refine x_iadd 2759 dL_law_2759 ?_
                                                                                      refine x_sld 2760 dL_law_2760 ?_
                                                                                      refine x_aload_n 2761 3 dL_law_2761 rfl ?_
                                                                                      refine x_cSW 2762 9 [.ref (idc 0 i1), .int (gx g (u6 + (1 : Int32)).toNatClampNeg), .ref (idc 34 i5)] [] cs_X0_304 (im_X0_recover hl (idc 0 i1) (gx g (u6 + (1 : Int32)).toNatClampNeg) i5) (by exact ⟨Nat.le_of_ble_eq_true rfl, by decide⟩) rfl (Nat.le_of_ble_eq_true rfl) dL_law_2762 fun v477 => x_stI ?_
                                                                                      refine x_istore 2765 [(5, .int v477), (0, .ref (idc 51 0)), (1, .ref (idc 0 i1)), (2, .ref (idc 4 i3)), (3, .ref (idc 34 i5)), (4, .int u6)] dL_law_2765 (by first | decide | exact Nat.le_of_ble_eq_true rfl) rfl ?_
                                                                                      refine x_aload_n 2767 3 dL_law_2767 rfl ?_
                                                                                      refine x_aload_n 2768 1 dL_law_2768 rfl ?_
                                                                                      refine x_iload 2769 5 dL_law_2769 rfl ?_
                                                                                      refine x_iconst 2771 1 (1 : Int32) dL_law_2771 rfl ?_
                                                                                      refine x_iadd 2772 dL_law_2772 ?_
                                                                                      refine x_sld 2773 dL_law_2773 ?_
                                                                                      refine x_cV 2774 2 [.int (gx g (u6 + (1 : Int32)).toNatClampNeg)] [] ⟨by decide, rfl⟩ cv_X0_306 (im_X5_recover hl i3 (gx g (u6 + (1 : Int32)).toNatClampNeg)) (by exact ⟨Nat.le_of_ble_eq_true rfl, by decide⟩) rfl (Nat.le_of_ble_eq_true rfl) dL_law_2774 fun v479 => x_stI ?_
                                                                                      refine x_istore 2777 [(6, .int v479), (5, .int v477), (0, .ref (idc 51 0)), (1, .ref (idc 0 i1)), (2, .ref (idc 4 i3)), (3, .ref (idc 34 i5)), (4, .int u6)] dL_law_2777 (by first | decide | exact Nat.le_of_ble_eq_true rfl) rfl ?_
                                                                                      refine x_aload_n 2779 4 dL_law_2779 rfl ?_
                                                                                      refine x_cV 2780 0 [] [] ⟨by decide, rfl⟩ cv_X0_173 (im_X5_thrown hl i3) (by exact ⟨Nat.le_of_ble_eq_true rfl, by decide⟩) rfl (Nat.le_of_ble_eq_true rfl) dL_law_2780 fun v480 => x_stI ?_
                                                                                      refine x_iload 2783 1 dL_law_2783 rfl ?_
                                                                                      refine x_icmp_eq 2785 2790 dL_law_2785 rfl (fun c481 => ?_) (fun c481 => ?_)
                                                                                      · refine x_iload 2790 1 dL_law_2790 rfl ?_
                                                                                        refine x_if_ne 2792 2807 dL_law_2792 rfl (fun c482 => ?_) (fun c482 => ?_)
                                                                                        · refine x_aload_n 2795 5 dL_law_2795 rfl ?_
                                                                                          refine x_iconst 2796 0 (0 : Int32) dL_law_2796 rfl ?_
                                                                                          refine x_lald 2797 dL_law_2797 fun v483 => ?_
                                                                                          refine x_iload 2798 0 dL_law_2798 rfl ?_
                                                                                          refine x_i2l 2800 dL_law_2800 ?_
                                                                                          refine x_lcmp 2801 dL_law_2801 ?_
                                                                                          refine x_if_eq 2802 2807 dL_law_2802 rfl (fun c484 => ?_) (fun c484 => ?_)
                                                                                          · refine x_goto 2807 3320 dL_law_2807 rfl ?_
                                                                                            refine x_iinc 3320 6 [(4, .int (u6 + (6 : Int32))), (6, .int v479), (5, .int v477), (0, .ref (idc 51 0)), (1, .ref (idc 0 i1)), (2, .ref (idc 4 i3)), (3, .ref (idc 34 i5))] dL_law_3320 rfl rfl (by first | decide | exact Nat.le_of_ble_eq_true rfl) rfl ?_
                                                                                            refine x_goto 3323 23 dL_law_3323 rfl ?_
                                                                                            refine x_sub [3, 4, 5, 6, 0] _ rfl ?_
                                                                                            exact hr7 (u6 + (6 : Int32))
                                                                                          · refine x_iconst 2805 0 (0 : Int32) dL_law_2805 rfl ?_
                                                                                            exact x_zret 2806 hZ rfl dL_law_2806
                                                                                        · refine x_goto 2807 3320 dL_law_2807 rfl ?_
                                                                                          refine x_iinc 3320 6 [(4, .int (u6 + (6 : Int32))), (6, .int v479), (5, .int v477), (0, .ref (idc 51 0)), (1, .ref (idc 0 i1)), (2, .ref (idc 4 i3)), (3, .ref (idc 34 i5))] dL_law_3320 rfl rfl (by first | decide | exact Nat.le_of_ble_eq_true rfl) rfl ?_
                                                                                          refine x_goto 3323 23 dL_law_3323 rfl ?_
                                                                                          refine x_sub [3, 4, 5, 6, 0] _ rfl ?_
                                                                                          exact hr7 (u6 + (6 : Int32))
                                                                                      · refine x_iconst 2788 0 (0 : Int32) dL_law_2788 rfl ?_
                                                                                        exact x_zret 2789 hZ rfl dL_law_2789
                                                                                    · refine x_cnd (fun c485 => ?_) (fun c485 => ?_)
                                                                                      · refine x_tsw 40 2810 (41 : Int32) 41 2770 c485 rfl dL_law_40 (by first | decide | exact Nat.le_of_ble_eq_true rfl) (by first | decide | exact Nat.le_of_ble_eq_true rfl) rfl rfl ?_
                                                                                        refine x_aload_n 2810 1 dL_law_2810 rfl ?_
                                                                                        refine x_aload_n 2811 0 dL_law_2811 rfl ?_
                                                                                        refine x_iload 2812 4 dL_law_2812 rfl ?_
                                                                                        refine x_iconst 2814 1 (1 : Int32) dL_law_2814 rfl ?_
                                                                                        refine x_iadd 2815 dL_law_2815 ?_
                                                                                        refine x_sld 2816 dL_law_2816 ?_
                                                                                        refine x_aload_n 2817 0 dL_law_2817 rfl ?_
                                                                                        refine x_iload 2818 4 dL_law_2818 rfl ?_
                                                                                        refine x_iconst 2820 2 (2 : Int32) dL_law_2820 rfl ?_
                                                                                        refine x_iadd 2821 dL_law_2821 ?_
                                                                                        refine x_sld 2822 dL_law_2822 ?_
                                                                                        refine x_aload_n 2823 3 dL_law_2823 rfl ?_
                                                                                        refine x_cSW 2824 9 [.ref (idc 0 i1), .int (gx g (u6 + (1 : Int32)).toNatClampNeg), .int (gx g (u6 + (2 : Int32)).toNatClampNeg), .ref (idc 34 i5)] [] cs_X0_307 (im_X0_vouch hl (idc 0 i1) (gx g (u6 + (1 : Int32)).toNatClampNeg) (gx g (u6 + (2 : Int32)).toNatClampNeg) i5) (by exact ⟨Nat.le_of_ble_eq_true rfl, by decide⟩) rfl (Nat.le_of_ble_eq_true rfl) dL_law_2824 fun v488 => x_stI ?_
                                                                                        refine x_istore 2827 [(5, .int v488), (0, .ref (idc 51 0)), (1, .ref (idc 0 i1)), (2, .ref (idc 4 i3)), (3, .ref (idc 34 i5)), (4, .int u6)] dL_law_2827 (by first | decide | exact Nat.le_of_ble_eq_true rfl) rfl ?_
                                                                                        refine x_aload_n 2829 3 dL_law_2829 rfl ?_
                                                                                        refine x_aload_n 2830 1 dL_law_2830 rfl ?_
                                                                                        refine x_iload 2831 5 dL_law_2831 rfl ?_
                                                                                        refine x_iconst 2833 1 (1 : Int32) dL_law_2833 rfl ?_
                                                                                        refine x_iadd 2834 dL_law_2834 ?_
                                                                                        refine x_sld 2835 dL_law_2835 ?_
                                                                                        refine x_aload_n 2836 1 dL_law_2836 rfl ?_
                                                                                        refine x_iload 2837 5 dL_law_2837 rfl ?_
                                                                                        refine x_iconst 2839 2 (2 : Int32) dL_law_2839 rfl ?_
                                                                                        refine x_iadd 2840 dL_law_2840 ?_
                                                                                        refine x_sld 2841 dL_law_2841 ?_
                                                                                        refine x_cV 2842 2 [.int (gx g (u6 + (1 : Int32)).toNatClampNeg), .int (gx g (u6 + (2 : Int32)).toNatClampNeg)] [] ⟨by decide, rfl⟩ cv_X0_309 (im_X5_vouch hl i3 (gx g (u6 + (1 : Int32)).toNatClampNeg) (gx g (u6 + (2 : Int32)).toNatClampNeg)) (by exact ⟨Nat.le_of_ble_eq_true rfl, by decide⟩) rfl (Nat.le_of_ble_eq_true rfl) dL_law_2842 fun v491 => x_stI ?_
                                                                                        refine x_istore 2845 [(6, .int v491), (5, .int v488), (0, .ref (idc 51 0)), (1, .ref (idc 0 i1)), (2, .ref (idc 4 i3)), (3, .ref (idc 34 i5)), (4, .int u6)] dL_law_2845 (by first | decide | exact Nat.le_of_ble_eq_true rfl) rfl ?_
                                                                                        refine x_aload_n 2847 4 dL_law_2847 rfl ?_
                                                                                        refine x_cV 2848 0 [] [] ⟨by decide, rfl⟩ cv_X0_173 (im_X5_thrown hl i3) (by exact ⟨Nat.le_of_ble_eq_true rfl, by decide⟩) rfl (Nat.le_of_ble_eq_true rfl) dL_law_2848 fun v492 => x_stI ?_
                                                                                        refine x_iload 2851 1 dL_law_2851 rfl ?_
                                                                                        refine x_icmp_eq 2853 2858 dL_law_2853 rfl (fun c493 => ?_) (fun c493 => ?_)
                                                                                        · refine x_iload 2858 1 dL_law_2858 rfl ?_
                                                                                          refine x_if_ne 2860 2875 dL_law_2860 rfl (fun c494 => ?_) (fun c494 => ?_)
                                                                                          · refine x_aload_n 2863 5 dL_law_2863 rfl ?_
                                                                                            refine x_iconst 2864 0 (0 : Int32) dL_law_2864 rfl ?_
                                                                                            refine x_lald 2865 dL_law_2865 fun v495 => ?_
                                                                                            refine x_iload 2866 0 dL_law_2866 rfl ?_
                                                                                            refine x_i2l 2868 dL_law_2868 ?_
                                                                                            refine x_lcmp 2869 dL_law_2869 ?_
                                                                                            refine x_if_eq 2870 2875 dL_law_2870 rfl (fun c496 => ?_) (fun c496 => ?_)
                                                                                            · refine x_goto 2875 3320 dL_law_2875 rfl ?_
                                                                                              refine x_iinc 3320 6 [(4, .int (u6 + (6 : Int32))), (6, .int v491), (5, .int v488), (0, .ref (idc 51 0)), (1, .ref (idc 0 i1)), (2, .ref (idc 4 i3)), (3, .ref (idc 34 i5))] dL_law_3320 rfl rfl (by first | decide | exact Nat.le_of_ble_eq_true rfl) rfl ?_
                                                                                              refine x_goto 3323 23 dL_law_3323 rfl ?_
                                                                                              refine x_sub [3, 4, 5, 6, 0] _ rfl ?_
                                                                                              exact hr7 (u6 + (6 : Int32))
                                                                                            · refine x_iconst 2873 0 (0 : Int32) dL_law_2873 rfl ?_
                                                                                              exact x_zret 2874 hZ rfl dL_law_2874
                                                                                          · refine x_goto 2875 3320 dL_law_2875 rfl ?_
                                                                                            refine x_iinc 3320 6 [(4, .int (u6 + (6 : Int32))), (6, .int v491), (5, .int v488), (0, .ref (idc 51 0)), (1, .ref (idc 0 i1)), (2, .ref (idc 4 i3)), (3, .ref (idc 34 i5))] dL_law_3320 rfl rfl (by first | decide | exact Nat.le_of_ble_eq_true rfl) rfl ?_
                                                                                            refine x_goto 3323 23 dL_law_3323 rfl ?_
                                                                                            refine x_sub [3, 4, 5, 6, 0] _ rfl ?_
                                                                                            exact hr7 (u6 + (6 : Int32))
                                                                                        · refine x_iconst 2856 0 (0 : Int32) dL_law_2856 rfl ?_
                                                                                          exact x_zret 2857 hZ rfl dL_law_2857
                                                                                      · refine x_cnd (fun c497 => ?_) (fun c497 => ?_)
                                                                                        · refine x_tsw 40 2878 (42 : Int32) 42 2838 c497 rfl dL_law_40 (by first | decide | exact Nat.le_of_ble_eq_true rfl) (by first | decide | exact Nat.le_of_ble_eq_true rfl) rfl rfl ?_
                                                                                          refine x_aload_n 2878 1 dL_law_2878 rfl ?_
                                                                                          refine x_aload_n 2879 0 dL_law_2879 rfl ?_
                                                                                          refine x_iload 2880 4 dL_law_2880 rfl ?_
                                                                                          refine x_iconst 2882 1 (1 : Int32) dL_law_2882 rfl ?_
                                                                                          refine x_iadd 2883 dL_law_2883 ?_
                                                                                          refine x_sld 2884 dL_law_2884 ?_
                                                                                          refine x_aload_n 2885 0 dL_law_2885 rfl ?_
                                                                                          refine x_iload 2886 4 dL_law_2886 rfl ?_
                                                                                          refine x_iconst 2888 2 (2 : Int32) dL_law_2888 rfl ?_
                                                                                          refine x_iadd 2889 dL_law_2889 ?_
                                                                                          refine x_sld 2890 dL_law_2890 ?_
                                                                                          refine x_aload_n 2891 3 dL_law_2891 rfl ?_
                                                                                          refine x_cSW 2892 9 [.ref (idc 0 i1), .int (gx g (u6 + (1 : Int32)).toNatClampNeg), .int (gx g (u6 + (2 : Int32)).toNatClampNeg), .ref (idc 34 i5)] [] cs_X0_310 (im_X0_stop hl (idc 0 i1) (gx g (u6 + (1 : Int32)).toNatClampNeg) (gx g (u6 + (2 : Int32)).toNatClampNeg) i5) (by exact ⟨Nat.le_of_ble_eq_true rfl, by decide⟩) rfl (Nat.le_of_ble_eq_true rfl) dL_law_2892 fun v500 => x_stI ?_
                                                                                          refine x_istore 2895 [(5, .int v500), (0, .ref (idc 51 0)), (1, .ref (idc 0 i1)), (2, .ref (idc 4 i3)), (3, .ref (idc 34 i5)), (4, .int u6)] dL_law_2895 (by first | decide | exact Nat.le_of_ble_eq_true rfl) rfl ?_
                                                                                          refine x_aload_n 2897 3 dL_law_2897 rfl ?_
                                                                                          refine x_aload_n 2898 1 dL_law_2898 rfl ?_
                                                                                          refine x_iload 2899 5 dL_law_2899 rfl ?_
                                                                                          refine x_iconst 2901 1 (1 : Int32) dL_law_2901 rfl ?_
                                                                                          refine x_iadd 2902 dL_law_2902 ?_
                                                                                          refine x_sld 2903 dL_law_2903 ?_
                                                                                          refine x_aload_n 2904 1 dL_law_2904 rfl ?_
                                                                                          refine x_iload 2905 5 dL_law_2905 rfl ?_
                                                                                          refine x_iconst 2907 2 (2 : Int32) dL_law_2907 rfl ?_
                                                                                          refine x_iadd 2908 dL_law_2908 ?_
                                                                                          refine x_sld 2909 dL_law_2909 ?_
                                                                                          refine x_cV 2910 2 [.int (gx g (u6 + (1 : Int32)).toNatClampNeg), .int (gx g (u6 + (2 : Int32)).toNatClampNeg)] [] ⟨by decide, rfl⟩ cv_X0_312 (im_X5_stop hl i3 (gx g (u6 + (1 : Int32)).toNatClampNeg) (gx g (u6 + (2 : Int32)).toNatClampNeg)) (by exact ⟨Nat.le_of_ble_eq_true rfl, by decide⟩) rfl (Nat.le_of_ble_eq_true rfl) dL_law_2910 fun v503 => x_stI ?_
                                                                                          refine x_istore 2913 [(6, .int v503), (5, .int v500), (0, .ref (idc 51 0)), (1, .ref (idc 0 i1)), (2, .ref (idc 4 i3)), (3, .ref (idc 34 i5)), (4, .int u6)] dL_law_2913 (by first | decide | exact Nat.le_of_ble_eq_true rfl) rfl ?_
                                                                                          refine x_aload_n 2915 4 dL_law_2915 rfl ?_
                                                                                          refine x_cV 2916 0 [] [] ⟨by decide, rfl⟩ cv_X0_173 (im_X5_thrown hl i3) (by exact ⟨Nat.le_of_ble_eq_true rfl, by decide⟩) rfl (Nat.le_of_ble_eq_true rfl) dL_law_2916 fun v504 => x_stI ?_
                                                                                          refine x_iload 2919 1 dL_law_2919 rfl ?_
                                                                                          refine x_icmp_eq 2921 2926 dL_law_2921 rfl (fun c505 => ?_) (fun c505 => ?_)
                                                                                          · refine x_iload 2926 1 dL_law_2926 rfl ?_
                                                                                            refine x_if_ne 2928 2943 dL_law_2928 rfl (fun c506 => ?_) (fun c506 => ?_)
                                                                                            · refine x_aload_n 2931 5 dL_law_2931 rfl ?_
                                                                                              refine x_iconst 2932 0 (0 : Int32) dL_law_2932 rfl ?_
                                                                                              refine x_lald 2933 dL_law_2933 fun v507 => ?_
                                                                                              refine x_iload 2934 0 dL_law_2934 rfl ?_
                                                                                              refine x_i2l 2936 dL_law_2936 ?_
                                                                                              refine x_lcmp 2937 dL_law_2937 ?_
                                                                                              refine x_if_eq 2938 2943 dL_law_2938 rfl (fun c508 => ?_) (fun c508 => ?_)
                                                                                              · refine x_goto 2943 3320 dL_law_2943 rfl ?_
                                                                                                refine x_iinc 3320 6 [(4, .int (u6 + (6 : Int32))), (6, .int v503), (5, .int v500), (0, .ref (idc 51 0)), (1, .ref (idc 0 i1)), (2, .ref (idc 4 i3)), (3, .ref (idc 34 i5))] dL_law_3320 rfl rfl (by first | decide | exact Nat.le_of_ble_eq_true rfl) rfl ?_
                                                                                                refine x_goto 3323 23 dL_law_3323 rfl ?_
                                                                                                refine x_sub [3, 4, 5, 6, 0] _ rfl ?_
                                                                                                exact hr7 (u6 + (6 : Int32))
                                                                                              · refine x_iconst 2941 0 (0 : Int32) dL_law_2941 rfl ?_
                                                                                                exact x_zret 2942 hZ rfl dL_law_2942
                                                                                            · refine x_goto 2943 3320 dL_law_2943 rfl ?_
                                                                                              refine x_iinc 3320 6 [(4, .int (u6 + (6 : Int32))), (6, .int v503), (5, .int v500), (0, .ref (idc 51 0)), (1, .ref (idc 0 i1)), (2, .ref (idc 4 i3)), (3, .ref (idc 34 i5))] dL_law_3320 rfl rfl (by first | decide | exact Nat.le_of_ble_eq_true rfl) rfl ?_
                                                                                              refine x_goto 3323 23 dL_law_3323 rfl ?_
                                                                                              refine x_sub [3, 4, 5, 6, 0] _ rfl ?_
                                                                                              exact hr7 (u6 + (6 : Int32))
                                                                                          · refine x_iconst 2924 0 (0 : Int32) dL_law_2924 rfl ?_
                                                                                            exact x_zret 2925 hZ rfl dL_law_2925
                                                                                        · refine x_cnd (fun c509 => ?_) (fun c509 => ?_)
                                                                                          · refine x_tsw 40 2946 (43 : Int32) 43 2906 c509 rfl dL_law_40 (by first | decide | exact Nat.le_of_ble_eq_true rfl) (by first | decide | exact Nat.le_of_ble_eq_true rfl) rfl rfl ?_
                                                                                            refine x_aload_n 2946 1 dL_law_2946 rfl ?_
                                                                                            refine x_aload_n 2947 0 dL_law_2947 rfl ?_
                                                                                            refine x_iload 2948 4 dL_law_2948 rfl ?_
                                                                                            refine x_iconst 2950 1 (1 : Int32) dL_law_2950 rfl ?_
                                                                                            refine x_iadd 2951 dL_law_2951 ?_
                                                                                            refine x_sld 2952 dL_law_2952 ?_
                                                                                            refine x_aload_n 2953 3 dL_law_2953 rfl ?_
                                                                                            refine x_cSW 2954 44 [.ref (idc 0 i1), .int (gx g (u6 + (1 : Int32)).toNatClampNeg), .ref (idc 34 i5)] [] cs_X0_313 (im_X0_finish hl (idc 0 i1) (gx g (u6 + (1 : Int32)).toNatClampNeg) i5) (by exact ⟨Nat.le_of_ble_eq_true rfl, by decide⟩) rfl (Nat.le_of_ble_eq_true rfl) dL_law_2954 fun v511 => x_stI ?_
                                                                                            refine x_istore 2957 [(5, .int v511), (0, .ref (idc 51 0)), (1, .ref (idc 0 i1)), (2, .ref (idc 4 i3)), (3, .ref (idc 34 i5)), (4, .int u6)] dL_law_2957 (by first | decide | exact Nat.le_of_ble_eq_true rfl) rfl ?_
                                                                                            refine x_aload_n 2959 3 dL_law_2959 rfl ?_
                                                                                            refine x_aload_n 2960 1 dL_law_2960 rfl ?_
                                                                                            refine x_iload 2961 5 dL_law_2961 rfl ?_
                                                                                            refine x_iconst 2963 1 (1 : Int32) dL_law_2963 rfl ?_
                                                                                            refine x_iadd 2964 dL_law_2964 ?_
                                                                                            refine x_sld 2965 dL_law_2965 ?_
                                                                                            refine x_cV 2966 5 [.int (gx g (u6 + (1 : Int32)).toNatClampNeg)] [] ⟨by decide, rfl⟩ cv_X0_315 (im_X5_finish hl i3 (gx g (u6 + (1 : Int32)).toNatClampNeg)) (by exact ⟨Nat.le_of_ble_eq_true rfl, by decide⟩) rfl (Nat.le_of_ble_eq_true rfl) dL_law_2966 fun v513 => x_stI ?_
                                                                                            refine x_istore 2969 [(6, .int v513), (5, .int v511), (0, .ref (idc 51 0)), (1, .ref (idc 0 i1)), (2, .ref (idc 4 i3)), (3, .ref (idc 34 i5)), (4, .int u6)] dL_law_2969 (by first | decide | exact Nat.le_of_ble_eq_true rfl) rfl ?_
                                                                                            refine x_aload_n 2971 4 dL_law_2971 rfl ?_
                                                                                            refine x_cV 2972 0 [] [] ⟨by decide, rfl⟩ cv_X0_173 (im_X5_thrown hl i3) (by exact ⟨Nat.le_of_ble_eq_true rfl, by decide⟩) rfl (Nat.le_of_ble_eq_true rfl) dL_law_2972 fun v514 => x_stI ?_
                                                                                            refine x_iload 2975 1 dL_law_2975 rfl ?_
                                                                                            refine x_icmp_eq 2977 2982 dL_law_2977 rfl (fun c515 => ?_) (fun c515 => ?_)
                                                                                            · refine x_iload 2982 1 dL_law_2982 rfl ?_
                                                                                              refine x_if_ne 2984 2999 dL_law_2984 rfl (fun c516 => ?_) (fun c516 => ?_)
                                                                                              · refine x_aload_n 2987 5 dL_law_2987 rfl ?_
                                                                                                refine x_iconst 2988 0 (0 : Int32) dL_law_2988 rfl ?_
                                                                                                refine x_lald 2989 dL_law_2989 fun v517 => ?_
                                                                                                refine x_iload 2990 0 dL_law_2990 rfl ?_
                                                                                                refine x_i2l 2992 dL_law_2992 ?_
                                                                                                refine x_lcmp 2993 dL_law_2993 ?_
                                                                                                refine x_if_eq 2994 2999 dL_law_2994 rfl (fun c518 => ?_) (fun c518 => ?_)
                                                                                                · refine x_goto 2999 3320 dL_law_2999 rfl ?_
                                                                                                  refine x_iinc 3320 6 [(4, .int (u6 + (6 : Int32))), (6, .int v513), (5, .int v511), (0, .ref (idc 51 0)), (1, .ref (idc 0 i1)), (2, .ref (idc 4 i3)), (3, .ref (idc 34 i5))] dL_law_3320 rfl rfl (by first | decide | exact Nat.le_of_ble_eq_true rfl) rfl ?_
                                                                                                  refine x_goto 3323 23 dL_law_3323 rfl ?_
                                                                                                  refine x_sub [3, 4, 5, 6, 0] _ rfl ?_
                                                                                                  exact hr7 (u6 + (6 : Int32))
                                                                                                · refine x_iconst 2997 0 (0 : Int32) dL_law_2997 rfl ?_
                                                                                                  exact x_zret 2998 hZ rfl dL_law_2998
                                                                                              · refine x_goto 2999 3320 dL_law_2999 rfl ?_
                                                                                                refine x_iinc 3320 6 [(4, .int (u6 + (6 : Int32))), (6, .int v513), (5, .int v511), (0, .ref (idc 51 0)), (1, .ref (idc 0 i1)), (2, .ref (idc 4 i3)), (3, .ref (idc 34 i5))] dL_law_3320 rfl rfl (by first | decide | exact Nat.le_of_ble_eq_true rfl) rfl ?_
                                                                                                refine x_goto 3323 23 dL_law_3323 rfl ?_
                                                                                                refine x_sub [3, 4, 5, 6, 0] _ rfl ?_
                                                                                                exact hr7 (u6 + (6 : Int32))
                                                                                            · refine x_iconst 2980 0 (0 : Int32) dL_law_2980 rfl ?_
                                                                                              exact x_zret 2981 hZ rfl dL_law_2981
                                                                                          · refine x_cnd (fun c519 => ?_) (fun c519 => ?_)
                                                                                            · refine x_tsw 40 3002 (44 : Int32) 44 2962 c519 rfl dL_law_40 (by first | decide | exact Nat.le_of_ble_eq_true rfl) (by first | decide | exact Nat.le_of_ble_eq_true rfl) rfl rfl ?_
                                                                                              refine x_aload_n 3002 1 dL_law_3002 rfl ?_
                                                                                              refine x_aload_n 3003 0 dL_law_3003 rfl ?_
                                                                                              refine x_iload 3004 4 dL_law_3004 rfl ?_
                                                                                              refine x_iconst 3006 1 (1 : Int32) dL_law_3006 rfl ?_
                                                                                              refine x_iadd 3007 dL_law_3007 ?_
                                                                                              refine x_sld 3008 dL_law_3008 ?_
                                                                                              refine x_aload_n 3009 0 dL_law_3009 rfl ?_
                                                                                              refine x_iload 3010 4 dL_law_3010 rfl ?_
                                                                                              refine x_iconst 3012 2 (2 : Int32) dL_law_3012 rfl ?_
                                                                                              refine x_iadd 3013 dL_law_3013 ?_
                                                                                              refine x_sld 3014 dL_law_3014 ?_
                                                                                              refine x_aload_n 3015 3 dL_law_3015 rfl ?_
                                                                                              refine x_cSW 3016 9 [.ref (idc 0 i1), .int (gx g (u6 + (1 : Int32)).toNatClampNeg), .int (gx g (u6 + (2 : Int32)).toNatClampNeg), .ref (idc 34 i5)] [] cs_X0_316 (im_X0_link hl (idc 0 i1) (gx g (u6 + (1 : Int32)).toNatClampNeg) (gx g (u6 + (2 : Int32)).toNatClampNeg) i5) (by exact ⟨Nat.le_of_ble_eq_true rfl, by decide⟩) rfl (Nat.le_of_ble_eq_true rfl) dL_law_3016 fun v522 => x_stI ?_
                                                                                              refine x_istore 3019 [(5, .int v522), (0, .ref (idc 51 0)), (1, .ref (idc 0 i1)), (2, .ref (idc 4 i3)), (3, .ref (idc 34 i5)), (4, .int u6)] dL_law_3019 (by first | decide | exact Nat.le_of_ble_eq_true rfl) rfl ?_
                                                                                              refine x_aload_n 3021 3 dL_law_3021 rfl ?_
                                                                                              refine x_aload_n 3022 1 dL_law_3022 rfl ?_
                                                                                              refine x_iload 3023 5 dL_law_3023 rfl ?_
                                                                                              refine x_iconst 3025 1 (1 : Int32) dL_law_3025 rfl ?_
                                                                                              refine x_iadd 3026 dL_law_3026 ?_
                                                                                              refine x_sld 3027 dL_law_3027 ?_
                                                                                              refine x_aload_n 3028 1 dL_law_3028 rfl ?_
                                                                                              refine x_iload 3029 5 dL_law_3029 rfl ?_
                                                                                              refine x_iconst 3031 2 (2 : Int32) dL_law_3031 rfl ?_
                                                                                              refine x_iadd 3032 dL_law_3032 ?_
                                                                                              refine x_sld 3033 dL_law_3033 ?_
                                                                                              refine x_cV 3034 2 [.int (gx g (u6 + (1 : Int32)).toNatClampNeg), .int (gx g (u6 + (2 : Int32)).toNatClampNeg)] [] ⟨by decide, rfl⟩ cv_X0_318 (im_X5_link hl i3 (gx g (u6 + (1 : Int32)).toNatClampNeg) (gx g (u6 + (2 : Int32)).toNatClampNeg)) (by exact ⟨Nat.le_of_ble_eq_true rfl, by decide⟩) rfl (Nat.le_of_ble_eq_true rfl) dL_law_3034 fun v525 => x_stI ?_
                                                                                              refine x_istore 3037 [(6, .int v525), (5, .int v522), (0, .ref (idc 51 0)), (1, .ref (idc 0 i1)), (2, .ref (idc 4 i3)), (3, .ref (idc 34 i5)), (4, .int u6)] dL_law_3037 (by first | decide | exact Nat.le_of_ble_eq_true rfl) rfl ?_
                                                                                              refine x_aload_n 3039 4 dL_law_3039 rfl ?_
                                                                                              refine x_cV 3040 0 [] [] ⟨by decide, rfl⟩ cv_X0_173 (im_X5_thrown hl i3) (by exact ⟨Nat.le_of_ble_eq_true rfl, by decide⟩) rfl (Nat.le_of_ble_eq_true rfl) dL_law_3040 fun v526 => x_stI ?_
                                                                                              refine x_iload 3043 1 dL_law_3043 rfl ?_
                                                                                              refine x_icmp_eq 3045 3050 dL_law_3045 rfl (fun c527 => ?_) (fun c527 => ?_)
                                                                                              · refine x_iload 3050 1 dL_law_3050 rfl ?_
                                                                                                refine x_if_ne 3052 3067 dL_law_3052 rfl (fun c528 => ?_) (fun c528 => ?_)
                                                                                                · refine x_aload_n 3055 5 dL_law_3055 rfl ?_
                                                                                                  refine x_iconst 3056 0 (0 : Int32) dL_law_3056 rfl ?_
                                                                                                  refine x_lald 3057 dL_law_3057 fun v529 => ?_
                                                                                                  refine x_iload 3058 0 dL_law_3058 rfl ?_
                                                                                                  refine x_i2l 3060 dL_law_3060 ?_
                                                                                                  refine x_lcmp 3061 dL_law_3061 ?_
                                                                                                  refine x_if_eq 3062 3067 dL_law_3062 rfl (fun c530 => ?_) (fun c530 => ?_)
                                                                                                  · refine x_goto 3067 3320 dL_law_3067 rfl ?_
                                                                                                    refine x_iinc 3320 6 [(4, .int (u6 + (6 : Int32))), (6, .int v525), (5, .int v522), (0, .ref (idc 51 0)), (1, .ref (idc 0 i1)), (2, .ref (idc 4 i3)), (3, .ref (idc 34 i5))] dL_law_3320 rfl rfl (by first | decide | exact Nat.le_of_ble_eq_true rfl) rfl ?_
                                                                                                    refine x_goto 3323 23 dL_law_3323 rfl ?_
                                                                                                    refine x_sub [3, 4, 5, 6, 0] _ rfl ?_
                                                                                                    exact hr7 (u6 + (6 : Int32))
                                                                                                  · refine x_iconst 3065 0 (0 : Int32) dL_law_3065 rfl ?_
                                                                                                    exact x_zret 3066 hZ rfl dL_law_3066
                                                                                                · refine x_goto 3067 3320 dL_law_3067 rfl ?_
                                                                                                  refine x_iinc 3320 6 [(4, .int (u6 + (6 : Int32))), (6, .int v525), (5, .int v522), (0, .ref (idc 51 0)), (1, .ref (idc 0 i1)), (2, .ref (idc 4 i3)), (3, .ref (idc 34 i5))] dL_law_3320 rfl rfl (by first | decide | exact Nat.le_of_ble_eq_true rfl) rfl ?_
                                                                                                  refine x_goto 3323 23 dL_law_3323 rfl ?_
                                                                                                  refine x_sub [3, 4, 5, 6, 0] _ rfl ?_
                                                                                                  exact hr7 (u6 + (6 : Int32))
                                                                                              · refine x_iconst 3048 0 (0 : Int32) dL_law_3048 rfl ?_
                                                                                                exact x_zret 3049 hZ rfl dL_law_3049
                                                                                            · refine x_cnd (fun c531 => ?_) (fun c531 => ?_)
                                                                                              · refine x_tsw 40 3070 (45 : Int32) 45 3030 c531 rfl dL_law_40 (by first | decide | exact Nat.le_of_ble_eq_true rfl) (by first | decide | exact Nat.le_of_ble_eq_true rfl) rfl rfl ?_
                                                                                                refine x_aload_n 3070 1 dL_law_3070 rfl ?_
                                                                                                refine x_aload_n 3071 0 dL_law_3071 rfl ?_
                                                                                                refine x_iload 3072 4 dL_law_3072 rfl ?_
                                                                                                refine x_iconst 3074 1 (1 : Int32) dL_law_3074 rfl ?_
                                                                                                refine x_iadd 3075 dL_law_3075 ?_
                                                                                                refine x_sld 3076 dL_law_3076 ?_
                                                                                                refine x_aload_n 3077 3 dL_law_3077 rfl ?_
                                                                                                refine x_cSW 3078 10 [.ref (idc 0 i1), .int (gx g (u6 + (1 : Int32)).toNatClampNeg), .ref (idc 34 i5)] [] cs_X0_319 (im_X0_foreign hl (idc 0 i1) (gx g (u6 + (1 : Int32)).toNatClampNeg) i5) (by exact ⟨Nat.le_of_ble_eq_true rfl, by decide⟩) rfl (Nat.le_of_ble_eq_true rfl) dL_law_3078 fun v533 => x_stI ?_
                                                                                                refine x_istore 3081 [(5, .int v533), (0, .ref (idc 51 0)), (1, .ref (idc 0 i1)), (2, .ref (idc 4 i3)), (3, .ref (idc 34 i5)), (4, .int u6)] dL_law_3081 (by first | decide | exact Nat.le_of_ble_eq_true rfl) rfl ?_
                                                                                                refine x_aload_n 3083 3 dL_law_3083 rfl ?_
                                                                                                refine x_aload_n 3084 1 dL_law_3084 rfl ?_
                                                                                                refine x_iload 3085 5 dL_law_3085 rfl ?_
                                                                                                refine x_iconst 3087 1 (1 : Int32) dL_law_3087 rfl ?_
                                                                                                refine x_iadd 3088 dL_law_3088 ?_
                                                                                                refine x_sld 3089 dL_law_3089 ?_
                                                                                                refine x_cV 3090 2 [.int (gx g (u6 + (1 : Int32)).toNatClampNeg)] [] ⟨by decide, rfl⟩ cv_X0_321 (im_X5_foreign hl i3 (gx g (u6 + (1 : Int32)).toNatClampNeg)) (by exact ⟨Nat.le_of_ble_eq_true rfl, by decide⟩) rfl (Nat.le_of_ble_eq_true rfl) dL_law_3090 fun v535 => x_stI ?_
                                                                                                refine x_istore 3093 [(6, .int v535), (5, .int v533), (0, .ref (idc 51 0)), (1, .ref (idc 0 i1)), (2, .ref (idc 4 i3)), (3, .ref (idc 34 i5)), (4, .int u6)] dL_law_3093 (by first | decide | exact Nat.le_of_ble_eq_true rfl) rfl ?_
                                                                                                refine x_aload_n 3095 4 dL_law_3095 rfl ?_
                                                                                                refine x_cV 3096 0 [] [] ⟨by decide, rfl⟩ cv_X0_173 (im_X5_thrown hl i3) (by exact ⟨Nat.le_of_ble_eq_true rfl, by decide⟩) rfl (Nat.le_of_ble_eq_true rfl) dL_law_3096 fun v536 => x_stI ?_
                                                                                                refine x_iload 3099 1 dL_law_3099 rfl ?_
                                                                                                refine x_icmp_eq 3101 3106 dL_law_3101 rfl (fun c537 => ?_) (fun c537 => ?_)
                                                                                                · refine x_iload 3106 1 dL_law_3106 rfl ?_
                                                                                                  refine x_if_ne 3108 3123 dL_law_3108 rfl (fun c538 => ?_) (fun c538 => ?_)
                                                                                                  · refine x_aload_n 3111 5 dL_law_3111 rfl ?_
                                                                                                    refine x_iconst 3112 0 (0 : Int32) dL_law_3112 rfl ?_
                                                                                                    refine x_lald 3113 dL_law_3113 fun v539 => ?_
                                                                                                    refine x_iload 3114 0 dL_law_3114 rfl ?_
                                                                                                    refine x_i2l 3116 dL_law_3116 ?_
                                                                                                    refine x_lcmp 3117 dL_law_3117 ?_
                                                                                                    refine x_if_eq 3118 3123 dL_law_3118 rfl (fun c540 => ?_) (fun c540 => ?_)
                                                                                                    · refine x_goto 3123 3320 dL_law_3123 rfl ?_
                                                                                                      refine x_iinc 3320 6 [(4, .int (u6 + (6 : Int32))), (6, .int v535), (5, .int v533), (0, .ref (idc 51 0)), (1, .ref (idc 0 i1)), (2, .ref (idc 4 i3)), (3, .ref (idc 34 i5))] dL_law_3320 rfl rfl (by first | decide | exact Nat.le_of_ble_eq_true rfl) rfl ?_
                                                                                                      refine x_goto 3323 23 dL_law_3323 rfl ?_
                                                                                                      refine x_sub [3, 4, 5, 6, 0] _ rfl ?_
                                                                                                      exact hr7 (u6 + (6 : Int32))
                                                                                                    · refine x_iconst 3121 0 (0 : Int32) dL_law_3121 rfl ?_
                                                                                                      exact x_zret 3122 hZ rfl dL_law_3122
                                                                                                  · refine x_goto 3123 3320 dL_law_3123 rfl ?_
                                                                                                    refine x_iinc 3320 6 [(4, .int (u6 + (6 : Int32))), (6, .int v535), (5, .int v533), (0, .ref (idc 51 0)), (1, .ref (idc 0 i1)), (2, .ref (idc 4 i3)), (3, .ref (idc 34 i5))] dL_law_3320 rfl rfl (by first | decide | exact Nat.le_of_ble_eq_true rfl) rfl ?_
                                                                                                    refine x_goto 3323 23 dL_law_3323 rfl ?_
                                                                                                    refine x_sub [3, 4, 5, 6, 0] _ rfl ?_
                                                                                                    exact hr7 (u6 + (6 : Int32))
                                                                                                · refine x_iconst 3104 0 (0 : Int32) dL_law_3104 rfl ?_
                                                                                                  exact x_zret 3105 hZ rfl dL_law_3105
                                                                                              · refine x_cnd (fun c541 => ?_) (fun c541 => ?_)
                                                                                                · refine x_tsw 40 3126 (46 : Int32) 46 3086 c541 rfl dL_law_40 (by first | decide | exact Nat.le_of_ble_eq_true rfl) (by first | decide | exact Nat.le_of_ble_eq_true rfl) rfl rfl ?_
                                                                                                  refine x_aload_n 3126 1 dL_law_3126 rfl ?_
                                                                                                  refine x_aload_n 3127 0 dL_law_3127 rfl ?_
                                                                                                  refine x_iload 3128 4 dL_law_3128 rfl ?_
                                                                                                  refine x_iconst 3130 1 (1 : Int32) dL_law_3130 rfl ?_
                                                                                                  refine x_iadd 3131 dL_law_3131 ?_
                                                                                                  refine x_sld 3132 dL_law_3132 ?_
                                                                                                  refine x_aload_n 3133 3 dL_law_3133 rfl ?_
                                                                                                  refine x_cSW 3134 43 [.ref (idc 0 i1), .int (gx g (u6 + (1 : Int32)).toNatClampNeg), .ref (idc 34 i5)] [] cs_X0_322 (im_X0_leave hl (idc 0 i1) (gx g (u6 + (1 : Int32)).toNatClampNeg) i5) (by exact ⟨Nat.le_of_ble_eq_true rfl, by decide⟩) rfl (Nat.le_of_ble_eq_true rfl) dL_law_3134 fun v543 => x_stI ?_
                                                                                                  refine x_istore 3137 [(5, .int v543), (0, .ref (idc 51 0)), (1, .ref (idc 0 i1)), (2, .ref (idc 4 i3)), (3, .ref (idc 34 i5)), (4, .int u6)] dL_law_3137 (by first | decide | exact Nat.le_of_ble_eq_true rfl) rfl ?_
                                                                                                  refine x_aload_n 3139 3 dL_law_3139 rfl ?_
                                                                                                  refine x_aload_n 3140 1 dL_law_3140 rfl ?_
                                                                                                  refine x_iload 3141 5 dL_law_3141 rfl ?_
                                                                                                  refine x_iconst 3143 1 (1 : Int32) dL_law_3143 rfl ?_
                                                                                                  refine x_iadd 3144 dL_law_3144 ?_
                                                                                                  refine x_sld 3145 dL_law_3145 ?_
                                                                                                  refine x_cV 3146 5 [.int (gx g (u6 + (1 : Int32)).toNatClampNeg)] [] ⟨by decide, rfl⟩ cv_X0_324 (im_X5_leave hl i3 (gx g (u6 + (1 : Int32)).toNatClampNeg)) (by exact ⟨Nat.le_of_ble_eq_true rfl, by decide⟩) rfl (Nat.le_of_ble_eq_true rfl) dL_law_3146 fun v545 => x_stI ?_
                                                                                                  refine x_istore 3149 [(6, .int v545), (5, .int v543), (0, .ref (idc 51 0)), (1, .ref (idc 0 i1)), (2, .ref (idc 4 i3)), (3, .ref (idc 34 i5)), (4, .int u6)] dL_law_3149 (by first | decide | exact Nat.le_of_ble_eq_true rfl) rfl ?_
                                                                                                  refine x_aload_n 3151 4 dL_law_3151 rfl ?_
                                                                                                  refine x_cV 3152 0 [] [] ⟨by decide, rfl⟩ cv_X0_173 (im_X5_thrown hl i3) (by exact ⟨Nat.le_of_ble_eq_true rfl, by decide⟩) rfl (Nat.le_of_ble_eq_true rfl) dL_law_3152 fun v546 => x_stI ?_
                                                                                                  refine x_iload 3155 1 dL_law_3155 rfl ?_
                                                                                                  refine x_icmp_eq 3157 3162 dL_law_3157 rfl (fun c547 => ?_) (fun c547 => ?_)
                                                                                                  · refine x_iload 3162 1 dL_law_3162 rfl ?_
                                                                                                    refine x_if_ne 3164 3179 dL_law_3164 rfl (fun c548 => ?_) (fun c548 => ?_)
                                                                                                    · refine x_aload_n 3167 5 dL_law_3167 rfl ?_
                                                                                                      refine x_iconst 3168 0 (0 : Int32) dL_law_3168 rfl ?_
                                                                                                      refine x_lald 3169 dL_law_3169 fun v549 => ?_
                                                                                                      refine x_iload 3170 0 dL_law_3170 rfl ?_
                                                                                                      refine x_i2l 3172 dL_law_3172 ?_
                                                                                                      refine x_lcmp 3173 dL_law_3173 ?_
                                                                                                      refine x_if_eq 3174 3179 dL_law_3174 rfl (fun c550 => ?_) (fun c550 => ?_)
                                                                                                      · refine x_goto 3179 3320 dL_law_3179 rfl ?_
                                                                                                        refine x_iinc 3320 6 [(4, .int (u6 + (6 : Int32))), (6, .int v545), (5, .int v543), (0, .ref (idc 51 0)), (1, .ref (idc 0 i1)), (2, .ref (idc 4 i3)), (3, .ref (idc 34 i5))] dL_law_3320 rfl rfl (by first | decide | exact Nat.le_of_ble_eq_true rfl) rfl ?_
                                                                                                        refine x_goto 3323 23 dL_law_3323 rfl ?_
                                                                                                        refine x_sub [3, 4, 5, 6, 0] _ rfl ?_
                                                                                                        exact hr7 (u6 + (6 : Int32))
                                                                                                      · refine x_iconst 3177 0 (0 : Int32) dL_law_3177 rfl ?_
                                                                                                        exact x_zret 3178 hZ rfl dL_law_3178
                                                                                                    · refine x_goto 3179 3320 dL_law_3179 rfl ?_
                                                                                                      refine x_iinc 3320 6 [(4, .int (u6 + (6 : Int32))), (6, .int v545), (5, .int v543), (0, .ref (idc 51 0)), (1, .ref (idc 0 i1)), (2, .ref (idc 4 i3)), (3, .ref (idc 34 i5))] dL_law_3320 rfl rfl (by first | decide | exact Nat.le_of_ble_eq_true rfl) rfl ?_
                                                                                                      refine x_goto 3323 23 dL_law_3323 rfl ?_
                                                                                                      refine x_sub [3, 4, 5, 6, 0] _ rfl ?_
                                                                                                      exact hr7 (u6 + (6 : Int32))
                                                                                                  · refine x_iconst 3160 0 (0 : Int32) dL_law_3160 rfl ?_
                                                                                                    exact x_zret 3161 hZ rfl dL_law_3161
                                                                                                · refine x_cnd (fun c551 => ?_) (fun c551 => ?_)
                                                                                                  · refine x_tsw 40 3182 (47 : Int32) 47 3142 c551 rfl dL_law_40 (by first | decide | exact Nat.le_of_ble_eq_true rfl) (by first | decide | exact Nat.le_of_ble_eq_true rfl) rfl rfl ?_
                                                                                                    refine x_aload_n 3182 1 dL_law_3182 rfl ?_
                                                                                                    refine x_cV 3183 1 [] [] ⟨by decide, rfl⟩ cv_X0_325 (im_X1_audits hl i1) (by exact ⟨Nat.le_of_ble_eq_true rfl, by decide⟩) rfl (Nat.le_of_ble_eq_true rfl) dL_law_3183 fun v552 => x_stI ?_
                                                                                                    refine x_aload_n 3186 2 dL_law_3186 rfl ?_
                                                                                                    refine x_cV 3187 0 [] [.int v552] ⟨by decide, rfl⟩ cv_X0_328 (im_X5_audits hl i3) (by exact ⟨Nat.le_of_ble_eq_true rfl, by decide⟩) rfl (Nat.le_of_ble_eq_true rfl) dL_law_3187 fun v553 => x_stI ?_
                                                                                                    refine x_icmp_eq 3190 3320 dL_law_3190 rfl (fun c554 => ?_) (fun c554 => ?_)
                                                                                                    · refine x_iinc 3320 4 [(4, .int (u6 + (6 : Int32))), (0, .ref (idc 51 0)), (1, .ref (idc 0 i1)), (2, .ref (idc 4 i3)), (3, .ref (idc 34 i5))] dL_law_3320 rfl rfl (by first | decide | exact Nat.le_of_ble_eq_true rfl) rfl ?_
                                                                                                      refine x_goto 3323 23 dL_law_3323 rfl ?_
                                                                                                      refine x_sub [1, 2, 3, 4, 0] _ rfl ?_
                                                                                                      exact hr7 (u6 + (6 : Int32))
                                                                                                    · refine x_iconst 3193 0 (0 : Int32) dL_law_3193 rfl ?_
                                                                                                      exact x_zret 3194 hZ rfl dL_law_3194
                                                                                                  · refine x_cnd (fun c555 => ?_) (fun c555 => ?_)
                                                                                                    · refine x_tsw 40 3195 (48 : Int32) 48 3155 c555 rfl dL_law_40 (by first | decide | exact Nat.le_of_ble_eq_true rfl) (by first | decide | exact Nat.le_of_ble_eq_true rfl) rfl rfl ?_
                                                                                                      refine x_aload_n 3195 1 dL_law_3195 rfl ?_
                                                                                                      refine x_aload_n 3196 0 dL_law_3196 rfl ?_
                                                                                                      refine x_iload 3197 4 dL_law_3197 rfl ?_
                                                                                                      refine x_iconst 3199 1 (1 : Int32) dL_law_3199 rfl ?_
                                                                                                      refine x_iadd 3200 dL_law_3200 ?_
                                                                                                      refine x_sld 3201 dL_law_3201 ?_
                                                                                                      refine x_aload_n 3202 3 dL_law_3202 rfl ?_
                                                                                                      refine x_cSW 3203 9 [.ref (idc 0 i1), .int (gx g (u6 + (1 : Int32)).toNatClampNeg), .ref (idc 34 i5)] [] cs_X0_329 (im_X0_audit hl (idc 0 i1) (gx g (u6 + (1 : Int32)).toNatClampNeg) i5) (by exact ⟨Nat.le_of_ble_eq_true rfl, by decide⟩) rfl (Nat.le_of_ble_eq_true rfl) dL_law_3203 fun v557 => x_stI ?_
                                                                                                      refine x_istore 3206 [(5, .int v557), (0, .ref (idc 51 0)), (1, .ref (idc 0 i1)), (2, .ref (idc 4 i3)), (3, .ref (idc 34 i5)), (4, .int u6)] dL_law_3206 (by first | decide | exact Nat.le_of_ble_eq_true rfl) rfl ?_
                                                                                                      refine x_aload_n 3208 3 dL_law_3208 rfl ?_
                                                                                                      refine x_aload_n 3209 1 dL_law_3209 rfl ?_
                                                                                                      refine x_iload 3210 5 dL_law_3210 rfl ?_
                                                                                                      refine x_iconst 3212 1 (1 : Int32) dL_law_3212 rfl ?_
                                                                                                      refine x_iadd 3213 dL_law_3213 ?_
                                                                                                      refine x_sld 3214 dL_law_3214 ?_
                                                                                                      refine x_cV 3215 1 [.int (gx g (u6 + (1 : Int32)).toNatClampNeg)] [] ⟨by decide, rfl⟩ cv_X0_331 (im_X5_audit hl i3 (gx g (u6 + (1 : Int32)).toNatClampNeg)) (by exact ⟨Nat.le_of_ble_eq_true rfl, by decide⟩) rfl (Nat.le_of_ble_eq_true rfl) dL_law_3215 fun v559 => x_stI ?_
                                                                                                      refine x_istore 3218 [(6, .int v559), (5, .int v557), (0, .ref (idc 51 0)), (1, .ref (idc 0 i1)), (2, .ref (idc 4 i3)), (3, .ref (idc 34 i5)), (4, .int u6)] dL_law_3218 (by first | decide | exact Nat.le_of_ble_eq_true rfl) rfl ?_
                                                                                                      refine x_aload_n 3220 4 dL_law_3220 rfl ?_
                                                                                                      refine x_cV 3221 0 [] [] ⟨by decide, rfl⟩ cv_X0_173 (im_X5_thrown hl i3) (by exact ⟨Nat.le_of_ble_eq_true rfl, by decide⟩) rfl (Nat.le_of_ble_eq_true rfl) dL_law_3221 fun v560 => x_stI ?_
                                                                                                      refine x_iload 3224 1 dL_law_3224 rfl ?_
                                                                                                      refine x_icmp_eq 3226 3231 dL_law_3226 rfl (fun c561 => ?_) (fun c561 => ?_)
                                                                                                      · refine x_iload 3231 1 dL_law_3231 rfl ?_
                                                                                                        refine x_if_ne 3233 3248 dL_law_3233 rfl (fun c562 => ?_) (fun c562 => ?_)
                                                                                                        · refine x_aload_n 3236 5 dL_law_3236 rfl ?_
                                                                                                          refine x_iconst 3237 0 (0 : Int32) dL_law_3237 rfl ?_
                                                                                                          refine x_lald 3238 dL_law_3238 fun v563 => ?_
                                                                                                          refine x_iload 3239 0 dL_law_3239 rfl ?_
                                                                                                          refine x_i2l 3241 dL_law_3241 ?_
                                                                                                          refine x_lcmp 3242 dL_law_3242 ?_
                                                                                                          refine x_if_eq 3243 3248 dL_law_3243 rfl (fun c564 => ?_) (fun c564 => ?_)
                                                                                                          · refine x_goto 3248 3320 dL_law_3248 rfl ?_
                                                                                                            refine x_iinc 3320 6 [(4, .int (u6 + (6 : Int32))), (6, .int v559), (5, .int v557), (0, .ref (idc 51 0)), (1, .ref (idc 0 i1)), (2, .ref (idc 4 i3)), (3, .ref (idc 34 i5))] dL_law_3320 rfl rfl (by first | decide | exact Nat.le_of_ble_eq_true rfl) rfl ?_
                                                                                                            refine x_goto 3323 23 dL_law_3323 rfl ?_
                                                                                                            refine x_sub [3, 4, 5, 6, 0] _ rfl ?_
                                                                                                            exact hr7 (u6 + (6 : Int32))
                                                                                                          · refine x_iconst 3246 0 (0 : Int32) dL_law_3246 rfl ?_
                                                                                                            exact x_zret 3247 hZ rfl dL_law_3247
                                                                                                        · refine x_goto 3248 3320 dL_law_3248 rfl ?_
                                                                                                          refine x_iinc 3320 6 [(4, .int (u6 + (6 : Int32))), (6, .int v559), (5, .int v557), (0, .ref (idc 51 0)), (1, .ref (idc 0 i1)), (2, .ref (idc 4 i3)), (3, .ref (idc 34 i5))] dL_law_3320 rfl rfl (by first | decide | exact Nat.le_of_ble_eq_true rfl) rfl ?_
                                                                                                          refine x_goto 3323 23 dL_law_3323 rfl ?_
                                                                                                          refine x_sub [3, 4, 5, 6, 0] _ rfl ?_
                                                                                                          exact hr7 (u6 + (6 : Int32))
                                                                                                      · refine x_iconst 3229 0 (0 : Int32) dL_law_3229 rfl ?_
                                                                                                        exact x_zret 3230 hZ rfl dL_law_3230
                                                                                                    · refine x_cnd (fun c565 => ?_) (fun c565 => ?_)
                                                                                                      · refine x_tsw 40 3251 (49 : Int32) 49 3211 c565 rfl dL_law_40 (by first | decide | exact Nat.le_of_ble_eq_true rfl) (by first | decide | exact Nat.le_of_ble_eq_true rfl) rfl rfl ?_
                                                                                                        refine x_aload_n 3251 1 dL_law_3251 rfl ?_
                                                                                                        refine x_cV 3252 0 [] [] ⟨by decide, rfl⟩ cv_X0_332 (im_X1_sum hl i1) (by exact ⟨Nat.le_of_ble_eq_true rfl, by decide⟩) rfl (Nat.le_of_ble_eq_true rfl) dL_law_3252 fun v566 => x_stI ?_
                                                                                                        refine x_aload_n 3255 2 dL_law_3255 rfl ?_
                                                                                                        refine x_cV 3256 0 [] [.int v566] ⟨by decide, rfl⟩ cv_X0_335 (im_X5_sum hl i3) (by exact ⟨Nat.le_of_ble_eq_true rfl, by decide⟩) rfl (Nat.le_of_ble_eq_true rfl) dL_law_3256 fun v567 => x_stI ?_
                                                                                                        refine x_icmp_eq 3259 3320 dL_law_3259 rfl (fun c568 => ?_) (fun c568 => ?_)
                                                                                                        · refine x_iinc 3320 4 [(4, .int (u6 + (6 : Int32))), (0, .ref (idc 51 0)), (1, .ref (idc 0 i1)), (2, .ref (idc 4 i3)), (3, .ref (idc 34 i5))] dL_law_3320 rfl rfl (by first | decide | exact Nat.le_of_ble_eq_true rfl) rfl ?_
                                                                                                          refine x_goto 3323 23 dL_law_3323 rfl ?_
                                                                                                          refine x_sub [1, 2, 3, 4, 0] _ rfl ?_
                                                                                                          exact hr7 (u6 + (6 : Int32))
                                                                                                        · refine x_iconst 3262 0 (0 : Int32) dL_law_3262 rfl ?_
                                                                                                          exact x_zret 3263 hZ rfl dL_law_3263
                                                                                                      · refine x_cnd (fun c569 => ?_) (fun c569 => ?_)
                                                                                                        · refine x_tsw 40 3264 (50 : Int32) 50 3224 c569 rfl dL_law_40 (by first | decide | exact Nat.le_of_ble_eq_true rfl) (by first | decide | exact Nat.le_of_ble_eq_true rfl) rfl rfl ?_
                                                                                                          refine x_aload_n 3264 1 dL_law_3264 rfl ?_
                                                                                                          refine x_aload_n 3265 0 dL_law_3265 rfl ?_
                                                                                                          refine x_iload 3266 4 dL_law_3266 rfl ?_
                                                                                                          refine x_iconst 3268 1 (1 : Int32) dL_law_3268 rfl ?_
                                                                                                          refine x_iadd 3269 dL_law_3269 ?_
                                                                                                          refine x_sld 3270 dL_law_3270 ?_
                                                                                                          refine x_aload_n 3271 3 dL_law_3271 rfl ?_
                                                                                                          refine x_cSW 3272 8 [.ref (idc 0 i1), .int (gx g (u6 + (1 : Int32)).toNatClampNeg), .ref (idc 34 i5)] [] cs_X0_336 (im_X0_sumAnew hl (idc 0 i1) (gx g (u6 + (1 : Int32)).toNatClampNeg) i5) (by exact ⟨Nat.le_of_ble_eq_true rfl, by decide⟩) rfl (Nat.le_of_ble_eq_true rfl) dL_law_3272 fun v571 => x_stI ?_
                                                                                                          refine x_istore 3275 [(5, .int v571), (0, .ref (idc 51 0)), (1, .ref (idc 0 i1)), (2, .ref (idc 4 i3)), (3, .ref (idc 34 i5)), (4, .int u6)] dL_law_3275 (by first | decide | exact Nat.le_of_ble_eq_true rfl) rfl ?_
                                                                                                          refine x_aload_n 3277 3 dL_law_3277 rfl ?_
                                                                                                          refine x_aload_n 3278 1 dL_law_3278 rfl ?_
                                                                                                          refine x_iload 3279 5 dL_law_3279 rfl ?_
                                                                                                          refine x_iconst 3281 1 (1 : Int32) dL_law_3281 rfl ?_
                                                                                                          refine x_iadd 3282 dL_law_3282 ?_
                                                                                                          refine x_sld 3283 dL_law_3283 ?_
                                                                                                          refine x_cV 3284 1 [.int (gx g (u6 + (1 : Int32)).toNatClampNeg)] [] ⟨by decide, rfl⟩ cv_X0_338 (im_X5_sumAnew hl i3 (gx g (u6 + (1 : Int32)).toNatClampNeg)) (by exact ⟨Nat.le_of_ble_eq_true rfl, by decide⟩) rfl (Nat.le_of_ble_eq_true rfl) dL_law_3284 fun v573 => x_stI ?_
                                                                                                          refine x_istore 3287 [(6, .int v573), (5, .int v571), (0, .ref (idc 51 0)), (1, .ref (idc 0 i1)), (2, .ref (idc 4 i3)), (3, .ref (idc 34 i5)), (4, .int u6)] dL_law_3287 (by first | decide | exact Nat.le_of_ble_eq_true rfl) rfl ?_
                                                                                                          refine x_aload_n 3289 4 dL_law_3289 rfl ?_
                                                                                                          refine x_cV 3290 0 [] [] ⟨by decide, rfl⟩ cv_X0_173 (im_X5_thrown hl i3) (by exact ⟨Nat.le_of_ble_eq_true rfl, by decide⟩) rfl (Nat.le_of_ble_eq_true rfl) dL_law_3290 fun v574 => x_stI ?_
                                                                                                          refine x_iload 3293 1 dL_law_3293 rfl ?_
                                                                                                          refine x_icmp_eq 3295 3300 dL_law_3295 rfl (fun c575 => ?_) (fun c575 => ?_)
                                                                                                          · refine x_iload 3300 1 dL_law_3300 rfl ?_
                                                                                                            refine x_if_ne 3302 3317 dL_law_3302 rfl (fun c576 => ?_) (fun c576 => ?_)
                                                                                                            · refine x_aload_n 3305 5 dL_law_3305 rfl ?_
                                                                                                              refine x_iconst 3306 0 (0 : Int32) dL_law_3306 rfl ?_
                                                                                                              refine x_lald 3307 dL_law_3307 fun v577 => ?_
                                                                                                              refine x_iload 3308 0 dL_law_3308 rfl ?_
                                                                                                              refine x_i2l 3310 dL_law_3310 ?_
                                                                                                              refine x_lcmp 3311 dL_law_3311 ?_
                                                                                                              refine x_if_eq 3312 3317 dL_law_3312 rfl (fun c578 => ?_) (fun c578 => ?_)
                                                                                                              · refine x_goto 3317 3320 dL_law_3317 rfl ?_
                                                                                                                refine x_iinc 3320 6 [(4, .int (u6 + (6 : Int32))), (6, .int v573), (5, .int v571), (0, .ref (idc 51 0)), (1, .ref (idc 0 i1)), (2, .ref (idc 4 i3)), (3, .ref (idc 34 i5))] dL_law_3320 rfl rfl (by first | decide | exact Nat.le_of_ble_eq_true rfl) rfl ?_
                                                                                                                refine x_goto 3323 23 dL_law_3323 rfl ?_
                                                                                                                refine x_sub [3, 4, 5, 6, 0] _ rfl ?_
                                                                                                                exact hr7 (u6 + (6 : Int32))
                                                                                                              · refine x_iconst 3315 0 (0 : Int32) dL_law_3315 rfl ?_
                                                                                                                exact x_zret 3316 hZ rfl dL_law_3316
                                                                                                            · refine x_goto 3317 3320 dL_law_3317 rfl ?_
                                                                                                              refine x_iinc 3320 6 [(4, .int (u6 + (6 : Int32))), (6, .int v573), (5, .int v571), (0, .ref (idc 51 0)), (1, .ref (idc 0 i1)), (2, .ref (idc 4 i3)), (3, .ref (idc 34 i5))] dL_law_3320 rfl rfl (by first | decide | exact Nat.le_of_ble_eq_true rfl) rfl ?_
                                                                                                              refine x_goto 3323 23 dL_law_3323 rfl ?_
                                                                                                              refine x_sub [3, 4, 5, 6, 0] _ rfl ?_
                                                                                                              exact hr7 (u6 + (6 : Int32))
                                                                                                          · refine x_iconst 3298 0 (0 : Int32) dL_law_3298 rfl ?_
                                                                                                            exact x_zret 3299 hZ rfl dL_law_3299
                                                                                                        · refine x_tswD 40 3320 dL_law_40 (sw_out fun n hn => ?_) rfl ?_
                                                                                                          · have hn : n < 51 := by omega
                                                                                                            match n, hn with
                                                                                                            | 0, _ => exact i32_ne c10 rfl
                                                                                                            | 1, _ => exact i32_ne c20 rfl
                                                                                                            | 2, _ => exact i32_ne c32 rfl
                                                                                                            | 3, _ => exact i32_ne c44 rfl
                                                                                                            | 4, _ => exact i32_ne c62 rfl
                                                                                                            | 5, _ => exact i32_ne c66 rfl
                                                                                                            | 6, _ => exact i32_ne c74 rfl
                                                                                                            | 7, _ => exact i32_ne c84 rfl
                                                                                                            | 8, _ => exact i32_ne c104 rfl
                                                                                                            | 9, _ => exact i32_ne c118 rfl
                                                                                                            | 10, _ => exact i32_ne c138 rfl
                                                                                                            | 11, _ => exact i32_ne c148 rfl
                                                                                                            | 12, _ => exact i32_ne c158 rfl
                                                                                                            | 13, _ => exact i32_ne c168 rfl
                                                                                                            | 14, _ => exact i32_ne c178 rfl
                                                                                                            | 15, _ => exact i32_ne c188 rfl
                                                                                                            | 16, _ => exact i32_ne c192 rfl
                                                                                                            | 17, _ => exact i32_ne c205 rfl
                                                                                                            | 18, _ => exact i32_ne c218 rfl
                                                                                                            | 19, _ => exact i32_ne c228 rfl
                                                                                                            | 20, _ => exact i32_ne c250 rfl
                                                                                                            | 21, _ => exact i32_ne c260 rfl
                                                                                                            | 22, _ => exact i32_ne c273 rfl
                                                                                                            | 23, _ => exact i32_ne c285 rfl
                                                                                                            | 24, _ => exact i32_ne c299 rfl
                                                                                                            | 25, _ => exact i32_ne c311 rfl
                                                                                                            | 26, _ => exact i32_ne c323 rfl
                                                                                                            | 27, _ => exact i32_ne c339 rfl
                                                                                                            | 28, _ => exact i32_ne c349 rfl
                                                                                                            | 29, _ => exact i32_ne c361 rfl
                                                                                                            | 30, _ => exact i32_ne c374 rfl
                                                                                                            | 31, _ => exact i32_ne c384 rfl
                                                                                                            | 32, _ => exact i32_ne c398 rfl
                                                                                                            | 33, _ => exact i32_ne c408 rfl
                                                                                                            | 34, _ => exact i32_ne c416 rfl
                                                                                                            | 35, _ => exact i32_ne c424 rfl
                                                                                                            | 36, _ => exact i32_ne c428 rfl
                                                                                                            | 37, _ => exact i32_ne c441 rfl
                                                                                                            | 38, _ => exact i32_ne c451 rfl
                                                                                                            | 39, _ => exact i32_ne c465 rfl
                                                                                                            | 40, _ => exact i32_ne c475 rfl
                                                                                                            | 41, _ => exact i32_ne c485 rfl
                                                                                                            | 42, _ => exact i32_ne c497 rfl
                                                                                                            | 43, _ => exact i32_ne c509 rfl
                                                                                                            | 44, _ => exact i32_ne c519 rfl
                                                                                                            | 45, _ => exact i32_ne c531 rfl
                                                                                                            | 46, _ => exact i32_ne c541 rfl
                                                                                                            | 47, _ => exact i32_ne c551 rfl
                                                                                                            | 48, _ => exact i32_ne c555 rfl
                                                                                                            | 49, _ => exact i32_ne c565 rfl
                                                                                                            | 50, _ => exact i32_ne c569 rfl
                                                                                                          · refine x_iinc 3320 4 [(4, .int (u6 + (6 : Int32))), (0, .ref (idc 51 0)), (1, .ref (idc 0 i1)), (2, .ref (idc 4 i3)), (3, .ref (idc 34 i5))] dL_law_3320 rfl rfl (by first | decide | exact Nat.le_of_ble_eq_true rfl) rfl ?_
                                                                                                            refine x_goto 3323 23 dL_law_3323 rfl ?_
                                                                                                            refine x_sub [1, 2, 3, 4, 0] _ rfl ?_
                                                                                                            exact hr7 (u6 + (6 : Int32))
