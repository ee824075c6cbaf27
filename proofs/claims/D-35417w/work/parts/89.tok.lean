/-! ===== tokens: a token more ===== -/
def mTk (m : Mst) (f : Nat) (c : Int32) (a : Nat) (x y e : Int32) : Mst := up2 (up2 (up2 (up2 (up2 (up2 (up2 (up2 (up2 m 57 (nn m 52) (nI f)) 53 (nn m 52) c) 54 (nn m 52) (nI a)) 55 (nn m 52) x) 56 (nn m 52) y) 59 (nn m 52) e) 58 (nn m 52) (m 61 0)) 50 f (nI (nn m 52))) 52 0 (nI (nn m 52 + 1))
theorem MR.oBs {v : Vw} {m : Mst} (h : MR v m) {y c : Nat} {f : Nat → Bool} : MR (uBs v y f c) m := h.eqv rfl rfl rfl
theorem mTk_o {m : Mst} {f a : Nat} {c x y e : Int32} {F : Nat} (h : F ≠ 50 ∧ F ≠ 52 ∧ F ≠ 53 ∧ F ≠ 54 ∧ F ≠ 55) (h2 : F ≠ 56 ∧ F ≠ 57 ∧ F ≠ 58 ∧ F ≠ 59) : mTk m f c a x y e F = m F := by
  unfold mTk
  rw [up2_o h.2.1, up2_o h.1, up2_o h2.2.2.1, up2_o h2.2.2.2, up2_o h2.1, up2_o h.2.2.2.2, up2_o h.2.2.2.1, up2_o h.2.2.1, up2_o h2.2.1]
theorem q_newToken_eq {m : Mst} {f a : Nat} {c x y e : Int32} (h : m 52 0 = nI (nn m 52)) (hn : nn m 52 < 200) (hf : f < 60) : q_newToken (nI f) c (nI a) x y e m = some (nI (nn m 52), mTk m f c a x y e) := by
  unfold q_newToken mTk
  show qw 57 200 (m 52 0) (nI f) _ m = _
  rw [qw_e h hn (by decide)]
  show qw 53 200 (m 52 0) c _ _ = _
  rw [qw_e h hn (by decide)]
  show qw 54 200 (m 52 0) (nI a) _ _ = _
  rw [qw_e h hn (by decide)]
  show qw 55 200 (m 52 0) x _ _ = _
  rw [qw_e h hn (by decide)]
  show qw 56 200 (m 52 0) y _ _ = _
  rw [qw_e h hn (by decide)]
  show qw 59 200 (m 52 0) e _ _ = _
  rw [qw_e h hn (by decide)]
  show qw 58 200 (m 52 0) (m 61 0) _ _ = _
  rw [qw_e h hn (by decide)]
  show qw 50 60 (nI f) (m 52 0) _ _ = _
  rw [qw_e rfl hf (by decide)]
  show some (m 52 0, up2 _ 52 0 (m 52 0 + 1)) = _
  rw [h, nI_1]
theorem gUn.tk {W : Nat → List Nat} {m51 m69 m57 m54 a' b' : Nat → Int32} {nF n f : Nat} (h : gUn W m51 m69 nF m57 m54 n) (hg : m51 f ≠ 0) (hF : nF ≤ 24) (hf : f < nF) (e1 : a' = up1 m57 n (nI f)) {y : Int32} (e2 : b' = up1 m54 n y) : gUn W m51 m69 nF a' b' (n + 1) := by
  intro s hs
  obtain ⟨h1, h2⟩ := h s hs
  refine ⟨h1, fun x => ?_⟩
  rw [h2 x]
  have key : ∀ g, g < nF → m51 g = 0 → hrs a' b' (n + 1) s g = hrs m57 m54 n s g := fun g hg1 hg2 => by
    have hne : g ≠ f := fun t => hg (by rw [← t]; exact hg2)
    rw [hrs_s, hrs_cg (a := m57) (b := m54) (fun t ht => ⟨by rw [e1, up1_n (by omega)], by rw [e2, up1_n (by omega)]⟩), e1, up1_s, beq_eq_false_iff_ne.mpr (fun t => hne ((nI_eq (by omega) (by omega)).mp t).symm)]
    simp
  constructor
  · rintro ⟨g, g1, g2, g3, g4, g5⟩
    exact ⟨g, g1, g2, g3, g4, by rw [key g g1 g3]; exact g5⟩
  · rintro ⟨g, g1, g2, g3, g4, g5⟩
    exact ⟨g, g1, g2, g3, g4, by rw [key g g1 g3] at g5; exact g5⟩
theorem c_make2 {v : Vw} {m m0 : Mst} {o : Nat × Int64} {b T f a : Nat} {c x y e : Int32} (h : CC v m m0 o (b + 100) T) (hf : f < nn m 46) (hF24 : nn m 46 ≤ 24) (ha : a < 4) (hT24 : nn m 52 ≤ 24) (hg : m 51 f ≠ 0) {P : Int32 → Vw → Prop} {X : String → Vw → Prop} (hP : ∀ v', CC v' (mTk m f c a x y e) m0 o b T → P (nI (nn m 52)) v') : h_X11_make_2 f c (nI a) x y e P X v := by
  obtain ⟨a1, a2, a3, a4⟩ := h.1.hAu f hf
  have a1 : vN v 10 f 8 = idc 14 (vN v 10 f 8 / 64) := a1
  have a2 : 21 ≤ vN v 10 f 8 / 64 := a2
  have a3 : vN v 10 f 8 / 64 < vK v 14 := a3
  generalize vN v 10 f 8 / 64 = bb at a1 a2 a3
  have rel := h.1.token (a := a) (bb := bb) c x y (m 61 0) e hf hF24 ha a1 hT24
  have hb := h.1.bud
  have hZ := h.1.hL6.1
  have e11 : vK v 11 = nn m 52 := h.1.hCt.2.2.2.2.2.1
  have c13 := h.1.lt13 (y := 6) (by decide)
  have n10 := h.1.hT10 f hf
  have n10 : vN v 10 f 10 = idc 0 0 := n10
  unfold h_X11_make_2
  refine hgR_e n10 (hisK_i (hgR_e h.1.s7 (hnw_i (by omega) ?_)))
  rw [e11]
  refine hgR_e (x := idc 0 0) n10 (hisK_i (hgI_e (x := m 61 0) h.1.g20 (hbn0_i ?_)))
  unfold h_X12_init
  refine hpR_i (hpI_i (hpI_i (hpI_i (hpI_i (hpI_i (hpI_i (hrt_i ?_)))))))
  refine hisK_i (hbn0_i (J2add (show 6 < vK v 13 from c13) (by rw [idc_mod (by decide)]; decide) (show vZ v 6 < 4096 by omega) (show 2 * vZ v 6 + 12 ≤ vb v - (7 + 1) by omega) ?_))
  refine hgR_e (x := idc 14 bb) a1 (hisK_i (hbn0_i ⟨a, ⟨rfl, by omega, (show bb < vK v 14 from a3), (show 3 ≤ vb v - (7 + 1) - (2 * vZ v 6 + 12) by omega)⟩, ?_⟩))
  refine hgR_e (x := idc 0 0) n10 (hisK_i (hgR_e (x := idc 13 6) h.1.s7 (hisK_i (hbn0_i (J2sz (n := nn m 52 + 1) (show 6 < vK v 13 from c13) ?_ ?_)))))
  · show up1 (vZ v) 6 (vZ v 6 + 1) 6 = _
    rw [up1_s, hZ]
  · rw [nI_pred]
    have hmr := h.2.1
    refine hpI_i (hgI_e (x := nI (nn m 52)) up3_s (hrt_i (hP _ ⟨rel.mapU fun hU => ?_, ?_, h.2.2⟩)))
    · show gUn _ (m 51) (m 69) (nn m 46) (mTk m f c a x y e 57) (mTk m f c a x y e 54) (nI (nn m 52 + 1)).toNatClampNeg
      rw [nI_clamp (by omega)]
      refine gUn.tk (y := nI a) hU hg hF24 hf ?_ ?_
      · show mTk m f c a x y e 57 = _
        unfold mTk
        rw [up2_o (by decide), up2_o (by decide), up2_o (by decide), up2_o (by decide), up2_o (by decide), up2_o (by decide), up2_o (by decide), up2_o (by decide), up2_r]
      · show mTk m f c a x y e 54 = _
        unfold mTk
        rw [up2_o (by decide), up2_o (by decide), up2_o (by decide), up2_o (by decide), up2_o (by decide), up2_o (by decide), up2_r, up2_o (by decide), up2_o (by decide)]
    · repeat' first | with_reducible exact hmr | with_reducible refine MR.oM ?_ ?_ | with_reducible refine MR.oN ?_ ?_ | with_reducible refine MR.oA ?_ | with_reducible refine MR.oBs ?_ | with_reducible refine MR.oK ?_ ?_ | rfl | decide | exact Or.inl ⟨by decide, by decide, by decide⟩
theorem Inv.tk {m : Mst} {T f a : Nat} {c x y e : Int32} (h : Inv m (T + 1)) (hT : T < 24) (hf : f < nn m 46) (hc : ix c 4) (ha : a < 4) (he : ix e 30011) (hn : nn m 52 ≤ T) : Inv (mTk m f c a x y e) (T + 1) := by
  obtain ⟨K0, s0, j1, j2, j3, j4, -⟩ := h.pKe
  have n52 : nn (mTk m f c a x y e) 52 = nn m 52 + 1 := by
    show (nI (nn m 52 + 1)).toNatClampNeg = _
    exact nI_clamp (by omega)
  have e53 : mTk m f c a x y e 53 = up1 (m 53) (nn m 52) c := by
    unfold mTk
    rw [up2_o (by decide), up2_o (by decide), up2_o (by decide), up2_o (by decide), up2_o (by decide), up2_o (by decide), up2_o (by decide), up2_r, up2_o (by decide)]
  have e54 : mTk m f c a x y e 54 = up1 (m 54) (nn m 52) (nI a) := by
    unfold mTk
    rw [up2_o (by decide), up2_o (by decide), up2_o (by decide), up2_o (by decide), up2_o (by decide), up2_o (by decide), up2_r, up2_o (by decide), up2_o (by decide)]
  have e57 : mTk m f c a x y e 57 = up1 (m 57) (nn m 52) (nI f) := by
    unfold mTk
    rw [up2_o (by decide), up2_o (by decide), up2_o (by decide), up2_o (by decide), up2_o (by decide), up2_o (by decide), up2_o (by decide), up2_o (by decide), up2_r]
  have e58 : mTk m f c a x y e 58 = up1 (m 58) (nn m 52) (m 61 0) := by
    unfold mTk
    rw [up2_o (by decide), up2_o (by decide), up2_r, up2_o (by decide), up2_o (by decide), up2_o (by decide), up2_o (by decide), up2_o (by decide), up2_o (by decide)]
  have e59 : mTk m f c a x y e 59 = up1 (m 59) (nn m 52) e := by
    unfold mTk
    rw [up2_o (by decide), up2_o (by decide), up2_o (by decide), up2_r, up2_o (by decide), up2_o (by decide), up2_o (by decide), up2_o (by decide), up2_o (by decide)]
  obtain ⟨i1, i2, i3, b5, b6, b7, b8, b35, b51, b64, b66, b69, b73, iK, iA, iS, iC, iFm, iz, iT, rest⟩ := h
  obtain ⟨a1, a2, a3, a4, a5, a6, a7⟩ := i2
  refine ⟨i1, ⟨a1, a2, a3, a4, ⟨nn m 52 + 1, by omega, rfl⟩, a6, a7⟩, i3, b5, b6, b7, b8, b35, b51, b64, b66, b69, b73, iK, iA, iS, iC, iFm, iz, ?_, rest⟩
  rw [n52, e53, e54, e57, e58, e59]
  show iTo (nn m 52 + 1) (nn m 46) (m 60 0) _ _ _ _ _
  intro t ht
  by_cases q : t = nn m 52
  · subst q
    rw [up1_s, up1_s, up1_s, up1_s, up1_s]
    exact ⟨hc, ⟨a, ha, rfl⟩, ⟨f, hf, rfl⟩, by rw [j1, nI_clamp (by omega)]; exact ⟨s0, j3, j2⟩, he⟩
  · rw [up1_n q, up1_n q, up1_n q, up1_n q, up1_n q]
    exact iT t (by omega)
/-- a family's first token, or its next -/
theorem q_first {m : Mst} {f c a : Nat} (h : m 52 0 = nI (nn m 52)) (hn : nn m 52 < 200) (hf : f < 60) (e47 : m 47 f = nI c) (hc : c < 60) (e42 : m 42 c = nI a) : q_firstToken (nI f) m = some ((), mTk m f (m 41 c) a (m 43 c) 0 (m 0 0 + 10)) := by
  unfold q_firstToken
  rw [qa_e rfl hf (by decide), qa_e e47 hc (by decide), qa_e e47 hc (by decide), qa_e e47 hc (by decide), qI_d, e42, qbd_e (q_newToken_eq h hn hf)]
  rfl
theorem c_make {v : Vw} {m m0 : Mst} {o : Nat × Int64} {b T f c a : Nat} (h : CC v m m0 o (b + 100) T) (hf : f < nn m 46) (hF24 : nn m 46 ≤ 24) (ha : a < 4) (hT24 : nn m 52 ≤ 24) (hg : m 51 f ≠ 0) (e47 : m 47 f = nI c) (hc : c < 60) (e42 : m 42 c = nI a) {P : Unit → Vw → Prop} {X : String → Vw → Prop} (hP : ∀ v', CC v' (mTk m f (m 41 c) a (m 43 c) 0 (m 0 0 + 10)) m0 o b T → P () v') : h_X11_make f P X v := by
  obtain ⟨g1, g2, g3, g4⟩ := h.1.hFa f hf
  rw [e47, nI_clamp (by omega)] at g1 g2 g3 g4
  rw [e42] at g3
  have n10 : vN v 10 f 10 = idc 0 0 := h.1.hT10 f hf
  unfold h_X11_make
  refine hgI_e g2 (hgI_e g3 (hgI_e g4 (hgR_e n10 (hisK_i (hgI_e h.1.g16 (hbn0_i (c_make2 h hf hF24 ha hT24 hg fun v' hv => hrt_i (hP v' hv))))))))
