/-! ===== the model's invariant, and what is to be shown of an operation ===== -/
def ix (x : Int32) (n : Nat) : Prop := ∃ k, k < n ∧ x = nI k
def ixn (x : Int32) (n : Nat) : Prop := x = -1 ∨ ∃ k, k < n ∧ x = nI k
def iTm (c s : Int32) : Prop := ix c 30001 ∧ ix s 65521
def iCn (m19 m30 m39 m46 m52 m70 m77 : Int32) (T : Nat) : Prop := ix m19 (T + 1) ∧ ix m30 (T + 1) ∧ ix m39 (T + 1) ∧ ix m46 (T + 1) ∧ ix m52 (T + 1) ∧ ix m70 (T + 1) ∧ ix m77 (4 * T + 1)
def iBo (r : Nat → Int32) : Prop := ∀ i, r i = 0 ∨ r i = 1
def iKe (c m60 m61 m62 m63 : Int32) (m64 m65 : Nat → Int32) : Prop := ∃ K s : Nat, m60 = nI K ∧ m61 = nI s ∧ s < K ∧ K ≤ 20 ∧ m65 s = -1 ∧ m64 s = 0 ∧ (∀ k, k < 20 → ixn (m65 k) 30021) ∧ (∀ k, K ≤ k → k < 20 → m65 k = -1 ∧ m64 k = 0) ∧ (m62 = -1 ∨ ∃ w, m62 = nI w ∧ w < K ∧ w ≠ s ∧ m65 w = -1 ∧ m64 w = 0 ∧ ∃ a, a ≤ 30005 ∧ m63 = nI a ∧ c.toNatClampNeg < a)
def iAt (nA nV : Nat) (m10 m11 m20 m21 m22 m23 m24 m25 : Nat → Int32) : Prop := ∀ a, a < nA → ix (m20 a) 6 ∧ ix (m21 a) 6 ∧ ix (m22 a) 6 ∧ ix (m23 a) nV ∧ ixn (m24 a) (m10 (m23 a).toNatClampNeg).toNatClampNeg ∧ (m25 a = 0 → m24 a ≠ -1 ∧ m11 (12 * (m23 a).toNatClampNeg + (m24 a).toNatClampNeg) = 0)
def iSe (nS : Nat) (m31 m34 : Nat → Int32) : Prop := ∀ s, s < nS → ix (m31 s) 6 ∧ (m34 s = -1 ∨ ∃ o, o < s ∧ m34 s = nI o ∧ m34 o = -1)
def iCo (nC nS nF : Nat) (m40 m41 m42 m45 : Nat → Int32) : Prop := ∀ c, c < nC → ix (m40 c) nS ∧ ix (m41 c) 4 ∧ ix (m42 c) 4 ∧ ixn (m45 c) nF
def iFa (nF nC : Nat) (m47 m51 m69 : Nat → Int32) : Prop := ∀ f, f < nF → ix (m47 f) nC ∧ (m51 f ≠ 0 → ∀ s, s < 4 → m69 (60 * s + f) = 0)
def iF0 (nF : Nat) (m69 : Nat → Int32) : Prop := ∀ f, nF ≤ f → f < 60 → ∀ s, s < 4 → m69 (60 * s + f) = 0
def iTo (nT nF : Nat) (k : Int32) (m53 m54 m57 m58 m59 : Nat → Int32) : Prop := ∀ t, t < nT → ix (m53 t) 4 ∧ ix (m54 t) 4 ∧ ix (m57 t) nF ∧ ix (m58 t) k.toNatClampNeg ∧ ix (m59 t) 30011
def iRe (nR : Nat) (m71 m74 : Nat → Int32) : Prop := ∀ r, r < nR → ix (m71 r) 6 ∧ ix (m74 r) 64 ∧ r < 20
def iR0 (nR : Nat) (m74 m75 : Nat → Int32) : Prop := ∀ r, nR ≤ r → m74 r = 0 ∧ m75 r = 0
def iLi (m76 : Nat → Int32) : Prop := ∀ a, a < 6 → ixn (m76 a) 6
def iEn (nE : Nat) (m78 m79 m80 : Nat → Int32) : Prop := ∀ k, k < nE → sml (m78 k) 6 ∧ sml (m79 k) 65535 ∧ sml (m80 k) 30000
/-- a step's numbers -/
def stO (k a b y n : Int32) : Prop := ix k 7 ∧ ix a 21 ∧ ((k = 0 ∨ k = 3) → ix a 3) ∧ ix b 4 ∧ (k < 5 → ixn y 12 ∧ ixn n 12)
def iSt (m11 m12 m13 m14 m15 : Nat → Int32) (o n : Nat) : Prop := ∀ k, k < n → stO (m11 (o + k)) (m12 (o + k)) (m13 (o + k)) (m14 (o + k)) (m15 (o + k))
def tst (k : Int32) : Prop := 1 ≤ k ∧ k ≤ 4
/-- a published flow: all next steps are there; tests lead down -/
def iPu (m11 m14 m15 : Nat → Int32) (o n : Nat) : Prop := (∀ k, k < n → m11 (o + k) < 5 → ixn (m14 (o + k)) n ∧ ixn (m15 (o + k)) n) ∧ ∃ rk : Nat → Nat, (∀ k, rk k ≤ 12) ∧ ∀ k j, k < n → j < n → tst (m11 (o + k)) → tst (m11 (o + j)) → (m14 (o + k) = nI j ∨ m15 (o + k) = nI j) → rk j < rk k
def iVe (V d : Int32) (m10 m11 m12 m13 m14 m15 : Nat → Int32) : Prop := ix V 9 ∧ ix d 13 ∧ iSt m11 m12 m13 m14 m15 96 d.toNatClampNeg ∧ ∀ j, j < V.toNatClampNeg → (∃ n, 1 ≤ n ∧ n ≤ 12 ∧ m10 j = nI n ∧ iSt m11 m12 m13 m14 m15 (12 * j) n ∧ iPu m11 m14 m15 (12 * j) n)
/-- attempts not yet made have not been answered -/
def iA0 (nA : Nat) (m26 m27 : Nat → Int32) : Prop := ∀ a, nA ≤ a → m27 a = 0
def Inv (m : Mst) (T : Nat) : Prop :=
  iTm (m 0 0) (m 81 0) ∧ iCn (m 19 0) (m 30 0) (m 39 0) (m 46 0) (m 52 0) (m 70 0) (m 77 0) T ∧ nn m 77 + pt m ≤ 4 * T ∧
  iBo (m 5) ∧ iBo (m 6) ∧ iBo (m 7) ∧ iBo (m 8) ∧ iBo (m 35) ∧ iBo (m 51) ∧ iBo (m 64) ∧ iBo (m 66) ∧ iBo (m 69) ∧ iBo (m 73) ∧
  iKe (m 0 0) (m 60 0) (m 61 0) (m 62 0) (m 63 0) (m 64) (m 65) ∧ iAt (nn m 19) (nn m 9) (m 10) (m 11) (m 20) (m 21) (m 22) (m 23) (m 24) (m 25) ∧ iSe (nn m 30) (m 31) (m 34) ∧ iCo (nn m 39) (nn m 30) (nn m 46) (m 40) (m 41) (m 42) (m 45) ∧ iFa (nn m 46) (nn m 39) (m 47) (m 51) (m 69) ∧ iF0 (nn m 46) (m 69) ∧
  iTo (nn m 52) (nn m 46) (m 60 0) (m 53) (m 54) (m 57) (m 58) (m 59) ∧ iRe (nn m 70) (m 71) (m 74) ∧ iR0 (nn m 70) (m 74) (m 75) ∧ iLi (m 76) ∧ iEn (nn m 77) (m 78) (m 79) (m 80) ∧ iVe (m 9 0) (m 10 8) (m 10) (m 11) (m 12) (m 13) (m 14) (m 15) ∧ iA0 (nn m 19) (m 26) (m 27)
/-- the whole relation between two calls -/
def KK (v : Vw) (m m0 : Mst) (o : Nat × Int64) (b T : Nat) : Prop := CC v m m0 o b T ∧ True
/-- an operation of the court, wrapped by the law, does what the model does -/
def OpV (h0 : Nat → PV Int32) (q : PM Int32) : Prop := ∀ (v : Vw) (m : Mst) (T b z : Nat) (x : Int64), KK v m m (z + 1, x) (b + 40000) T → Inv m T → T < 24 → ∃ r m', q m = some (r, m') ∧ Inv m' (T + 1) ∧
  ∀ (P : Int32 → Vw → Prop) (X : String → Vw → Prop), (∀ v' y, KK v' m' m (z + 1, y) b (T + 1) → (m' 82 0 = 0 → y = r.toInt64) → P (m' 82 0) v') → h0 z P X v
/-- the same for an operation that the law calls bare -/
def OpD (h0 : PV Int32) (q : PM Int32) : Prop := ∀ (v : Vw) (m : Mst) (T b : Nat) (o : Nat × Int64), KK v m m o (b + 40000) T → Inv m T → T < 24 → ∃ r m', q m = some (r, m') ∧ Inv m' (T + 1) ∧
  ∀ (P : Int32 → Vw → Prop) (X : String → Vw → Prop), (∀ v', KK v' m' m o b (T + 1) → P r v') → h0 P X v
/-! what every operation uses -/
theorem ix.mono {x : Int32} {n n' : Nat} (h : ix x n) (hn : n ≤ n') : ix x n' := by
  obtain ⟨k, h1, h2⟩ := h
  exact ⟨k, by omega, h2⟩
theorem Inv.up {m : Mst} {T : Nat} (h : Inv m T) : Inv m (T + 1) := by
  obtain ⟨i1, i2, i3, i4⟩ := h
  obtain ⟨a1, a2, a3, a4, a5, a6, a7⟩ := i2
  exact ⟨i1, ⟨a1.mono (by omega), a2.mono (by omega), a3.mono (by omega), a4.mono (by omega), a5.mono (by omega), a6.mono (by omega), a7.mono (by omega)⟩, by omega, i4⟩
theorem Inv.m82 {m : Mst} {T : Nat} (h : Inv m T) (x : Int32) : Inv (up2 m 82 0 x) T := h
theorem CRh.m82 {U : (Nat → List Nat) → Prop} {nL : Nat} {v : Vw} {m : Mst} {b T : Nat} (h : CRh U nL v m b T) (x : Int32) : CRh U nL v (up2 m 82 0 x) b T := by
  obtain ⟨hF, h⟩ := h
  exact ⟨hF.om rfl 0 x, h⟩
theorem KK.m82 {v : Vw} {m m0 : Mst} {o : Nat × Int64} {b T : Nat} (h : KK v m m0 o b T) (x : Int32) : KK v (up2 m 82 0 x) m0 o b T := ⟨⟨h.1.1.m82 x, h.1.2⟩, h.2⟩
theorem KK.less {v : Vw} {m m0 : Mst} {o : Nat × Int64} {b T b' T' : Nat} (h : KK v m m0 o b T) (hb : b' ≤ b) (hT : T ≤ T') : KK v m m0 o b' T' := ⟨h.1.less hb hT, h.2⟩
theorem KK.spend {v : Vw} {m m0 : Mst} {o : Nat × Int64} {b T c d : Nat} (h : KK v m m0 o (b + c) T) (hd : d ≤ c) : KK (ub v d) m m0 o b T := ⟨⟨h.1.1.spend hd, h.1.2.1, h.1.2.2⟩, h.2⟩
theorem KK.long {v : Vw} {m m0 : Mst} {o : Nat × Int64} {b T : Nat} (h : KK v m m0 o b T) (z : Nat) (y : Int64) : KK (uO v z y) m m0 (z + 1, y) b T := ⟨⟨h.1.1, h.1.2.1, rfl⟩, h.2⟩
theorem KK.vb {v : Vw} {m m0 : Mst} {o : Nat × Int64} {b T : Nat} (h : KK v m m0 o b T) : b ≤ vb v := h.1.1.bud
/-! the model's checks -/
theorem q_isIn_t {a x y : Int32} {m : Mst} (h1 : ¬ a < x) (h2 : ¬ y < a) : q_isIn a x y m = some (1, m) := by
  unfold q_isIn
  rw [qc_f h1, qc_f h2, qas_t (Or.inr rfl)]; rfl
theorem q_isIn_f {a x y : Int32} {m : Mst} (h : a < x ∨ y < a) : q_isIn a x y m = some (0, m) := by
  unfold q_isIn
  by_cases h1 : a < x
  · rw [qc_t h1, qas_t (Or.inl rfl)]; rfl
  · rw [qc_f h1, qc_t (h.resolve_left h1), qas_t (Or.inl rfl)]; rfl
theorem q_in_t {a : Int32} {j n : Nat} (hj : j ≤ n) (hn : n < 2 ^ 31) (ha : a = nI j) {m : Mst} {z y : Int32} (hz : z = nI 0) (hy : y = nI n) : q_isIn a z y m = some (1, m) := by
  subst ha; subst hz; subst hy
  exact q_isIn_t (nI_nlt (by omega) (by omega)) (nI_nlt (by omega) (by omega))
theorem q_in_f {a : Int32} {n : Nat} (ha : a < 0 ∨ nI (n + 1) ≤ a) {m : Mst} (hn : n < 2 ^ 30) {z y : Int32} (hz : z = 0) (hy : y = nI n) : q_isIn a z y m = some (0, m) := by
  subst hz; subst hy
  refine q_isIn_f (ha.imp id fun q => ?_)
  exact Int32.lt_of_lt_of_le (nI_lt (by omega) (by omega)) q
theorem q_may_t {m : Mst} : q_may 1 m = some (1, up2 m 82 0 0) := rfl
theorem q_may_f {m : Mst} : q_may 0 m = some (0, up2 m 82 0 1) := rfl
theorem q_both_1 {m : Mst} {y : Int32} : q_mayBoth 0 y m = some (0, up2 m 82 0 1) := by
  rfl
theorem q_both_2 {m : Mst} {x : Int32} (hx : x ≠ 0) : q_mayBoth x 0 m = some (0, up2 m 82 0 2) := by
  unfold q_mayBoth
  have e : (qc (x = 0) (qrt (1 : Int32)) (qc ((0 : Int32) = 0) (qrt (2 : Int32)) (qrt (0 : Int32)))) m = some (2, m) := by rw [qc_f hx]; rfl
  rw [qbd_e e]
  rfl
theorem q_both_0 {m : Mst} {x y : Int32} (hx : x ≠ 0) (hy : y ≠ 0) : q_mayBoth x y m = some (1, up2 m 82 0 0) := by
  unfold q_mayBoth
  have e : (qc (x = 0) (qrt (1 : Int32)) (qc (y = 0) (qrt (2 : Int32)) (qrt (0 : Int32)))) m = some (0, m) := by rw [qc_f hx, qc_f hy]; rfl
  rw [qbd_e e]
  rfl
theorem q_all_1 {m : Mst} {y w : Int32} : q_mayAll 0 y w m = some (0, up2 m 82 0 1) := by
  rfl
theorem q_all_2 {m : Mst} {x w : Int32} (hx : x ≠ 0) : q_mayAll x 0 w m = some (0, up2 m 82 0 2) := by
  unfold q_mayAll
  have e : (qc (x = 0) (qrt (1 : Int32)) (qc ((0 : Int32) = 0) (qrt (2 : Int32)) (qc (w = 0) (qrt (3 : Int32)) (qrt (0 : Int32))))) m = some (2, m) := by rw [qc_f hx]; rfl
  rw [qbd_e e]
  rfl
theorem q_all_3 {m : Mst} {x y : Int32} (hx : x ≠ 0) (hy : y ≠ 0) : q_mayAll x y 0 m = some (0, up2 m 82 0 3) := by
  unfold q_mayAll
  have e : (qc (x = 0) (qrt (1 : Int32)) (qc (y = 0) (qrt (2 : Int32)) (qc ((0 : Int32) = 0) (qrt (3 : Int32)) (qrt (0 : Int32))))) m = some (3, m) := by rw [qc_f hx, qc_f hy]; rfl
  rw [qbd_e e]
  rfl
theorem q_all_0 {m : Mst} {x y w : Int32} (hx : x ≠ 0) (hy : y ≠ 0) (hw : w ≠ 0) : q_mayAll x y w m = some (1, up2 m 82 0 0) := by
  unfold q_mayAll
  have e : (qc (x = 0) (qrt (1 : Int32)) (qc (y = 0) (qrt (2 : Int32)) (qc (w = 0) (qrt (3 : Int32)) (qrt (0 : Int32))))) m = some (0, m) := by rw [qc_f hx, qc_f hy, qc_f hw]; rfl
  rw [qbd_e e]
  rfl
/-! the court's checks -/
section CK
variable {ρ : Type} {X : String → Vw → Prop} {v : Vw}
theorem c_there_t {P : Unit → Vw → Prop} {a n : Int32} (h1 : ¬ a < 0) (h2 : a < n) (h : P () v) : h_X1_there a n P X v := hcnd_f h1 (hcnd_t h2 (hrt_i h))
theorem c_there_f {P : Unit → Vw → Prop} {a n : Int32} (h1 : a < 0 ∨ n ≤ a) (hb : 7 ≤ vb v) (h : X "java/lang/IndexOutOfBoundsException" (ub v 7)) : h_X1_there a n P X v := by
  unfold h_X1_there
  by_cases q : a < 0
  · exact hcnd_t q (hthr_i hb h)
  · exact hcnd_f q (hcnd_f (Int32.not_lt.mpr (h1.resolve_left q)) (hthr_i hb h))
theorem c_fit_t {P : Unit → Vw → Prop} {a l u : Int32} (h1 : ¬ a < l) (h2 : a ≤ u) (h : P () v) : h_X1_fit a l u P X v := hcnd_f h1 (hcnd_t h2 (hrt_i h))
theorem c_fit_f {P : Unit → Vw → Prop} {a l u : Int32} (h1 : a < l ∨ u < a) (hb : 7 ≤ vb v) (h : X "java/lang/IllegalArgumentException" (ub v 7)) : h_X1_fit a l u P X v := by
  unfold h_X1_fit
  by_cases q : a < l
  · exact hcnd_t q (hthr_i hb h)
  · exact hcnd_f q (hcnd_f (Int32.not_le.mpr (h1.resolve_left q)) (hthr_i hb h))
theorem c_can_t {P : Unit → Vw → Prop} {a : Int32} (h1 : a ≠ 0) (h : P () v) : h_X1_can a P X v := hcnd_f h1 (hrt_i h)
theorem c_can_f {P : Unit → Vw → Prop} (hb : 7 ≤ vb v) (h : X "java/lang/IllegalStateException" (ub v 7)) : h_X1_can 0 P X v := hcnd_t rfl (hthr_i hb h)
theorem hx_1 {n : String} {p : PV ρ} {t : List (String × PV ρ)} {P : ρ → Vw → Prop} (h : p P X v) : hhsel ((n, p) :: t) n P X v := hcnd_t rfl h
theorem hx_s {n E : String} {p : PV ρ} {t : List (String × PV ρ)} {P : ρ → Vw → Prop} (hn : E ≠ n) (h : hhsel t E P X v) : hhsel ((n, p) :: t) E P X v := hcnd_f hn h
theorem htry_i {α : Type} {f : PV α} {kk : α → PV ρ} {g : String → PV ρ} {P : ρ → Vw → Prop} (h : f (fun r v' => kk r P X v') (fun E v' => g E P X v') v) : htryE f kk g P X v := h
theorem hbJ_i {z : Nat} {x : Int64} {k : PV ρ} {P : ρ → Vw → Prop} (h1 : (vo v).1 = z + 1) (h : k P X (uO v z x)) : hbJ z x k P X v := ⟨h1, h⟩
end CK
theorem c_personAt {v : Vw} {m m0 : Mst} {o : Nat × Int64} {b T : Nat} (h : CC v m m0 o b T) {p : Nat} (hp : p < 6) {P : Nat → Vw → Prop} {X : String → Vw → Prop} (hP : P (idc 2 p) v) : h_X1_personAt 0 (nI p) P X v := by
  unfold h_X1_personAt
  refine hbnd_i (c_there_t (nI_pos (by omega)) (by rw [show (6 : Int32) = nI 6 from by decide +kernel]; exact nI_lt hp (by decide)) ?_)
  exact hgR_e h.1.s0 (hisK_i (haR_e rfl (by rw [h.1.hLn.1]; exact hp) (by omega) (h.1.hPe p hp).1 (hrt_i hP)))
theorem c_serviceAt {v : Vw} {m m0 : Mst} {o : Nat × Int64} {b T : Nat} (h : CC v m m0 o b T) {s : Nat} (hs : s < 4) {P : Nat → Vw → Prop} {X : String → Vw → Prop} (hP : P (idc 3 s) v) : h_X1_serviceAt 0 (nI s) P X v := by
  unfold h_X1_serviceAt
  refine hbnd_i (c_there_t (nI_pos (by omega)) (by rw [show (4 : Int32) = nI 4 from by decide +kernel]; exact nI_lt hs (by decide)) ?_)
  exact hgR_e h.1.s9 (hisK_i (haR_e rfl (by rw [h.1.hLn.2.2.1]; exact hs) (by omega) (h.1.hSe s hs).1 (hrt_i hP)))
/-- the element of a list at a place that is there -/
theorem c_at {v : Vw} {y n k x : Nat} (hy : y < vK v 13) (hz : vZ v y = n) (hn : n < 2 ^ 30) (hk : k < n) (he : vE v y k = x) {P : Nat → Vw → Prop} {X : String → Vw → Prop} (hP : P x v) : h_X1_at (idc 13 y) (nI k) P X v := by
  unfold h_X1_at
  exact hisK_i (hbn0_i (J2sz hy hz (hbnd_i (c_there_t (nI_pos (by omega)) (nI_lt hk (by omega)) (hbn0_i (J2get hy rfl (by omega) (by omega) he (hrt_i hP)))))))
theorem c_at_f {v : Vw} {y n : Nat} {a : Int32} (hy : y < vK v 13) (hz : vZ v y = n) (ha : a < 0 ∨ nI n ≤ a) {P : Nat → Vw → Prop} {X : String → Vw → Prop} (hb : 7 ≤ vb v) (hP : X "java/lang/IndexOutOfBoundsException" (ub v 7)) : h_X1_at (idc 13 y) a P X v := by
  unfold h_X1_at
  exact hisK_i (hbn0_i (J2sz hy hz (hbnd_i (c_there_f ha hb hP))))
