/-! ===== court and model: what ties them ===== -/
def nn (m : Mst) (F : Nat) : Nat := (m F 0).toNatClampNeg
/-- how many of a kind there are, by the model's counts -/
def cn (m : Mst) (K : Nat) : Nat := if K = 0 then 1 else if K = 2 then 6 else if K = 3 then 4 else if K = 5 then nn m 77 else if K = 7 then nn m 19 else if K = 8 then nn m 30 else if K = 9 then nn m 39 else if K = 10 then nn m 46 else if K = 11 then nn m 52 else if K = 12 then nn m 70 else 0
/-- the court's int fields: kind, field, the model's field -/
def ftab : List (Nat × Nat × Nat) := [(0, 15, 81), (0, 16, 0), (0, 19, 60), (0, 20, 61), (0, 21, 62), (0, 22, 63), (2, 3, 3), (2, 4, 7), (2, 5, 8), (3, 0, 66), (3, 2, 68), (3, 5, 38), (5, 0, 78), (5, 1, 79), (5, 2, 80), (7, 1, 21), (7, 2, 22), (7, 5, 26), (7, 6, 27), (7, 7, 25), (7, 10, 28), (8, 3, 32), (8, 4, 33), (8, 5, 35), (9, 1, 41), (9, 2, 42), (9, 3, 43), (9, 4, 44), (10, 5, 51), (10, 6, 48), (10, 9, 50), (11, 1, 53), (11, 2, 54), (11, 3, 55), (11, 4, 56), (11, 5, 58), (11, 6, 59), (12, 1, 72), (12, 2, 73), (12, 4, 75)]
def rf (K : Nat) (x : Int32) : Nat := if x = -1 then nul else idc K x.toNatClampNeg
def st3 (a b c : Int32) : Int32 := ((if a = -1 then 0 else 1) ||| (if b = -1 then 0 else 2)) ||| (if c = -1 then 0 else 4)
def hrs (a b : Nat → Int32) (n s f : Nat) : Bool := (List.range n).any fun t => a t == nI f && b t == nI s
def opn (c : Int32) (n : Nat) (a b : Nat → Int32) (k : Nat) : Bool := decide (k < n) && (decide (a k = 0) && (decide (b k = -1) || decide (c < b k)))
def bt1 (x : Int32) (k : Nat) : Bool := decide ((x >>> (nI k &&& 31)) &&& 1 = 1)
def fl (i : Nat) : Nat := if i = 0 then 0 else 8 + i
def cnt (f : Nat → Int32) : Nat → Nat
  | 0 => 0
  | n + 1 => cnt f n + (if f n = 0 then 0 else 1)
def bxc (bx : Nat → Int32) (x : Nat) : Int32 := if x % 64 = 20 then bx (x / 64) else vb_c (x / 64)
/-! the groups -/
def gF (M : Nat → Nat → Nat → Int32) (m : Mst) : Prop := ∀ K f F, (K, f, F) ∈ ftab → ∀ i, i < cn m K → M K i f = m F i
def gSt (n : Nat → Nat) : Prop := n 0 = idc 36 0 ∧ n 2 = idc 13 1 ∧ n 3 = idc 13 2 ∧ n 4 = idc 13 3 ∧ n 5 = idc 13 4 ∧ n 6 = idc 13 5 ∧ n 7 = idc 13 6 ∧ n 8 = idc 13 7 ∧ n 9 = idc 37 0 ∧ n 10 = idc 32 0 ∧ n 11 = idc 36 1 ∧ n 12 = idc 32 1 ∧ n 13 = idc 32 2 ∧ n 14 = idc 13 8 ∧ n 17 = idc 14 0 ∧ n 18 = idc 32 3
def gPe (a : Nat → Nat) (N2 : Nat → Nat → Nat) (c0 : Nat → Int32) : Prop := ∀ p, p < 6 → a p = idc 2 p ∧ N2 p 1 = idc 32 (4 + 3 * p) ∧ N2 p 2 = idc 32 (5 + 3 * p) ∧ N2 p 6 = idc 14 (1 + 2 * p) ∧ N2 p 7 = idc 14 (2 + 2 * p) ∧ N2 p 8 = idc 32 (6 + 3 * p) ∧ N2 p 9 = idc 15 p ∧ N2 p 10 = idc 0 0 ∧ c0 p = nI p
def gSe (a : Nat → Nat) (c3 c4 c6 : Nat → Nat) : Prop := ∀ s, s < 4 → a s = idc 3 s ∧ c3 s = idc 14 (14 + 2 * s) ∧ c4 s = idc 15 (6 + s) ∧ c6 s = idc 0 0
def gLn (L : Nat → Nat → Nat) : Prop := L 36 0 = 6 ∧ L 36 1 = 6 ∧ L 37 0 = 4 ∧ L 32 0 = 4 ∧ L 32 1 = 3 ∧ L 32 2 = 3 ∧ L 32 3 = 20 ∧ ∀ p, p < 6 → L 32 (4 + 3 * p) = 3 ∧ L 32 (5 + 3 * p) = 3 ∧ L 32 (6 + 3 * p) = 4
def gCt (K : Nat → Nat) (nE nA nS nC nF nT nR : Nat) : Prop := K 5 = nE ∧ K 7 = nA ∧ K 8 = nS ∧ K 9 = nC ∧ K 10 = nF ∧ K 11 = nT ∧ K 12 = nR ∧ K 13 = 8 + K 1 ∧ 1 ≤ K 1 ∧ 21 ≤ K 14 ∧ K 15 = 10 ∧ 79 ≤ K 32
def gL1 (Z : Nat → Nat) (E : Nat → Nat → Nat) (L K n : Nat) : Prop := Z L = n ∧ ∀ k, k < n → E L k = idc K k
def gAr (A : Nat → Nat → Int32) (m37 m17 m18 m65 m1 m2 : Nat → Int32) : Prop := (∀ k, k < 4 → A 0 k = m37 (24 + k)) ∧ (∀ k, k < 3 → A 1 k = m17 k) ∧ (∀ k, k < 3 → A 2 k = m18 k) ∧ (∀ k, k < 20 → A 3 k = m65 k) ∧ ∀ p, p < 6 → (∀ k, k < 3 → A (4 + 3 * p) k = m1 (3 * p + k)) ∧ (∀ k, k < 3 → A (5 + 3 * p) k = m2 (3 * p + k)) ∧ ∀ k, k < 4 → A (6 + 3 * p) k = m37 (4 * p + k)
def gDv (B : Nat → Nat → Bool) (m5 m6 : Nat → Int32) : Prop := ∀ p, p < 6 → ∀ d, d < 6 → B (1 + 2 * p) d = decide (m5 (6 * p + d) ≠ 0) ∧ B (2 + 2 * p) d = decide (m6 (6 * p + d) ≠ 0)
def gTo (B : Nat → Nat → Bool) (m69 : Nat → Int32) : Prop := ∀ s, s < 4 → ∀ f, f < 60 → B (14 + 2 * s) f = decide (m69 (60 * s + f) ≠ 0)
def gPu (B0 : Nat → Bool) (c k : Int32) (m64 m65 : Nat → Int32) : Prop := ∀ j, B0 j = opn c k.toNatClampNeg m64 m65 j
def gCa (p : Nat → Nat) (B : Nat → Nat → Bool) (K14 : Nat) (m67 : Nat → Int32) : Prop := ∀ s, s < 4 → p s = idc 14 (p s / 64) ∧ (p s / 64 = 13 + 2 * s ∨ 21 ≤ p s / 64) ∧ p s / 64 < K14 ∧ ∀ k, k < 20 → B (p s / 64) k = bt1 (m67 s) k
def gAu (p : Nat → Nat) (B : Nat → Nat → Bool) (K14 nF : Nat) (m57 m54 : Nat → Int32) (nT : Nat) : Prop := ∀ f, f < nF → p f = idc 14 (p f / 64) ∧ 21 ≤ p f / 64 ∧ p f / 64 < K14 ∧ ∀ k, B (p f / 64) k = (decide (k < 4) && hrs m57 m54 nT k f)
def gPp (p : Nat → Nat) (B : Nat → Nat → Bool) (K14 nR : Nat) (m74 : Nat → Int32) : Prop := ∀ r, r < nR → p r = idc 14 (p r / 64) ∧ 21 ≤ p r / 64 ∧ p r / 64 < K14 ∧ ∀ k, B (p r / 64) k = (decide (k < 6) && bt1 (m74 r) k)
def gOw (p8 p12 p3 : Nat → Nat) (nF nR : Nat) : Prop := ∃ o : Nat → Nat, (∀ f, f < nF → o (p8 f / 64) = 3 * f) ∧ (∀ r, r < nR → o (p12 r / 64) = 3 * r + 1) ∧ ∀ s, s < 4 → o (p3 s / 64) = 3 * s + 2
def gWr (W : Nat → List Nat) (bx : Nat → Int32) (K20 : Nat) (m4 : Nat → Int32) (c : Int32) (T : Nat) : Prop := ∀ p, p < 6 → (W p).length ≤ T ∧ (∀ x, x ∈ W p → isB x ∧ (x % 64 = 20 → x / 64 < K20)) ∧ ∃ ts : List Nat, (W p).map (bxc bx) = ts.map nI ∧ ts.Pairwise (· ≤ ·) ∧ (∀ x, x ∈ ts → x ≤ c.toNatClampNeg) ∧ ∀ j, j < 3 → m4 (3 * p + (2 - j)) = (ts.reverse.map nI).getD j (-1000)
def gUn (W : Nat → List Nat) (m51 m69 : Nat → Int32) (nF : Nat) (m57 m54 : Nat → Int32) (nT : Nat) : Prop := ∀ s, s < 4 → (W (6 + s)).Nodup ∧ ∀ x, x ∈ W (6 + s) ↔ ∃ f, f < nF ∧ x = idc 10 f ∧ m51 f = 0 ∧ m69 (60 * s + f) = 0 ∧ hrs m57 m54 nT s f = true
def gFi (Z : Nat → Nat) (E : Nat → Nat → Nat) (M6 : Nat → Nat → Int32) (K6 : Nat) (m11 m12 m13 m14 m15 : Nat → Int32) (w o : Nat) (n : Int32) : Prop := n = nI (Z (fl w)) ∧ Z (fl w) ≤ 12 ∧ ∀ k, k < Z (fl w) → ∃ q, E (fl w) k = idc 6 q ∧ q < K6 ∧ M6 q 0 = m11 (o + k) ∧ M6 q 1 = m12 (o + k) ∧ M6 q 2 = m13 (o + k) ∧ M6 q 3 = m14 (o + k) ∧ M6 q 4 = m15 (o + k)
def gFl (c10 : Nat → Nat) (d K1 K6 : Nat) (Z : Nat → Nat) (E : Nat → Nat → Nat) (M6 : Nat → Nat → Int32) (m10 m11 m12 m13 m14 m15 : Nat → Int32) (nV : Int32) : Prop := d = idc 1 (K1 - 1) ∧ (∀ i, i < K1 → c10 i = idc 13 (fl i)) ∧ gFi Z E M6 K6 m11 m12 m13 m14 m15 (K1 - 1) 96 (m10 8) ∧ nV = nI (Z 1) ∧ Z 1 ≤ 8 ∧ ∀ j, j < Z 1 → ∃ w, E 1 j = idc 1 w ∧ w + 1 < K1 ∧ gFi Z E M6 K6 m11 m12 m13 m14 m15 w (12 * j) (m10 j)
def gAt (c3 c4 : Nat → Nat) (E : Nat → Nat → Nat) (nA : Nat) (m23 m24 : Nat → Int32) : Prop := ∀ a, a < nA → c3 a = E 1 (m23 a).toNatClampNeg ∧ c4 a = (if m24 a = -1 then nul else E (fl (c3 a / 64)) (m24 a).toNatClampNeg)
def gSh (c6 : Nat → Nat) (c7 : Nat → Int32) (A : Nat → Nat → Int32) (L : Nat → Nat → Nat) (K32 : Nat) (mr : Nat → Int32) (n : Nat) : Prop := ∀ i, i < n → c6 i = idc 32 (c6 i / 64) ∧ 79 ≤ c6 i / 64 ∧ c6 i / 64 < K32 ∧ L 32 (c6 i / 64) = 3 ∧ c7 i = st3 (mr (3 * i)) (mr (3 * i + 1)) (mr (3 * i + 2)) ∧ ∀ f, f < 3 → mr (3 * i + f) ≠ -1 → A (c6 i / 64) f = mr (3 * i + f)
def gOs (ca cs : Nat → Nat) (nA nS : Nat) : Prop := ∃ o : Nat → Nat, (∀ a, a < nA → o (ca a / 64) = 2 * a) ∧ ∀ s, s < nS → o (cs s / 64) = 2 * s + 1
/-- a column of references -/
def gRf (c : Nat → Nat) (K : Nat) (r : Nat → Int32) (n : Nat) : Prop := ∀ i, i < n → c i = rf K (r i)
def gTh (c : Nat → Nat) (n : Nat) : Prop := ∀ i, i < n → c i = idc 0 0
def gNm (c : Nat → Int32) (n : Nat) : Prop := ∀ i, i < n → c i = nI i
def gFa (c1 : Nat → Nat) (c2 c3 c4 : Nat → Int32) (n : Nat) (m47 m40 m41 m42 m43 : Nat → Int32) : Prop := ∀ f, f < n → c1 f = rf 8 (m40 (m47 f).toNatClampNeg) ∧ c2 f = m41 (m47 f).toNatClampNeg ∧ c3 f = m42 (m47 f).toNatClampNeg ∧ c4 f = m43 (m47 f).toNatClampNeg
def gTu (c7 : Nat → Int32) (n : Nat) (m48 m49 : Nat → Int32) : Prop := ∀ f, f < n → m48 f ≠ 0 → c7 f = m49 f
def gBu (bud b : Nat) (m35 m51 : Nat → Int32) (nS nF : Nat) (w : Int32) : Prop := b + 300 * (cnt m35 nS + cnt m51 nF + (if w = -1 then 0 else 1)) ≤ bud
/-- the court's relation, but for its list of attempts and, in U's place, what the lists of the untold hold -/
def CRh (U : (Nat → List Nat) → Prop) (nL : Nat) (v : Vw) (m : Mst) (b T : Nat) : Prop :=
  gF (vM v) m ∧ gSt (vN v 0 0) ∧ gPe (vN v 36 0) (vN v 2) (fun i => vM v 2 i 0) ∧ gSe (vN v 37 0) (fun i => vN v 3 i 3) (fun i => vN v 3 i 4) (fun i => vN v 3 i 6) ∧ gLn (vL v) ∧ gCt (vK v) (nn m 77) (nn m 19) (nn m 30) (nn m 39) (nn m 46) (nn m 52) (nn m 70) ∧
  gL1 (vZ v) (vE v) 3 8 (nn m 30) ∧ gL1 (vZ v) (vE v) 4 9 (nn m 39) ∧ gL1 (vZ v) (vE v) 5 10 (nn m 46) ∧ gL1 (vZ v) (vE v) 6 11 (nn m 52) ∧ gL1 (vZ v) (vE v) 7 12 (nn m 70) ∧ gL1 (vZ v) (vE v) 8 5 (nn m 77) ∧
  gAr (vM v 32) (m 37) (m 17) (m 18) (m 65) (m 1) (m 2) ∧ gDv (vB v) (m 5) (m 6) ∧ gTo (vB v) (m 69) ∧ gPu (vB v 0) (m 0 0) (m 60 0) (m 64) (m 65) ∧ gCa (fun i => vN v 3 i 1) (vB v) (vK v 14) (m 67) ∧ gAu (fun i => vN v 10 i 8) (vB v) (vK v 14) (nn m 46) (m 57) (m 54) (nn m 52) ∧ gPp (fun i => vN v 12 i 3) (vB v) (vK v 14) (nn m 70) (m 74) ∧ gOw (fun i => vN v 10 i 8) (fun i => vN v 12 i 3) (fun i => vN v 3 i 1) (nn m 46) (nn m 70) ∧
  gWr (vW v) (fun i => vM v 20 i 0) (vK v 20) (m 4) (m 0 0) T ∧ U (vW v) ∧ gFl (fun i => vN v 1 i 0) (vN v 0 0 1) (vK v 1) (vK v 6) (vZ v) (vE v) (vM v 6) (m 10) (m 11) (m 12) (m 13) (m 14) (m 15) (m 9 0) ∧ gAt (fun i => vN v 7 i 3) (fun i => vN v 7 i 4) (vE v) (nn m 19) (m 23) (m 24) ∧
  gSh (fun i => vN v 7 i 8) (fun i => vM v 7 i 9) (vM v 32) (vL v) (vK v 32) (m 29) (nn m 19) ∧ gSh (fun i => vN v 8 i 6) (fun i => vM v 8 i 7) (vM v 32) (vL v) (vK v 32) (m 36) (nn m 30) ∧ gOs (fun i => vN v 7 i 8) (fun i => vN v 8 i 6) (nn m 19) (nn m 30) ∧
  gRf (fun i => vN v 7 i 0) 2 (m 20) (nn m 19) ∧ gRf (fun i => vN v 8 i 1) 2 (m 31) (nn m 30) ∧ gRf (fun i => vN v 8 i 2) 8 (m 34) (nn m 30) ∧ gRf (fun i => vN v 9 i 0) 8 (m 40) (nn m 39) ∧ gRf (fun i => vN v 9 i 5) 10 (m 45) (nn m 39) ∧ gRf (fun i => vN v 11 i 0) 10 (m 57) (nn m 52) ∧ gRf (fun i => vN v 12 i 0) 2 (m 71) (nn m 70) ∧ gRf (vN v 36 1) 2 (m 76) 6 ∧
  gTh (fun i => vN v 7 i 11) (nn m 19) ∧ gTh (fun i => vN v 8 i 8) (nn m 30) ∧ gTh (fun i => vN v 10 i 10) (nn m 46) ∧ gTh (fun i => vN v 12 i 5) (nn m 70) ∧ gNm (fun i => vM v 8 i 0) (nn m 30) ∧ gNm (fun i => vM v 10 i 0) (nn m 46) ∧
  gFa (fun i => vN v 10 i 1) (fun i => vM v 10 i 2) (fun i => vM v 10 i 3) (fun i => vM v 10 i 4) (nn m 46) (m 47) (m 40) (m 41) (m 42) (m 43) ∧ gTu (fun i => vM v 10 i 7) (nn m 46) (m 48) (m 49) ∧ gBu (vb v) b (m 35) (m 51) (nn m 30) (nn m 46) (m 62 0) ∧ gL1 (vZ v) (vE v) 2 7 nL
abbrev CR0 (v : Vw) (m : Mst) (b T : Nat) : Prop := CRh (fun W => gUn W (m 51) (m 69) (nn m 46) (m 57) (m 54) (nn m 52)) (nn m 19) v m b T
/-! table lemmas -/
def nT (K f : Nat) : Bool := ftab.all fun t => !(t.1 == K && t.2.1 == f)
def cF (F : Nat) : Bool := F == 77 || F == 19 || F == 30 || F == 39 || F == 46 || F == 52 || F == 70
def nF (F : Nat) : Bool := (ftab.all fun t => !(t.2.2 == F)) && !cF F
theorem nT_of {K f F : Nat} (h : nT K f = true) : (K, f, F) ∉ ftab := fun hm => by
  have := List.all_eq_true.mp h _ hm
  simp at this
theorem nF_of {K f F : Nat} (h : nF F = true) : (K, f, F) ∉ ftab := fun hm => by
  have := List.all_eq_true.mp (Bool.and_eq_true_iff.mp h).1 _ hm
  simp at this
theorem cF_of {F : Nat} (h : nF F = true) : cF F = false := by
  have := (Bool.and_eq_true_iff.mp h).2
  cases hc : cF F
  · rfl
  · rw [hc] at this; cases this
theorem ftab_inj : ∀ x, x ∈ ftab → ∀ y, y ∈ ftab → (x.2.2 = y.2.2 → x = y) ∧ (x.1 = y.1 → x.2.1 = y.2.1 → x = y) := by decide +kernel
theorem ftab_cF : ∀ x, x ∈ ftab → cF x.2.2 = false := by decide +kernel
theorem nn_o {m : Mst} {F F' i : Nat} {x : Int32} (h : F' ≠ F) : nn (up2 m F i x) F' = nn m F' := by
  unfold nn
  rw [up2_o h]
theorem cn_o {m : Mst} {F i : Nat} {x : Int32} (h : cF F = false) (K : Nat) : cn (up2 m F i x) K = cn m K := by
  simp only [cF, Bool.or_eq_false_iff, beq_eq_false_iff_ne, ne_eq] at h
  unfold cn
  simp only [nn_o (fun q => h.1.1.1.1.1.1 q.symm : (77 : Nat) ≠ F), nn_o (fun q => h.1.1.1.1.1.2 q.symm : (19 : Nat) ≠ F), nn_o (fun q => h.1.1.1.1.2 q.symm : (30 : Nat) ≠ F), nn_o (fun q => h.1.1.1.2 q.symm : (39 : Nat) ≠ F), nn_o (fun q => h.1.1.2 q.symm : (46 : Nat) ≠ F), nn_o (fun q => h.1.2 q.symm : (52 : Nat) ≠ F), nn_o (fun q => h.2 q.symm : (70 : Nat) ≠ F)]
theorem gF.set {M : Nat → Nat → Nat → Int32} {m : Mst} (h : gF M m) {K f F : Nat} (ht : (K, f, F) ∈ ftab) (i : Nat) (x : Int32) : gF (up3 M K i f x) (up2 m F i x) := by
  intro K' f' F' ht' i' hi'
  rw [cn_o (ftab_cF _ ht)] at hi'
  have h0 := h K' f' F' ht' i' hi'
  by_cases q : F' = F
  · have e := (ftab_inj _ ht' _ ht).1 q
    cases e
    by_cases r : i' = i
    · subst r; rw [up3_s, up2_s]
    · rw [up3_x (fun s => r s.2.1), up2_n (fun s => r s.2)]; exact h0
  · rw [up2_n (fun s => q s.1), up3_x]
    · exact h0
    · intro s
      have e := (ftab_inj _ ht' _ ht).2 s.1 s.2.2
      exact q (congrArg (fun y => y.2.2) e)
theorem gF.oM {M : Nat → Nat → Nat → Int32} {m : Mst} (h : gF M m) {K f : Nat} (ht : nT K f = true) (i : Nat) (x : Int32) : gF (up3 M K i f x) m := by
  intro K' f' F' ht' i' hi'
  rw [up3_x]
  · exact h K' f' F' ht' i' hi'
  · intro s
    obtain ⟨s1, s2, s3⟩ := s
    subst s1; subst s3
    exact nT_of ht ht'
theorem gF.om {M : Nat → Nat → Nat → Int32} {m : Mst} (h : gF M m) {F : Nat} (ht : nF F = true) (i : Nat) (x : Int32) : gF M (up2 m F i x) := by
  intro K' f' F' ht' i' hi'
  rw [cn_o (cF_of ht)] at hi'
  rw [up2_n]
  · exact h K' f' F' ht' i' hi'
  · intro s
    rw [s.1] at ht'
    exact nF_of ht ht'
/-- a place beyond the count -/
theorem gF.bM {M : Nat → Nat → Nat → Int32} {m : Mst} (h : gF M m) {K f i : Nat} (hi : cn m K ≤ i) (x : Int32) : gF (up3 M K i f x) m := by
  intro K' f' F' ht' i' hi'
  rw [up3_x]
  · exact h K' f' F' ht' i' hi'
  · intro s
    obtain ⟨s1, s2, s3⟩ := s
    subst s1
    omega
theorem gF.bR {M : Nat → Nat → Nat → Int32} {m : Mst} (h : gF M m) {K i : Nat} (hi : cn m K ≤ i) (g : Nat → Int32) : gF (row3 M K i g) m := by
  intro K' f' F' ht' i' hi'
  rw [row3_n]
  · exact h K' f' F' ht' i' hi'
  · intro s
    obtain ⟨s1, s2⟩ := s
    subst s1
    omega
theorem gF.bm {M : Nat → Nat → Nat → Int32} {m : Mst} (h : gF M m) {K f F i : Nat} (ht : (K, f, F) ∈ ftab) (hi : cn m K ≤ i) (x : Int32) : gF M (up2 m F i x) := by
  intro K' f' F' ht' i' hi'
  rw [cn_o (ftab_cF _ ht)] at hi'
  rw [up2_n]
  · exact h K' f' F' ht' i' hi'
  · intro s
    have e := (ftab_inj _ ht' _ ht).1 s.1
    cases e
    omega
