/-! ===== the model's cells: a function of field and place; its programs as functions over them ===== -/
abbrev Mst : Type := Nat → Nat → Int32
abbrev PM (ρ : Type) : Type := Mst → Option (ρ × Mst)
/-- the model's fields: (0, 0, 0) an int; (kind, number, length) an array -/
def mtb : List (Nat × Nat × Nat) := [(0, 0, 0), (32, 22, 18), (32, 23, 18), (32, 24, 6), (32, 25, 18), (33, 0, 36), (33, 1, 36), (33, 2, 6), (33, 3, 6), (0, 0, 0), (32, 26, 9), (32, 27, 108), (32, 28, 108), (32, 29, 108), (32, 30, 108), (32, 31, 108), (33, 4, 96), (32, 32, 3), (32, 33, 3), (0, 0, 0), (32, 34, 60), (32, 35, 60), (32, 36, 60), (32, 37, 60), (32, 38, 60), (32, 39, 60), (32, 40, 60), (32, 41, 60), (32, 42, 60), (32, 43, 180), (0, 0, 0), (32, 44, 60), (32, 45, 60), (32, 46, 60), (32, 47, 60), (33, 5, 60), (32, 48, 180), (32, 49, 28), (32, 50, 4), (0, 0, 0), (32, 51, 60), (32, 52, 60), (32, 53, 60), (32, 54, 60), (32, 55, 60), (32, 56, 60), (0, 0, 0), (32, 57, 60), (32, 58, 60), (32, 59, 60), (32, 60, 60), (33, 6, 60), (0, 0, 0), (32, 61, 200), (32, 62, 200), (32, 63, 200), (32, 64, 200), (32, 65, 200), (32, 66, 200), (32, 67, 200), (0, 0, 0), (0, 0, 0), (0, 0, 0), (0, 0, 0), (33, 7, 20), (32, 68, 20), (33, 8, 4), (32, 69, 4), (32, 70, 4), (33, 9, 240), (0, 0, 0), (32, 71, 20), (32, 72, 20), (33, 10, 20), (32, 73, 20), (32, 74, 20), (32, 75, 6), (0, 0, 0), (32, 76, 1200), (32, 77, 1200), (32, 78, 1200), (0, 0, 0), (0, 0, 0)]
/-- the view holds the model's cells -/
def MR (v : Vw) (m : Mst) : Prop := ∀ f K a l, mtb[f]? = some (K, a, l) → (K = 0 ∧ vM v 4 0 f = m f 0) ∨ (K ≠ 0 ∧ vN v 4 0 f = idc K a ∧ vL v K a = l ∧ vM v K a = m f)
/-- cells of the model -/
def mcl (K i : Nat) : Bool := K == 4 || (K == 32 && decide (22 ≤ i) && decide (i < 79)) || K == 33
/-- nothing changed but cells of the model -/
def Fr (v v' : Vw) : Prop := vN v' = vN v ∧ vL v' = vL v ∧ vK v' = vK v ∧ vZ v' = vZ v ∧ vE v' = vE v ∧ vB v' = vB v ∧ vW v' = vW v ∧ vQ v' = vQ v ∧ vb v' = vb v ∧ vo v' = vo v ∧ ∀ K i, mcl K i = false → vM v' K i = vM v K i
theorem Fr.rf (v : Vw) : Fr v v := ⟨rfl, rfl, rfl, rfl, rfl, rfl, rfl, rfl, rfl, rfl, fun _ _ _ => rfl⟩
theorem Fr.tr {v v' v2 : Vw} (h : Fr v v') (h' : Fr v' v2) : Fr v v2 := by
  obtain ⟨a1, a2, a3, a4, a5, a6, a7, a8, a9, a10, a11⟩ := h
  obtain ⟨b1, b2, b3, b4, b5, b6, b7, b8, b9, b10, b11⟩ := h'
  exact ⟨b1.trans a1, b2.trans a2, b3.trans a3, b4.trans a4, b5.trans a5, b6.trans a6, b7.trans a7, b8.trans a8, b9.trans a9, b10.trans a10, fun K i h => (b11 K i h).trans (a11 K i h)⟩
theorem up3_x {α : Type} {f : Nat → Nat → Nat → α} {a b c x y z : Nat} {v : α} (h : ¬ (x = a ∧ y = b ∧ z = c)) : up3 f a b c v x y z = f x y z := if_neg h
theorem Fr.uM (v : Vw) {K i j : Nat} {x : Int32} (h : mcl K i = true) : Fr v (uM v K i j x) := by
  refine ⟨rfl, rfl, rfl, rfl, rfl, rfl, rfl, rfl, rfl, rfl, fun K' i' h' => ?_⟩
  show up3 (vM v) K i j x K' i' = vM v K' i'
  funext j'
  refine up3_x fun q => ?_
  rw [q.1, q.2.1, h] at h'
  exact absurd h' (by decide)
theorem mtb_len {f : Nat} {x : Nat × Nat × Nat} (h : mtb[f]? = some x) : f < 83 := by
  have := (List.getElem?_eq_some_iff.mp h).1
  exact this
theorem mtb_al : ∀ f : Fin 83, ∀ f' : Fin 83, (mtb.getD f.1 (0, 0, 0)).1 ≠ 0 → ((mtb.getD f.1 (0, 0, 0)).1 == (mtb.getD f'.1 (0, 0, 0)).1 && (mtb.getD f.1 (0, 0, 0)).2.1 == (mtb.getD f'.1 (0, 0, 0)).2.1) = true → f = f' := by decide +kernel
theorem mtb_mc : ∀ f : Fin 83, (mtb.getD f.1 (0, 0, 0)).1 = 0 ∨ (((mtb.getD f.1 (0, 0, 0)).1 = 32 ∨ (mtb.getD f.1 (0, 0, 0)).1 = 33) ∧ mcl (mtb.getD f.1 (0, 0, 0)).1 (mtb.getD f.1 (0, 0, 0)).2.1 = true) := by decide +kernel
theorem mtb_D {f : Nat} {x : Nat × Nat × Nat} (h : mtb[f]? = some x) : mtb.getD f (0, 0, 0) = x := by
  rw [List.getD_eq_getElem?_getD, h]; rfl
theorem mtb_inj {f f' K a l l' : Nat} (h : mtb[f]? = some (K, a, l)) (h' : mtb[f']? = some (K, a, l')) (hK : K ≠ 0) : f = f' := by
  have q := mtb_al ⟨f, mtb_len h⟩ ⟨f', mtb_len h'⟩ (by rw [mtb_D h]; exact hK) (by rw [mtb_D h, mtb_D h']; simp)
  exact congrArg Fin.val q
theorem mtb_kd {f K a l : Nat} (h : mtb[f]? = some (K, a, l)) : K = 0 ∨ ((K = 32 ∨ K = 33) ∧ mcl K a = true) := by
  have q := mtb_mc ⟨f, mtb_len h⟩
  rw [mtb_D h] at q
  exact q
theorem MR.wI {v : Vw} {m : Mst} (h : MR v m) {f : Nat} (hf : mtb[f]? = some (0, 0, 0)) (x : Int32) : MR (uM v 4 0 f x) (up2 m f 0 x) := by
  intro f' K a l hf'
  rcases h f' K a l hf' with ⟨k0, e⟩ | ⟨k0, e1, e2, e3⟩
  · refine Or.inl ⟨k0, ?_⟩
    show up3 (vM v) 4 0 f x 4 0 f' = up2 m f 0 x f' 0
    by_cases q : f' = f
    · subst q; rw [up3_s, up2_s]
    · rw [up3_x (fun r => q r.2.2), up2_n (fun r => q r.1)]; exact e
  · refine Or.inr ⟨k0, e1, e2, ?_⟩
    have hK : K ≠ 4 := by rcases mtb_kd hf' with q | ⟨q, -⟩ <;> omega
    have q : f' ≠ f := fun q => by
      subst q
      rw [hf] at hf'
      exact k0 (congrArg Prod.fst (Option.some.inj hf')).symm
    show up3 (vM v) 4 0 f x K a = up2 m f 0 x f'
    rw [up3_o hK, e3]
    funext k
    exact (up2_n (fun r => q r.1)).symm
theorem MR.wA {v : Vw} {m : Mst} (h : MR v m) {f K a l : Nat} (hf : mtb[f]? = some (K, a, l)) (hK : K ≠ 0) (k : Nat) (x : Int32) : MR (uM v K a k x) (up2 m f k x) := by
  intro f' K' a' l' hf'
  rcases h f' K' a' l' hf' with ⟨k0, e⟩ | ⟨k0, e1, e2, e3⟩
  · refine Or.inl ⟨k0, ?_⟩
    have hK4 : K ≠ 4 := by rcases mtb_kd hf with q | ⟨q, -⟩ <;> omega
    have q : f' ≠ f := fun q => by
      subst q
      rw [hf] at hf'
      exact hK ((congrArg Prod.fst (Option.some.inj hf')).trans k0)
    show up3 (vM v) K a k x 4 0 f' = up2 m f k x f' 0
    rw [up3_n (fun r => hK4 r.1.symm), up2_n (fun r => q r.1)]; exact e
  · refine Or.inr ⟨k0, e1, e2, ?_⟩
    show up3 (vM v) K a k x K' a' = up2 m f k x f'
    funext k'
    by_cases q : f' = f
    · subst q
      rw [hf] at hf'
      have z := Option.some.inj hf'
      have z1 : K = K' := congrArg Prod.fst z
      have z2 : a = a' := congrArg (fun y => y.2.1) z
      subst z1; subst z2
      unfold up3 up2
      rw [e3]
      simp
    · have ne : ¬ (K' = K ∧ a' = a ∧ k' = k) := fun r => q (by
        obtain ⟨r1, r2, -⟩ := r
        subst r1; subst r2
        exact mtb_inj hf' hf hK)
      rw [up3_x ne, up2_n (fun r => q r.1), e3]
/-! programs -/
def qrt {ρ : Type} (r : ρ) : PM ρ := fun m => some (r, m)
def qbd {α ρ : Type} (p : PM α) (k : α → PM ρ) : PM ρ := fun m => match p m with
  | none => none
  | some (r, m') => k r m'
def qI {ρ : Type} (f : Nat) (k : Int32 → PM ρ) : PM ρ := fun m => k (m f 0) m
def qW {ρ : Type} (f : Nat) (x : Int32) (k : PM ρ) : PM ρ := fun m => k (up2 m f 0 x)
def qZ {ρ : Type} (f : Nat) (x : Int32) (k : PM ρ) : PM ρ := fun m => if x = 0 ∨ x = 1 then k (up2 m f 0 x) else none
def qa {ρ : Type} (f l : Nat) (i : Int32) (k : Int32 → PM ρ) : PM ρ := fun m => if 0 ≤ i ∧ i.toNatClampNeg < l then k (m f i.toNatClampNeg) m else none
def qw {ρ : Type} (f l : Nat) (i x : Int32) (k : PM ρ) : PM ρ := fun m => if 0 ≤ i ∧ i.toNatClampNeg < l then k (up2 m f i.toNatClampNeg x) else none
def qz {ρ : Type} (f l : Nat) (i x : Int32) (k : PM ρ) : PM ρ := fun m => if (0 ≤ i ∧ i.toNatClampNeg < l) ∧ (x = 0 ∨ x = 1) then k (up2 m f i.toNatClampNeg x) else none
def qc {ρ : Type} (c : Prop) [Decidable c] (p q : PM ρ) : PM ρ := fun m => if c then p m else q m
def qas {ρ : Type} (c : Prop) [Decidable c] (p : PM ρ) : PM ρ := fun m => if c then p m else none
def qlN {σ ρ : Type} (F : (σ → PM ρ) → σ → PM ρ) : Nat → σ → PM ρ
  | 0 => fun _ _ => none
  | n + 1 => F (qlN F n)
def qlp {σ ρ : Type} (F : (σ → PM ρ) → σ → PM ρ) (s : σ) : PM ρ := qlN F 100000 s
def qstk {ρ : Type} : PM ρ := fun _ => none
def qjo {σ ρ : Type} (rest : σ → PM ρ) (body : (σ → PM ρ) → PM ρ) : PM ρ := body rest
def SimM {ρ : Type} (q : PM ρ) (f : PT ρ) : Prop := ∀ (v : Vw) (m m' : Mst) (r : ρ) (P : ρ → St → Prop) (X : String → St → Prop) (C : St), WF C v → MR v m → q m = some (r, m') → (∀ v' C', WF C' v' → MR v' m' → Fr v v' → P r C') → f P X C
theorem in_of {i : Int32} {l : Nat} (h : 0 ≤ i ∧ i.toNatClampNeg < l) : vp_in i l := fun q => q.elim (fun q => absurd h.1 (Int32.not_le.mpr q)) (fun q => absurd h.2 (Nat.not_lt.mpr q))
section SIMM
variable {ρ α σ : Type}
theorem sm_rt (r : ρ) : SimM (qrt r) (rt r) := fun v m m' r' P X C w h e hP => by
  cases e
  exact hP v C w h (Fr.rf v)
theorem sm_bnd {p : PM α} {p' : PT α} {k : α → PM ρ} {k' : α → PT ρ} (h1 : SimM p p') (h2 : ∀ r, SimM (k r) (k' r)) : SimM (qbd p k) (bnd p' k') := fun v m m' r P X C w h e hP => by
  unfold qbd at e
  rcases hp : p m with _ | ⟨r1, m1⟩
  · rw [hp] at e; cases e
  · rw [hp] at e
    exact h1 v m m1 r1 (fun r C' => k' r P X C') X C w h hp fun v1 C1 w1 hm1 fr1 => h2 r1 v1 m1 m' r P X C1 w1 hm1 e fun v2 C2 w2 hm2 fr2 => hP v2 C2 w2 hm2 (fr1.tr fr2)
theorem sm_bn0 {p : PM α} {p' : PT α} {k : α → PM ρ} {k' : α → PT ρ} (h1 : SimM p p') (h2 : ∀ r, SimM (k r) (k' r)) : SimM (qbd p k) (bn0 p' k') := fun v m m' r P X C w h e hP => by
  unfold qbd at e
  rcases hp : p m with _ | ⟨r1, m1⟩
  · rw [hp] at e; cases e
  · rw [hp] at e
    exact h1 v m m1 r1 (fun r C' => k' r P X C') (fun _ _ => False) C w h hp fun v1 C1 w1 hm1 fr1 => h2 r1 v1 m1 m' r P X C1 w1 hm1 e fun v2 C2 w2 hm2 fr2 => hP v2 C2 w2 hm2 (fr1.tr fr2)
theorem sm_gI (f : Nat) (hf : mtb[f]? = some (0, 0, 0)) {k : Int32 → PM ρ} {k' : Int32 → PT ρ} (h2 : ∀ r, SimM (k r) (k' r)) : SimM (qI f k) (gI 4 0 f k') := fun v m m' r P X C w h e hP => by
  have e1 : sM C 4 0 f = m f 0 := by
    rw [(w.1 4 rfl).1]
    rcases h f _ _ _ hf with q | q
    · exact q.2
    · exact absurd rfl q.1
  show k' (sM C 4 0 f) P X C
  rw [e1]
  exact h2 _ v m m' r P X C w h e hP
theorem sm_pI (f : Nat) (hf : mtb[f]? = some (0, 0, 0)) {x : Int32} {k : PM ρ} {k' : PT ρ} (h2 : SimM k k') : SimM (qW f x k) (pI 4 0 f x k') := fun v m m' r P X C w h e hP =>
  h2 _ _ m' r P X _ (w.wM rfl) (h.wI hf x) e fun v' C' w' h' fr => hP v' C' w' h' ((Fr.uM v rfl).tr fr)
theorem sm_pZ (f : Nat) (hf : mtb[f]? = some (0, 0, 0)) {x : Int32} {k : PM ρ} {k' : PT ρ} (h2 : SimM k k') : SimM (qZ f x k) (pZ 4 0 f x k') := fun v m m' r P X C w h e hP => by
  unfold qZ at e
  split at e
  · exact ⟨‹_›, h2 _ _ m' r P X _ (w.wM rfl) (h.wI hf x) e fun v' C' w' h' fr => hP v' C' w' h' ((Fr.uM v rfl).tr fr)⟩
  · cases e
theorem sm_gR (f K a l : Nat) (hf : mtb[f]? = some (K + 1, a, l)) {q : PM ρ} {k' : Nat → PT ρ} (h2 : SimM q (k' (idc (K + 1) a))) : SimM q (gR 4 0 f k') := fun v m m' r P X C w h e hP => by
  have e1 : sN C 4 0 f = idc (K + 1) a := by
    rw [(w.1 4 rfl).2.1]
    rcases h f _ _ _ hf with q | q
    · exact absurd q.1 (by omega)
    · exact q.2.1
  show k' (sN C 4 0 f) P X C
  rw [e1]
  exact h2 v m m' r P X C w h e hP
theorem sm_isK {K a : Nat} {q : PM ρ} {k' : Nat → PT ρ} (h2 : SimM q (k' a)) : SimM q (isK K (idc K a) k') := fun v m m' r P X C w h e hP => ⟨a, rfl, h2 v m m' r P X C w h e hP⟩
theorem mk_msk {f K a l : Nat} (hf : mtb[f]? = some (K + 1, a, l)) : msk (K + 1) = true := by
  rcases mtb_kd hf with q | ⟨q | q, -⟩
  · omega
  · rw [q]; rfl
  · rw [q]; rfl
theorem sm_aI (f K a l : Nat) (hf : mtb[f]? = some (K + 1, a, l)) {i : Int32} {k : Int32 → PM ρ} {k' : Int32 → PT ρ} (h2 : ∀ r, SimM (k r) (k' r)) : SimM (qa f l i k) (aI (K + 1) a i k') := fun v m m' r P X C w h e hP => by
  unfold qa at e
  split at e
  · rcases h f _ _ _ hf with q | ⟨-, -, q2, q3⟩
    · exact absurd q.1 (by omega)
    · show vp_in i (sL C (K + 1) a) ∧ k' (sM C (K + 1) a i.toNatClampNeg) P X C
      obtain ⟨w1, w2, w3⟩ := w.1 (K + 1) (mk_msk hf)
      rw [w3, w1, q2, q3]
      exact ⟨in_of ‹_›, h2 _ v m m' r P X C w h e hP⟩
  · cases e
theorem sm_bI (f K a l : Nat) (hf : mtb[f]? = some (K + 1, a, l)) {i x : Int32} {k : PM ρ} {k' : PT ρ} (h2 : SimM k k') : SimM (qw f l i x k) (bI (K + 1) a i x k') := fun v m m' r P X C w h e hP => by
  unfold qw at e
  have hm : mcl (K + 1) a = true := by rcases mtb_kd hf with q | ⟨-, q⟩ <;> first | exact q | omega
  split at e
  · rcases h f _ _ _ hf with q | ⟨-, -, q2, q3⟩
    · exact absurd q.1 (by omega)
    · obtain ⟨w1, w2, w3⟩ := w.1 (K + 1) (mk_msk hf)
      refine ⟨by rw [w3, q2]; exact in_of ‹_›, h2 _ _ m' r P X _ (w.wM (mk_msk hf)) (h.wA hf (by omega) _ x) e fun v' C' w' h' fr => hP v' C' w' h' ((Fr.uM v hm).tr fr)⟩
  · cases e
theorem sm_bZ (f K a l : Nat) (hf : mtb[f]? = some (K + 1, a, l)) {i x : Int32} {k : PM ρ} {k' : PT ρ} (h2 : SimM k k') : SimM (qz f l i x k) (bZ (K + 1) a i x k') := fun v m m' r P X C w h e hP => by
  unfold qz at e
  have hm : mcl (K + 1) a = true := by rcases mtb_kd hf with q | ⟨-, q⟩ <;> first | exact q | omega
  split at e
  · rename_i hc
    rcases h f _ _ _ hf with q | ⟨-, -, q2, q3⟩
    · exact absurd q.1 (by omega)
    · obtain ⟨w1, w2, w3⟩ := w.1 (K + 1) (mk_msk hf)
      refine ⟨⟨by rw [w3, q2]; exact in_of hc.1, hc.2⟩, h2 _ _ m' r P X _ (w.wM (mk_msk hf)) (h.wA hf (by omega) _ x) e fun v' C' w' h' fr => hP v' C' w' h' ((Fr.uM v hm).tr fr)⟩
  · cases e
theorem sm_cnd {c : Prop} [Decidable c] {p q : PM ρ} {p' q' : PT ρ} (h1 : SimM p p') (h2 : SimM q q') : SimM (qc c p q) (cnd c p' q') := fun v m m' r P X C w h e hP => by
  unfold qc at e
  refine ⟨fun z => ?_, fun z => ?_⟩
  · rw [if_pos z] at e; exact h1 v m m' r P X C w h e hP
  · rw [if_neg z] at e; exact h2 v m m' r P X C w h e hP
theorem sm_asr {c : Prop} [Decidable c] {p : PM ρ} {p' : PT ρ} (h1 : SimM p p') : SimM (qas c p) (asr c p') := fun v m m' r P X C w h e hP => by
  unfold qas at e
  split at e
  · exact ⟨‹_›, h1 v m m' r P X C w h e hP⟩
  · cases e
theorem sm_lp {F : (σ → PM ρ) → σ → PM ρ} {F' : (σ → PT ρ) → σ → PT ρ} (h2 : ∀ (r : σ → PM ρ) (r' : σ → PT ρ), (∀ u, SimM (r u) (r' u)) → ∀ u, SimM (F r u) (F' r' u)) (u : σ) : SimM (qlp F u) (lp F' u) := by
  have key : ∀ n u, SimM (qlN F n u) (lpN F' n u) := by
    intro n
    induction n with
    | zero => exact fun u v m m' r P X C w h e hP => by cases e
    | succ n ih => exact fun u => h2 _ _ ih u
  exact fun v m m' r P X C w h e hP => ⟨100000, key _ u v m m' r P X C w h e hP⟩
theorem sm_jo {rest : σ → PM ρ} {rest' : σ → PT ρ} {body : (σ → PM ρ) → PM ρ} {body' : (σ → PT ρ) → PT ρ} (h1 : ∀ u, SimM (rest u) (rest' u)) (h2 : ∀ (j : σ → PM ρ) (j' : σ → PT ρ), (∀ u, SimM (j u) (j' u)) → SimM (body j) (body' j')) : SimM (qjo rest body) (jo rest' body') := h2 rest rest' h1
theorem sm_stk : SimM (ρ := ρ) qstk stk := fun v m m' r P X C w h e hP => by cases e
theorem sm_un2 {β : Type} {k : α → β → PM ρ} {k' : α → β → PT ρ} (h : ∀ a b, SimM (k a b) (k' a b)) (u : α × β) : SimM (un2 k u) (un2 k' u) := h u.1 u.2
theorem sm_un3 {β γ : Type} {k : α → β → γ → PM ρ} {k' : α → β → γ → PT ρ} (h : ∀ a b c, SimM (k a b c) (k' a b c)) (u : α × β × γ) : SimM (un3 k u) (un3 k' u) := h u.1 u.2.1 u.2.2
theorem sm_un4 {β γ δ : Type} {k : α → β → γ → δ → PM ρ} {k' : α → β → γ → δ → PT ρ} (h : ∀ a b c d, SimM (k a b c d) (k' a b c d)) (u : α × β × γ × δ) : SimM (un4 k u) (un4 k' u) := h u.1 u.2.1 u.2.2.1 u.2.2.2
theorem sm_un5 {β γ δ ε : Type} {k : α → β → γ → δ → ε → PM ρ} {k' : α → β → γ → δ → ε → PT ρ} (h : ∀ a b c d e, SimM (k a b c d e) (k' a b c d e)) (u : α × β × γ × δ × ε) : SimM (un5 k u) (un5 k' u) := h u.1 u.2.1 u.2.2.1 u.2.2.2.1 u.2.2.2.2
end SIMM
