/-! ===== a new session (printed by gen/ev64.py) ===== -/
theorem cnt_new {f : Nat → Int32} {n : Nat} {x : Int32} (hx : x ≠ 0) : cnt (up1 f n x) (n + 1) = cnt f n + 1 := by
  show cnt (up1 f n x) n + (if up1 f n x n = 0 then 0 else 1) = _
  rw [cnt_o n (Nat.le_refl _), up1_s, if_neg hx]
theorem gRf.add {c c' : Nat → Nat} {K : Nat} {r r' : Nat → Int32} {n : Nat} (h : gRf c K r n) (hc : ∀ i, i < n → c' i = c i ∧ r' i = r i) (hn : c' n = rf K (r' n)) : gRf c' K r' (n + 1) := by
  intro i hi
  by_cases q : i = n
  · subst q; exact hn
  · obtain ⟨h1, h2⟩ := hc i (by omega)
    rw [h1, h2]; exact h i (by omega)
theorem gTh.add {c c' : Nat → Nat} {n : Nat} (h : gTh c n) (hc : ∀ i, i < n → c' i = c i) (hn : c' n = idc 0 0) : gTh c' (n + 1) := by
  intro i hi
  by_cases q : i = n
  · subst q; exact hn
  · rw [hc i (by omega)]; exact h i (by omega)
theorem gNm.add {c c' : Nat → Int32} {n : Nat} (h : gNm c n) (hc : ∀ i, i < n → c' i = c i) (hn : c' n = nI n) : gNm c' (n + 1) := by
  intro i hi
  by_cases q : i = n
  · subst q; exact hn
  · rw [hc i (by omega)]; exact h i (by omega)
theorem gAr.cg {A A' : Nat → Nat → Int32} {a b c d e f : Nat → Int32} (h : gAr A a b c d e f) (hA : ∀ z, z < 22 → A' z = A z) : gAr A' a b c d e f := by
  obtain ⟨h1, h2, h3, h4, h5⟩ := h
  refine ⟨by rw [hA 0 (by omega)]; exact h1, by rw [hA 1 (by omega)]; exact h2, by rw [hA 2 (by omega)]; exact h3, by rw [hA 3 (by omega)]; exact h4, fun p hp => ?_⟩
  rw [hA (4 + 3 * p) (by omega), hA (5 + 3 * p) (by omega), hA (6 + 3 * p) (by omega)]
  exact h5 p hp
theorem gLn.cg {L L' : Nat → Nat → Nat} (h : gLn L) (h36 : L' 36 = L 36) (h37 : L' 37 = L 37) (h32 : ∀ z, z < 22 → L' 32 z = L 32 z) : gLn L' := by
  obtain ⟨h1, h2, h3, h4, h5, h6, h7, h8⟩ := h
  refine ⟨by rw [h36]; exact h1, by rw [h36]; exact h2, by rw [h37]; exact h3, by rw [h32 0 (by omega)]; exact h4, by rw [h32 1 (by omega)]; exact h5, by rw [h32 2 (by omega)]; exact h6, by rw [h32 3 (by omega)]; exact h7, fun p hp => ?_⟩
  rw [h32 (4 + 3 * p) (by omega), h32 (5 + 3 * p) (by omega), h32 (6 + 3 * p) (by omega)]
  exact h8 p hp
theorem gSh.cg {c6 c6' : Nat → Nat} {c7 c7' : Nat → Int32} {A A' : Nat → Nat → Int32} {L L' : Nat → Nat → Nat} {K32 K32' : Nat} {mr : Nat → Int32} {n : Nat} (h : gSh c6 c7 A L K32 mr n) (hK : K32 ≤ K32') (h6 : ∀ i, i < n → c6' i = c6 i) (h7 : ∀ i, i < n → c7' i = c7 i) (hA : ∀ z, z < K32 → A' z = A z) (hL : ∀ z, z < K32 → L' 32 z = L 32 z) : gSh c6' c7' A' L' K32' mr n := by
  intro i hi
  obtain ⟨a1, a2, a3, a4, a5, a6⟩ := h i hi
  rw [h6 i hi, h7 i hi]
  exact ⟨a1, a2, by omega, by rw [hL _ a3]; exact a4, a5, fun f hf hm => by rw [hA _ a3]; exact a6 f hf hm⟩
theorem gF.new {M M' : Nat → Nat → Nat → Int32} {m m' : Mst} {K n Fc : Nat} (h : gF M m) (hFc : (K, Fc) ∈ [(5, 77), (7, 19), (8, 30), (9, 39), (10, 46), (11, 52), (12, 70)]) (hn : nn m Fc = n) (hb : n < 2 ^ 30)
    (hM : ∀ K' i f, (K', f) ∈ ftab.map (fun x => (x.1, x.2.1)) → ¬ (K' = K ∧ i = n) → M' K' i f = M K' i f) (hm : ∀ F i, cF F = false → ¬ (i = n ∧ ∃ f, (K, f, F) ∈ ftab) → F ∈ ftab.map (fun x => x.2.2) → m' F i = m F i) (hc : ∀ F, cF F = true → m' F 0 = (if F = Fc then nI (n + 1) else m F 0)) (hnew : ∀ f F, (K, f, F) ∈ ftab → M' K n f = m' F n) : gF M' m' := by
  intro K' f F ht i hi
  have hcF : cF F = false := ftab_cF _ ht
  have htM : (K', f) ∈ ftab.map (fun x => (x.1, x.2.1)) := List.mem_map.mpr ⟨_, ht, rfl⟩
  have htF : F ∈ ftab.map (fun x => x.2.2) := List.mem_map.mpr ⟨_, ht, rfl⟩
  have hnn : ∀ G, cF G = true → nn m' G = (if G = Fc then n + 1 else nn m G) := fun G hG => by
    unfold nn
    rw [hc G hG]
    split
    · exact nI_clamp (by omega)
    · rfl
  by_cases q : K' = K ∧ i = n
  · obtain ⟨q1, q2⟩ := q
    subst q1; subst q2
    exact hnew f F ht
  · rw [hM K' i f htM q, hm F i hcF (fun r => ?_) htF]
    · refine h K' f F ht i ?_
      have hcn : ∀ G, cF G = true → nn m' G ≤ nn m G + 1 ∧ (G ≠ Fc → nn m' G = nn m G) := fun G hG => by
        rw [hnn G hG]
        split
        · rename_i e; rw [e, hn]; exact ⟨by omega, fun r => absurd rfl r⟩
        · exact ⟨by omega, fun _ => rfl⟩
      by_cases q1 : K' = K
      · subst q1
        have hi2 : i ≠ n := fun r => q ⟨rfl, r⟩
        simp only [List.mem_cons, Prod.mk.injEq, List.not_mem_nil, or_false] at hFc
        rcases hFc with ⟨a, c⟩ | ⟨a, c⟩ | ⟨a, c⟩ | ⟨a, c⟩ | ⟨a, c⟩ | ⟨a, c⟩ | ⟨a, c⟩ <;> subst a <;> subst c <;> (have hi : i < nn m' _ := hi) <;> rw [hnn _ rfl, if_pos rfl] at hi <;> (show i < nn m _) <;> omega
      · have e4 : cn m' K' = cn m K' := by
          simp only [List.mem_cons, Prod.mk.injEq, List.not_mem_nil, or_false] at hFc
          have e3 : ∀ G, cF G = true → G ≠ Fc → nn m' G = nn m G := fun G hG hne => (hcn G hG).2 hne
          rcases hFc with ⟨a, c⟩ | ⟨a, c⟩ | ⟨a, c⟩ | ⟨a, c⟩ | ⟨a, c⟩ | ⟨a, c⟩ | ⟨a, c⟩ <;> subst a <;> subst c <;> unfold cn
          · rw [if_neg q1, if_neg q1, e3 19 rfl (by decide), e3 30 rfl (by decide), e3 39 rfl (by decide), e3 46 rfl (by decide), e3 52 rfl (by decide), e3 70 rfl (by decide)]
          · rw [if_neg q1, if_neg q1, e3 77 rfl (by decide), e3 30 rfl (by decide), e3 39 rfl (by decide), e3 46 rfl (by decide), e3 52 rfl (by decide), e3 70 rfl (by decide)]
          · rw [if_neg q1, if_neg q1, e3 77 rfl (by decide), e3 19 rfl (by decide), e3 39 rfl (by decide), e3 46 rfl (by decide), e3 52 rfl (by decide), e3 70 rfl (by decide)]
          · rw [if_neg q1, if_neg q1, e3 77 rfl (by decide), e3 19 rfl (by decide), e3 30 rfl (by decide), e3 46 rfl (by decide), e3 52 rfl (by decide), e3 70 rfl (by decide)]
          · rw [if_neg q1, if_neg q1, e3 77 rfl (by decide), e3 19 rfl (by decide), e3 30 rfl (by decide), e3 39 rfl (by decide), e3 52 rfl (by decide), e3 70 rfl (by decide)]
          · rw [if_neg q1, if_neg q1, e3 77 rfl (by decide), e3 19 rfl (by decide), e3 30 rfl (by decide), e3 39 rfl (by decide), e3 46 rfl (by decide), e3 70 rfl (by decide)]
          · rw [if_neg q1, if_neg q1, e3 77 rfl (by decide), e3 19 rfl (by decide), e3 30 rfl (by decide), e3 39 rfl (by decide), e3 46 rfl (by decide), e3 52 rfl (by decide)]
        rw [← e4]; exact hi
    · obtain ⟨r1, g, r2⟩ := r
      have := (ftab_inj _ ht _ r2).1 rfl
      exact q ⟨congrArg (fun y => y.1) this, r1⟩
/-- a session more, in which a, b, c were shown -/
def mNS (m : Mst) (p w a b c : Int32) : Mst := up2 (up2 (up2 (up2 (up2 (up2 (up2 (up2 (up2 m 31 (nn m 30) p) 32 (nn m 30) (m 0 0)) 33 (nn m 30) (m 0 0)) 34 (nn m 30) w) 35 (nn m 30) 1) 36 (3 * nn m 30) a) 36 (3 * nn m 30 + 1) b) 36 (3 * nn m 30 + 2) c) 30 0 (nI (nn m 30 + 1))
def vNS (v : Vw) (s : Nat) (now : Int32) (pr ow a3 : Nat) (set : Int32) : Vw := uA (uM (uN (uC (uN (uN (uM (uM (uM (uM (uN (uK v 8 9) 8 s 8 (idc 0 0)) 8 s 3 now) 8 s 4 now) 8 s 5 1) 8 s 0 (nI s)) 8 s 1 pr) 8 s 2 ow) a3) 8 s 6 (idc 32 (vK v 32))) 8 s 7 set) 3 (idc 8 s)
theorem mNS_o {m : Mst} {p w a b c : Int32} {F : Nat} (h : F ≠ 30 ∧ F ≠ 31 ∧ F ≠ 32 ∧ F ≠ 33 ∧ F ≠ 34) (h2 : F ≠ 35 ∧ F ≠ 36) : mNS m p w a b c F = m F := by
  unfold mNS
  rw [up2_o h.1, up2_o h2.2, up2_o h2.2, up2_o h2.2, up2_o h2.1, up2_o h.2.2.2.2, up2_o h.2.2.2.1, up2_o h.2.2.1, up2_o h.2.1]
theorem mNS_r {m : Mst} {p w a b c : Int32} : mNS m p w a b c 31 = up1 (m 31) (nn m 30) p ∧ mNS m p w a b c 32 = up1 (m 32) (nn m 30) (m 0 0) ∧ mNS m p w a b c 33 = up1 (m 33) (nn m 30) (m 0 0) ∧ mNS m p w a b c 34 = up1 (m 34) (nn m 30) w ∧ mNS m p w a b c 35 = up1 (m 35) (nn m 30) 1 ∧ mNS m p w a b c 36 = up1 (up1 (up1 (m 36) (3 * nn m 30) a) (3 * nn m 30 + 1) b) (3 * nn m 30 + 2) c ∧ mNS m p w a b c 30 0 = nI (nn m 30 + 1) := by
  unfold mNS
  refine ⟨?_, ?_, ?_, ?_, ?_, ?_, up2_s⟩
  · rw [up2_o (by decide), up2_o (by decide), up2_o (by decide), up2_o (by decide), up2_o (by decide), up2_o (by decide), up2_o (by decide), up2_o (by decide), up2_r]
  · rw [up2_o (by decide), up2_o (by decide), up2_o (by decide), up2_o (by decide), up2_o (by decide), up2_o (by decide), up2_o (by decide), up2_r, up2_o (by decide)]
  · rw [up2_o (by decide), up2_o (by decide), up2_o (by decide), up2_o (by decide), up2_o (by decide), up2_o (by decide), up2_r, up2_o (by decide), up2_o (by decide)]
  · rw [up2_o (by decide), up2_o (by decide), up2_o (by decide), up2_o (by decide), up2_o (by decide), up2_r, up2_o (by decide), up2_o (by decide), up2_o (by decide)]
  · rw [up2_o (by decide), up2_o (by decide), up2_o (by decide), up2_o (by decide), up2_r, up2_o (by decide), up2_o (by decide), up2_o (by decide), up2_o (by decide)]
  · rw [up2_o (by decide), up2_r, up2_r, up2_r, up2_o (by decide), up2_o (by decide), up2_o (by decide), up2_o (by decide), up2_o (by decide)]
