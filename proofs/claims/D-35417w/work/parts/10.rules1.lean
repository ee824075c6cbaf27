/-! ===== the rules: instructions that don't touch the heap ===== -/
theorem okc {C : St} {v : Value} {st : List Value} (h1 : okV C v) (h2 : ∀ x ∈ st, okV C x) : ∀ x ∈ v :: st, okV C x := fun x h => (List.mem_cons.mp h).elim (fun e => e ▸ h1) (h2 x)
theorem okt {C : St} {v : Value} {st : List Value} (h : ∀ x ∈ v :: st, okV C x) : ∀ x ∈ st, okV C x := fun x m => h x (List.mem_cons_of_mem _ m)
theorem okh {C : St} {v : Value} {st : List Value} (h : ∀ x ∈ v :: st, okV C x) : okV C v := h v List.mem_cons_self
section R1
variable {g : GP} {Γ : Cx} {M : Mx} {ρ : Type} {Z : Zx ρ} {L L' : List (Nat × Value)} {st : List Value} {τ : Type} {Po : τ → St → Prop} {pr pr2 : PT τ}
theorem TXs_st {nL : Nat} {A : Nat → Nat} {C : St} {H : Heap} {locs : List Loc} {ls : Array Slot} {st' : List Value} (S : TXs g Γ Z nL L st A C H locs ls) (h : ∀ v ∈ st', okV C v) : TXs g Γ Z nL L st' A C H locs ls := ⟨S.1, S.2.1, h, S.2.2.2⟩
theorem lv_at' {ls : Array Slot} {nL : Nat} {A : Nat → Nat} (h : lv_has ls nL (L.map (fun q => (q.1, dv A q.2)))) (k : Nat) {i : Nat} {v : Value} (hk : L[k]? = some (i, v)) : ls[i]? = some (.val (dv A v)) :=
  lv_at h k (i := i) (v := dv A v) (by rw [List.getElem?_map, hk]; rfl)

theorem x_iadd (pc : Nat) {a b : Int32} (hd : decode M.2.1 pc = .ok (.iadd, 1))  (k : TX g Γ M Z Po (pc + 1) L (.int (a + b) :: st) pr) : TX g Γ M Z Po pc L (.int b :: .int a :: st) pr := by
  obtain ⟨p, l, e, R, s, m, args, below, meth, c, Q⟩ := Γ
  intro F A C H locs ls S hp
  exact lv_iadd F.1 F.2.1 hd  (k F A C H locs ls (TXs_st S (okc (okV_i _) (okt (okt S.2.2.1)))) hp)
theorem x_isub (pc : Nat) {a b : Int32} (hd : decode M.2.1 pc = .ok (.isub, 1))  (k : TX g Γ M Z Po (pc + 1) L (.int (a - b) :: st) pr) : TX g Γ M Z Po pc L (.int b :: .int a :: st) pr := by
  obtain ⟨p, l, e, R, s, m, args, below, meth, c, Q⟩ := Γ
  intro F A C H locs ls S hp
  exact lv_isub F.1 F.2.1 hd  (k F A C H locs ls (TXs_st S (okc (okV_i _) (okt (okt S.2.2.1)))) hp)
theorem x_imul (pc : Nat) {a b : Int32} (hd : decode M.2.1 pc = .ok (.imul, 1))  (k : TX g Γ M Z Po (pc + 1) L (.int (a * b) :: st) pr) : TX g Γ M Z Po pc L (.int b :: .int a :: st) pr := by
  obtain ⟨p, l, e, R, s, m, args, below, meth, c, Q⟩ := Γ
  intro F A C H locs ls S hp
  exact lv_imul F.1 F.2.1 hd  (k F A C H locs ls (TXs_st S (okc (okV_i _) (okt (okt S.2.2.1)))) hp)
theorem x_iand (pc : Nat) {a b : Int32} (hd : decode M.2.1 pc = .ok (.iand, 1))  (k : TX g Γ M Z Po (pc + 1) L (.int (a &&& b) :: st) pr) : TX g Γ M Z Po pc L (.int b :: .int a :: st) pr := by
  obtain ⟨p, l, e, R, s, m, args, below, meth, c, Q⟩ := Γ
  intro F A C H locs ls S hp
  exact lv_iand F.1 F.2.1 hd  (k F A C H locs ls (TXs_st S (okc (okV_i _) (okt (okt S.2.2.1)))) hp)
theorem x_ior (pc : Nat) {a b : Int32} (hd : decode M.2.1 pc = .ok (.ior, 1))  (k : TX g Γ M Z Po (pc + 1) L (.int (a ||| b) :: st) pr) : TX g Γ M Z Po pc L (.int b :: .int a :: st) pr := by
  obtain ⟨p, l, e, R, s, m, args, below, meth, c, Q⟩ := Γ
  intro F A C H locs ls S hp
  exact lv_ior F.1 F.2.1 hd  (k F A C H locs ls (TXs_st S (okc (okV_i _) (okt (okt S.2.2.1)))) hp)
theorem x_ixor (pc : Nat) {a b : Int32} (hd : decode M.2.1 pc = .ok (.ixor, 1))  (k : TX g Γ M Z Po (pc + 1) L (.int (a ^^^ b) :: st) pr) : TX g Γ M Z Po pc L (.int b :: .int a :: st) pr := by
  obtain ⟨p, l, e, R, s, m, args, below, meth, c, Q⟩ := Γ
  intro F A C H locs ls S hp
  exact lv_ixor F.1 F.2.1 hd  (k F A C H locs ls (TXs_st S (okc (okV_i _) (okt (okt S.2.2.1)))) hp)
theorem x_ishl (pc : Nat) {a b : Int32} (hd : decode M.2.1 pc = .ok (.ishl, 1))  (k : TX g Γ M Z Po (pc + 1) L (.int (a <<< (b &&& 31)) :: st) pr) : TX g Γ M Z Po pc L (.int b :: .int a :: st) pr := by
  obtain ⟨p, l, e, R, s, m, args, below, meth, c, Q⟩ := Γ
  intro F A C H locs ls S hp
  exact lv_ishl F.1 F.2.1 hd  (k F A C H locs ls (TXs_st S (okc (okV_i _) (okt (okt S.2.2.1)))) hp)
theorem x_ishr (pc : Nat) {a b : Int32} (hd : decode M.2.1 pc = .ok (.ishr, 1))  (k : TX g Γ M Z Po (pc + 1) L (.int (a >>> (b &&& 31)) :: st) pr) : TX g Γ M Z Po pc L (.int b :: .int a :: st) pr := by
  obtain ⟨p, l, e, R, s, m, args, below, meth, c, Q⟩ := Γ
  intro F A C H locs ls S hp
  exact lv_ishr F.1 F.2.1 hd  (k F A C H locs ls (TXs_st S (okc (okV_i _) (okt (okt S.2.2.1)))) hp)
theorem x_iushr (pc : Nat) {a b : Int32} (hd : decode M.2.1 pc = .ok (.iushr, 1))  (k : TX g Γ M Z Po (pc + 1) L (.int (a.toUInt32 >>> (b.toUInt32 &&& Int32.toUInt32 31)).toInt32 :: st) pr) : TX g Γ M Z Po pc L (.int b :: .int a :: st) pr := by
  obtain ⟨p, l, e, R, s, m, args, below, meth, c, Q⟩ := Γ
  intro F A C H locs ls S hp
  exact lv_iushr F.1 F.2.1 hd rfl (k F A C H locs ls (TXs_st S (okc (okV_i _) (okt (okt S.2.2.1)))) hp)
theorem x_ineg (pc : Nat) {a : Int32} (hd : decode M.2.1 pc = .ok (.ineg, 1))  (k : TX g Γ M Z Po (pc + 1) L (.int (-a) :: st) pr) : TX g Γ M Z Po pc L (.int a :: st) pr := by
  obtain ⟨p, l, e, R, s, m, args, below, meth, c, Q⟩ := Γ
  intro F A C H locs ls S hp
  exact lv_ineg F.1 F.2.1 hd  (k F A C H locs ls (TXs_st S (okc (okV_i _) (okt S.2.2.1))) hp)
theorem x_idiv (pc : Nat) {a b : Int32} (hd : decode M.2.1 pc = .ok (.idiv, 1)) (h0 : ¬ b = 0) (k : TX g Γ M Z Po (pc + 1) L (.int (a / b) :: st) pr) : TX g Γ M Z Po pc L (.int b :: .int a :: st) pr := by
  obtain ⟨p, l, e, R, s, m, args, below, meth, c, Q⟩ := Γ
  intro F A C H locs ls S hp
  exact lv_idiv F.1 F.2.1 hd h0 (k F A C H locs ls (TXs_st S (okc (okV_i _) (okt (okt S.2.2.1)))) hp)
theorem x_irem (pc : Nat) {a b : Int32} (hd : decode M.2.1 pc = .ok (.irem, 1)) (h0 : ¬ b = 0) (k : TX g Γ M Z Po (pc + 1) L (.int (a - a / b * b) :: st) pr) : TX g Γ M Z Po pc L (.int b :: .int a :: st) pr := by
  obtain ⟨p, l, e, R, s, m, args, below, meth, c, Q⟩ := Γ
  intro F A C H locs ls S hp
  exact lv_irem F.1 F.2.1 hd h0 (k F A C H locs ls (TXs_st S (okc (okV_i _) (okt (okt S.2.2.1)))) hp)
theorem x_ladd (pc : Nat) {a b : Int64} (hd : decode M.2.1 pc = .ok (.ladd, 1))  (k : TX g Γ M Z Po (pc + 1) L (.long (a + b) :: st) pr) : TX g Γ M Z Po pc L (.long b :: .long a :: st) pr := by
  obtain ⟨p, l, e, R, s, m, args, below, meth, c, Q⟩ := Γ
  intro F A C H locs ls S hp
  exact lv_ladd F.1 F.2.1 hd  (k F A C H locs ls (TXs_st S (okc (okV_l _) (okt (okt S.2.2.1)))) hp)
theorem x_lsub (pc : Nat) {a b : Int64} (hd : decode M.2.1 pc = .ok (.lsub, 1))  (k : TX g Γ M Z Po (pc + 1) L (.long (a - b) :: st) pr) : TX g Γ M Z Po pc L (.long b :: .long a :: st) pr := by
  obtain ⟨p, l, e, R, s, m, args, below, meth, c, Q⟩ := Γ
  intro F A C H locs ls S hp
  exact lv_lsub F.1 F.2.1 hd  (k F A C H locs ls (TXs_st S (okc (okV_l _) (okt (okt S.2.2.1)))) hp)
theorem x_lmul (pc : Nat) {a b : Int64} (hd : decode M.2.1 pc = .ok (.lmul, 1))  (k : TX g Γ M Z Po (pc + 1) L (.long (a * b) :: st) pr) : TX g Γ M Z Po pc L (.long b :: .long a :: st) pr := by
  obtain ⟨p, l, e, R, s, m, args, below, meth, c, Q⟩ := Γ
  intro F A C H locs ls S hp
  exact lv_lmul F.1 F.2.1 hd  (k F A C H locs ls (TXs_st S (okc (okV_l _) (okt (okt S.2.2.1)))) hp)
theorem x_land (pc : Nat) {a b : Int64} (hd : decode M.2.1 pc = .ok (.land, 1))  (k : TX g Γ M Z Po (pc + 1) L (.long (a &&& b) :: st) pr) : TX g Γ M Z Po pc L (.long b :: .long a :: st) pr := by
  obtain ⟨p, l, e, R, s, m, args, below, meth, c, Q⟩ := Γ
  intro F A C H locs ls S hp
  exact lv_land F.1 F.2.1 hd  (k F A C H locs ls (TXs_st S (okc (okV_l _) (okt (okt S.2.2.1)))) hp)
theorem x_lor (pc : Nat) {a b : Int64} (hd : decode M.2.1 pc = .ok (.lor, 1))  (k : TX g Γ M Z Po (pc + 1) L (.long (a ||| b) :: st) pr) : TX g Γ M Z Po pc L (.long b :: .long a :: st) pr := by
  obtain ⟨p, l, e, R, s, m, args, below, meth, c, Q⟩ := Γ
  intro F A C H locs ls S hp
  exact lv_lor F.1 F.2.1 hd  (k F A C H locs ls (TXs_st S (okc (okV_l _) (okt (okt S.2.2.1)))) hp)
theorem x_lxor (pc : Nat) {a b : Int64} (hd : decode M.2.1 pc = .ok (.lxor, 1))  (k : TX g Γ M Z Po (pc + 1) L (.long (a ^^^ b) :: st) pr) : TX g Γ M Z Po pc L (.long b :: .long a :: st) pr := by
  obtain ⟨p, l, e, R, s, m, args, below, meth, c, Q⟩ := Γ
  intro F A C H locs ls S hp
  exact lv_lxor F.1 F.2.1 hd  (k F A C H locs ls (TXs_st S (okc (okV_l _) (okt (okt S.2.2.1)))) hp)
theorem x_lrem (pc : Nat) {a b : Int64} (hd : decode M.2.1 pc = .ok (.lrem, 1)) (h0 : ¬ b = 0) (k : TX g Γ M Z Po (pc + 1) L (.long (a - a / b * b) :: st) pr) : TX g Γ M Z Po pc L (.long b :: .long a :: st) pr := by
  obtain ⟨p, l, e, R, s, m, args, below, meth, c, Q⟩ := Γ
  intro F A C H locs ls S hp
  exact lv_lrem F.1 F.2.1 hd h0 (k F A C H locs ls (TXs_st S (okc (okV_l _) (okt (okt S.2.2.1)))) hp)
theorem x_lshl (pc : Nat) {a : Int64} {b : Int32} (hd : decode M.2.1 pc = .ok (.lshl, 1))  (k : TX g Γ M Z Po (pc + 1) L (.long (a <<< (b.toInt64 &&& 63)) :: st) pr) : TX g Γ M Z Po pc L (.int b :: .long a :: st) pr := by
  obtain ⟨p, l, e, R, s, m, args, below, meth, c, Q⟩ := Γ
  intro F A C H locs ls S hp
  exact lv_lshl F.1 F.2.1 hd rfl (k F A C H locs ls (TXs_st S (okc (okV_l _) (okt (okt S.2.2.1)))) hp)
theorem x_lushr (pc : Nat) {a : Int64} {b : Int32} (hd : decode M.2.1 pc = .ok (.lushr, 1))  (k : TX g Γ M Z Po (pc + 1) L (.long (a.toUInt64 >>> (b.toInt64.toUInt64 &&& Int64.toUInt64 63)).toInt64 :: st) pr) : TX g Γ M Z Po pc L (.int b :: .long a :: st) pr := by
  obtain ⟨p, l, e, R, s, m, args, below, meth, c, Q⟩ := Γ
  intro F A C H locs ls S hp
  exact lv_lushr F.1 F.2.1 hd rfl (k F A C H locs ls (TXs_st S (okc (okV_l _) (okt (okt S.2.2.1)))) hp)
theorem x_i2l (pc : Nat) {a : Int32} (hd : decode M.2.1 pc = .ok (.i2l, 1))  (k : TX g Γ M Z Po (pc + 1) L (.long a.toInt64 :: st) pr) : TX g Γ M Z Po pc L (.int a :: st) pr := by
  obtain ⟨p, l, e, R, s, m, args, below, meth, c, Q⟩ := Γ
  intro F A C H locs ls S hp
  exact lv_i2l F.1 F.2.1 hd rfl (k F A C H locs ls (TXs_st S (okc (okV_l _) (okt S.2.2.1))) hp)
theorem x_l2i (pc : Nat) {a : Int64} (hd : decode M.2.1 pc = .ok (.l2i, 1))  (k : TX g Γ M Z Po (pc + 1) L (.int a.toInt32 :: st) pr) : TX g Γ M Z Po pc L (.long a :: st) pr := by
  obtain ⟨p, l, e, R, s, m, args, below, meth, c, Q⟩ := Γ
  intro F A C H locs ls S hp
  exact lv_l2i F.1 F.2.1 hd rfl (k F A C H locs ls (TXs_st S (okc (okV_i _) (okt S.2.2.1))) hp)
theorem x_iconst (pc : Nat) (n : Int) (v : Int32) (hd : decode M.2.1 pc = .ok (.iconst n, 1)) (hv : Int32.ofInt n = v) (k : TX g Γ M Z Po (pc + 1) L (.int v :: st) pr) : TX g Γ M Z Po pc L (st) pr := by
  obtain ⟨p, l, e, R, s, m, args, below, meth, c, Q⟩ := Γ
  intro F A C H locs ls S hp
  exact lv_iconst F.1 F.2.1 hd hv (k F A C H locs ls (TXs_st S (okc (okV_i _) S.2.2.1)) hp)
theorem x_bipush (pc : Nat) (n : Int) (v : Int32) (hd : decode M.2.1 pc = .ok (.bipush n, 2)) (hv : (Int8.ofInt n).toInt32 = v) (k : TX g Γ M Z Po (pc + 2) L (.int v :: st) pr) : TX g Γ M Z Po pc L (st) pr := by
  obtain ⟨p, l, e, R, s, m, args, below, meth, c, Q⟩ := Γ
  intro F A C H locs ls S hp
  exact lv_bipush F.1 F.2.1 hd hv (k F A C H locs ls (TXs_st S (okc (okV_i _) S.2.2.1)) hp)
theorem x_sipush (pc : Nat) (n : Int) (v : Int32) (hd : decode M.2.1 pc = .ok (.sipush n, 3)) (hv : (Int16.ofInt n).toInt32 = v) (k : TX g Γ M Z Po (pc + 3) L (.int v :: st) pr) : TX g Γ M Z Po pc L (st) pr := by
  obtain ⟨p, l, e, R, s, m, args, below, meth, c, Q⟩ := Γ
  intro F A C H locs ls S hp
  exact lv_sipush F.1 F.2.1 hd hv (k F A C H locs ls (TXs_st S (okc (okV_i _) S.2.2.1)) hp)
theorem x_lconst (pc : Nat) (n : Fin 2) (v : Int64) (hd : decode M.2.1 pc = .ok (.lconst n, 1)) (hv : Int64.ofNat (n : Nat) = v) (k : TX g Γ M Z Po (pc + 1) L (.long v :: st) pr) : TX g Γ M Z Po pc L (st) pr := by
  obtain ⟨p, l, e, R, s, m, args, below, meth, c, Q⟩ := Γ
  intro F A C H locs ls S hp
  exact lv_lconst F.1 F.2.1 hd hv (k F A C H locs ls (TXs_st S (okc (okV_l _) S.2.2.1)) hp)
theorem x_ldc (pc index : Nat) (v : Int32) (hd : decode M.2.1 pc = .ok (.ldc index, 2)) (hq : Cond.constant M.1 index v ∈ lw_all) (k : TX g Γ M Z Po (pc + 2) L (.int v :: st) pr) : TX g Γ M Z Po pc L st pr := by
  obtain ⟨p, l, e, R, s, m, args, below, meth, c, Q⟩ := Γ
  intro F A C H locs ls S hp
  exact lv_ldc F.1 F.2.1 F.2.2.2.1 (F.2.2.2.2.1 _ hq) hd (k F A C H locs ls (TXs_st S (okc (okV_i _) S.2.2.1)) hp)
theorem x_ldc2 (pc index : Nat) (v : Int64) (hd : decode M.2.1 pc = .ok (.ldc2_w index, 3)) (hq : Cond.constantLong M.1 index v ∈ lw_all) (k : TX g Γ M Z Po (pc + 3) L (.long v :: st) pr) : TX g Γ M Z Po pc L st pr := by
  obtain ⟨p, l, e, R, s, m, args, below, meth, c, Q⟩ := Γ
  intro F A C H locs ls S hp
  exact lv_ldc2 F.1 F.2.1 F.2.2.2.1 (F.2.2.2.2.1 _ hq) hd (k F A C H locs ls (TXs_st S (okc (okV_l _) S.2.2.1)) hp)
theorem x_null (pc : Nat) (hd : decode M.2.1 pc = .ok (.aconst_null, 1)) (k : TX g Γ M Z Po (pc + 1) L (.ref nul :: st) pr) : TX g Γ M Z Po pc L st pr := by
  obtain ⟨p, l, e, R, s, m, args, below, meth, c, Q⟩ := Γ
  intro F A C H locs ls S hp
  exact lv_null F.1 F.2.1 hd (k F A C H locs ls (TXs_st S (okc (okV_r (Or.inl rfl)) S.2.2.1)) hp)
theorem x_iload_n (pc : Nat) {n : Fin 4} {v : Int32} (at_ : Nat) (hd : decode M.2.1 pc = .ok (.iload_n n, 1)) (hl : L[at_]? = some ((n : Nat), .int v)) (k : TX g Γ M Z Po (pc + 1) L (.int v :: st) pr) : TX g Γ M Z Po pc L st pr := by
  obtain ⟨p, l, e, R, s, m, args, below, meth, c, Q⟩ := Γ
  intro F A C H locs ls S hp
  exact lv_iload_n F.1 F.2.1 hd rfl (lv_at' S.1 at_ hl) (k F A C H locs ls (TXs_st S (okc (okV_i _) S.2.2.1)) hp)
theorem x_iload (pc : Nat) {n : Nat} {v : Int32} (at_ : Nat) (hd : decode M.2.1 pc = .ok (.iload n, 2)) (hl : L[at_]? = some (n, .int v)) (k : TX g Γ M Z Po (pc + 2) L (.int v :: st) pr) : TX g Γ M Z Po pc L st pr := by
  obtain ⟨p, l, e, R, s, m, args, below, meth, c, Q⟩ := Γ
  intro F A C H locs ls S hp
  exact lv_iload F.1 F.2.1 hd (lv_at' S.1 at_ hl) (k F A C H locs ls (TXs_st S (okc (okV_i _) S.2.2.1)) hp)
theorem x_lload_n (pc : Nat) {n : Fin 4} {v : Int64} (at_ : Nat) (hd : decode M.2.1 pc = .ok (.lload_n n, 1)) (hl : L[at_]? = some ((n : Nat), .long v)) (k : TX g Γ M Z Po (pc + 1) L (.long v :: st) pr) : TX g Γ M Z Po pc L st pr := by
  obtain ⟨p, l, e, R, s, m, args, below, meth, c, Q⟩ := Γ
  intro F A C H locs ls S hp
  exact lv_lload_n F.1 F.2.1 hd rfl (lv_at' S.1 at_ hl) (k F A C H locs ls (TXs_st S (okc (okV_l _) S.2.2.1)) hp)
theorem x_lload (pc : Nat) {n : Nat} {v : Int64} (at_ : Nat) (hd : decode M.2.1 pc = .ok (.lload n, 2)) (hl : L[at_]? = some (n, .long v)) (k : TX g Γ M Z Po (pc + 2) L (.long v :: st) pr) : TX g Γ M Z Po pc L st pr := by
  obtain ⟨p, l, e, R, s, m, args, below, meth, c, Q⟩ := Γ
  intro F A C H locs ls S hp
  exact lv_lload F.1 F.2.1 hd (lv_at' S.1 at_ hl) (k F A C H locs ls (TXs_st S (okc (okV_l _) S.2.2.1)) hp)
theorem x_aload_n (pc : Nat) {n : Fin 4} {v : Nat} (at_ : Nat) (hd : decode M.2.1 pc = .ok (.aload_n n, 1)) (hl : L[at_]? = some ((n : Nat), .ref v)) (k : TX g Γ M Z Po (pc + 1) L (.ref v :: st) pr) : TX g Γ M Z Po pc L st pr := by
  obtain ⟨p, l, e, R, s, m, args, below, meth, c, Q⟩ := Γ
  intro F A C H locs ls S hp
  have K := k F A C H locs ls (TXs_st S (okc (S.2.1 _ (List.mem_of_getElem? hl)) S.2.2.1)) hp
  have a := lv_at' S.1 at_ hl
  by_cases hv : v = 62
  · subst hv
    exact lv_aload_nN F.1 F.2.1 hd rfl a K
  · rw [dv_r hv] at a
    have K' : WW (p, l, e, R, s, m, args, below, meth, c, Q) H locs (F0 m (pc + 1) ls (.ref (A v) :: st.map (dv A))) := by
      rw [← dv_r hv]; exact K
    exact lv_aload_n F.1 F.2.1 hd rfl a K'
theorem x_aload (pc : Nat) {n : Nat} {v : Nat} (at_ : Nat) (hd : decode M.2.1 pc = .ok (.aload n, 2)) (hl : L[at_]? = some (n, .ref v)) (k : TX g Γ M Z Po (pc + 2) L (.ref v :: st) pr) : TX g Γ M Z Po pc L st pr := by
  obtain ⟨p, l, e, R, s, m, args, below, meth, c, Q⟩ := Γ
  intro F A C H locs ls S hp
  have K := k F A C H locs ls (TXs_st S (okc (S.2.1 _ (List.mem_of_getElem? hl)) S.2.2.1)) hp
  have a := lv_at' S.1 at_ hl
  by_cases hv : v = 62
  · subst hv
    exact lv_aloadN F.1 F.2.1 hd a K
  · rw [dv_r hv] at a
    have K' : WW (p, l, e, R, s, m, args, below, meth, c, Q) H locs (F0 m (pc + 2) ls (.ref (A v) :: st.map (dv A))) := by
      rw [← dv_r hv]; exact K
    exact lv_aload F.1 F.2.1 hd a K'
theorem map_flt (f : Nat × Value → Bool) (A : Nat → Nat) (hf : ∀ q : Nat × Value, f (q.1, dv A q.2) = f q) : ∀ L : List (Nat × Value), (L.map (fun q => (q.1, dv A q.2))).filter f = (L.filter f).map (fun q => (q.1, dv A q.2)) := by
  intro L
  induction L with
  | nil => rfl
  | cons q qs ih =>
    rw [List.map_cons, List.filter_cons, List.filter_cons, hf, ih]
    split <;> rfl
theorem okL {C : St} {f : Nat × Value → Bool} {i : Nat} {v : Value} (h : ∀ q ∈ L, okV C q.2) (hv : okV C v) : ∀ q ∈ (i, v) :: L.filter f, okV C q.2 := fun q hq => (List.mem_cons.mp hq).elim (fun e => by rw [e]; exact hv) (fun hq => h q (List.mem_filter.mp hq).1)
theorem x_istore_n (pc : Nat) {n : Fin 4} {v : Int32} (L' : List (Nat × Value)) (hd : decode M.2.1 pc = .ok (.istore_n n, 1)) (hn : (n : Nat) < M.2.2.1) (hL : ((n : Nat), .int v) :: L.filter (fun q => !(q.1 == (n : Nat)) && !(q.1 + 1 == (n : Nat) && q.2.category == 2)) = L') (k : TX g Γ M Z Po (pc + 1) L' st pr) : TX g Γ M Z Po pc L (.int v :: st) pr := by
  subst hL
  obtain ⟨p, l, e, R, s, m, args, below, meth, c, Q⟩ := Γ
  intro F A C H locs ls S hp
  refine lv_istore_n F.1 F.2.1 hd rfl S.1 hn rfl (fun ls hl => ?_)
  rw [map_flt _ A (fun q => by simp only [dv_cat])] at hl
  exact k F A C H locs ls ⟨hl, okL S.2.1 (okh S.2.2.1), okt S.2.2.1, S.2.2.2⟩ hp

theorem x_istore (pc : Nat) {n : Nat} {v : Int32} (L' : List (Nat × Value)) (hd : decode M.2.1 pc = .ok (.istore n, 2)) (hn : n < M.2.2.1) (hL : (n, .int v) :: L.filter (fun q => !(q.1 == n) && !(q.1 + 1 == n && q.2.category == 2)) = L') (k : TX g Γ M Z Po (pc + 2) L' st pr) : TX g Γ M Z Po pc L (.int v :: st) pr := by
  subst hL
  obtain ⟨p, l, e, R, s, m, args, below, meth, c, Q⟩ := Γ
  intro F A C H locs ls S hp
  refine lv_istore F.1 F.2.1 hd S.1 hn rfl (fun ls hl => ?_)
  rw [map_flt _ A (fun q => by simp only [dv_cat])] at hl
  exact k F A C H locs ls ⟨hl, okL S.2.1 (okh S.2.2.1), okt S.2.2.1, S.2.2.2⟩ hp

theorem x_lstore_n (pc : Nat) {n : Fin 4} {v : Int64} (L' : List (Nat × Value)) (hd : decode M.2.1 pc = .ok (.lstore_n n, 1)) (hn : (n : Nat) + 1 < M.2.2.1) (hL : ((n : Nat), .long v) :: L.filter (fun q => !(q.1 == (n : Nat)) && (!(q.1 == (n : Nat) + 1) && !(q.1 + 1 == (n : Nat) && q.2.category == 2))) = L') (k : TX g Γ M Z Po (pc + 1) L' st pr) : TX g Γ M Z Po pc L (.long v :: st) pr := by
  subst hL
  obtain ⟨p, l, e, R, s, m, args, below, meth, c, Q⟩ := Γ
  intro F A C H locs ls S hp
  refine lv_lstore_n F.1 F.2.1 hd rfl S.1 hn rfl (fun ls hl => ?_)
  rw [map_flt _ A (fun q => by simp only [dv_cat])] at hl
  exact k F A C H locs ls ⟨hl, okL S.2.1 (okh S.2.2.1), okt S.2.2.1, S.2.2.2⟩ hp

theorem x_lstore (pc : Nat) {n : Nat} {v : Int64} (L' : List (Nat × Value)) (hd : decode M.2.1 pc = .ok (.lstore n, 2)) (hn : n + 1 < M.2.2.1) (hL : (n, .long v) :: L.filter (fun q => !(q.1 == n) && (!(q.1 == n + 1) && !(q.1 + 1 == n && q.2.category == 2))) = L') (k : TX g Γ M Z Po (pc + 2) L' st pr) : TX g Γ M Z Po pc L (.long v :: st) pr := by
  subst hL
  obtain ⟨p, l, e, R, s, m, args, below, meth, c, Q⟩ := Γ
  intro F A C H locs ls S hp
  refine lv_lstore F.1 F.2.1 hd S.1 hn rfl (fun ls hl => ?_)
  rw [map_flt _ A (fun q => by simp only [dv_cat])] at hl
  exact k F A C H locs ls ⟨hl, okL S.2.1 (okh S.2.2.1), okt S.2.2.1, S.2.2.2⟩ hp

theorem x_astore_n (pc : Nat) {n : Fin 4} {v : Nat} (L' : List (Nat × Value)) (hd : decode M.2.1 pc = .ok (.astore_n n, 1)) (hn : (n : Nat) < M.2.2.1) (hL : ((n : Nat), .ref v) :: L.filter (fun q => !(q.1 == (n : Nat)) && !(q.1 + 1 == (n : Nat) && q.2.category == 2)) = L') (k : TX g Γ M Z Po (pc + 1) L' st pr) : TX g Γ M Z Po pc L (.ref v :: st) pr := by
  subst hL
  obtain ⟨p, l, e, R, s, m, args, below, meth, c, Q⟩ := Γ
  intro F A C H locs ls S hp
  by_cases hv : v = 62
  · subst hv
    refine lv_astore_nN F.1 F.2.1 hd rfl S.1 hn rfl (fun ls hl => ?_)
    rw [map_flt _ A (fun q => by simp only [dv_cat])] at hl
    exact k F A C H locs ls ⟨hl, okL S.2.1 (okh S.2.2.1), okt S.2.2.1, S.2.2.2⟩ hp
  · show WW (p, l, e, R, s, m, args, below, meth, c, Q) H locs (F0 m pc ls (dv A (.ref v) :: st.map (dv A)))
    rw [dv_r hv]
    refine lv_astore_n F.1 F.2.1 hd rfl S.1 hn rfl (fun ls hl => ?_)
    rw [map_flt _ A (fun q => by simp only [dv_cat]), ← dv_r hv] at hl
    exact k F A C H locs ls ⟨hl, okL S.2.1 (okh S.2.2.1), okt S.2.2.1, S.2.2.2⟩ hp

theorem x_astore (pc : Nat) {n : Nat} {v : Nat} (L' : List (Nat × Value)) (hd : decode M.2.1 pc = .ok (.astore n, 2)) (hn : n < M.2.2.1) (hL : (n, .ref v) :: L.filter (fun q => !(q.1 == n) && !(q.1 + 1 == n && q.2.category == 2)) = L') (k : TX g Γ M Z Po (pc + 2) L' st pr) : TX g Γ M Z Po pc L (.ref v :: st) pr := by
  subst hL
  obtain ⟨p, l, e, R, s, m, args, below, meth, c, Q⟩ := Γ
  intro F A C H locs ls S hp
  by_cases hv : v = 62
  · subst hv
    refine lv_astoreN F.1 F.2.1 hd S.1 hn rfl (fun ls hl => ?_)
    rw [map_flt _ A (fun q => by simp only [dv_cat])] at hl
    exact k F A C H locs ls ⟨hl, okL S.2.1 (okh S.2.2.1), okt S.2.2.1, S.2.2.2⟩ hp
  · show WW (p, l, e, R, s, m, args, below, meth, c, Q) H locs (F0 m pc ls (dv A (.ref v) :: st.map (dv A)))
    rw [dv_r hv]
    refine lv_astore F.1 F.2.1 hd S.1 hn rfl (fun ls hl => ?_)
    rw [map_flt _ A (fun q => by simp only [dv_cat]), ← dv_r hv] at hl
    exact k F A C H locs ls ⟨hl, okL S.2.1 (okh S.2.2.1), okt S.2.2.1, S.2.2.2⟩ hp

theorem x_iinc (pc : Nat) {i : Nat} {n : Int} {x v : Int32} (at_ : Nat) (L' : List (Nat × Value)) (hd : decode M.2.1 pc = .ok (.iinc i n, 3)) (hl : L[at_]? = some (i, .int x)) (hv : x + Int32.ofInt n = v) (hn : i < M.2.2.1) (hL : (i, .int v) :: L.filter (fun q => !(q.1 == i) && !(q.1 + 1 == i && q.2.category == 2)) = L') (k : TX g Γ M Z Po (pc + 3) L' st pr) : TX g Γ M Z Po pc L st pr := by
  subst hL
  obtain ⟨p, l, e, R, s, m, args, below, meth, c, Q⟩ := Γ
  intro F A C H locs ls S hp
  refine lv_iinc (k := at_) F.1 F.2.1 hd S.1 (by rw [List.getElem?_map, hl]; rfl) hv hn rfl (fun ls hl => ?_)
  rw [map_flt _ A (fun q => by simp only [dv_cat])] at hl
  exact k F A C H locs ls ⟨hl, okL S.2.1 (okV_i _), S.2.2.1, S.2.2.2⟩ hp
/-- fewer locals -/
theorem x_sub (ks : List Nat) (L' : List (Nat × Value)) (hL : ks.filterMap (fun k => L[k]?) = L') {pc : Nat} (k : TX g Γ M Z Po pc L' st pr) : TX g Γ M Z Po pc L st pr := by
  subst hL
  obtain ⟨p, l, e, R, s, m, args, below, meth, c, Q⟩ := Γ
  intro F A C H locs ls S hp
  have hin : ∀ q ∈ ks.filterMap (fun k => L[k]?), q ∈ L := fun q hq => by
    obtain ⟨i, -, hi⟩ := List.mem_filterMap.mp hq
    exact List.mem_of_getElem? hi
  refine k F A C H locs ls ⟨⟨S.1.1, S.1.2.1, fun q hq => ?_⟩, fun q hq => S.2.1 q (hin q hq), S.2.2⟩ hp
  obtain ⟨q0, h1, rfl⟩ := List.mem_map.mp hq
  exact S.1.2.2 _ (List.mem_map.mpr ⟨q0, hin q0 h1, rfl⟩)
theorem x_dup (pc : Nat) {v : Value} (hd : decode M.2.1 pc = .ok (.dup, 1)) (cv : v.category = 1) (k : TX g Γ M Z Po (pc + 1) L (v :: v :: st) pr) : TX g Γ M Z Po pc L (v :: st) pr := by
  obtain ⟨p, l, e, R, s, m, args, below, meth, c, Q⟩ := Γ
  intro F A C H locs ls S hp
  exact lv_dup F.1 F.2.1 hd ((dv_cat _).trans cv) (k F A C H locs ls (TXs_st S (okc (okh S.2.2.1) (okc (okh S.2.2.1) (okt S.2.2.1)))) hp)
theorem x_pop (pc : Nat) {v : Value} (hd : decode M.2.1 pc = .ok (.pop, 1)) (cv : v.category = 1) (k : TX g Γ M Z Po (pc + 1) L (st) pr) : TX g Γ M Z Po pc L (v :: st) pr := by
  obtain ⟨p, l, e, R, s, m, args, below, meth, c, Q⟩ := Γ
  intro F A C H locs ls S hp
  exact lv_pop F.1 F.2.1 hd ((dv_cat _).trans cv) (k F A C H locs ls (TXs_st S (okt S.2.2.1)) hp)
theorem x_dup_x1 (pc : Nat) {u v : Value} (hd : decode M.2.1 pc = .ok (.dup_x1, 1)) (cu : u.category = 1) (cv : v.category = 1) (k : TX g Γ M Z Po (pc + 1) L (v :: u :: v :: st) pr) : TX g Γ M Z Po pc L (v :: u :: st) pr := by
  obtain ⟨p, l, e, R, s, m, args, below, meth, c, Q⟩ := Γ
  intro F A C H locs ls S hp
  exact lv_dup_x1 F.1 F.2.1 hd ((dv_cat _).trans cv) ((dv_cat _).trans cu) (k F A C H locs ls (TXs_st S (okc (okh S.2.2.1) (okc (okh (okt S.2.2.1)) (okc (okh S.2.2.1) (okt (okt S.2.2.1)))))) hp)
theorem x_dup_x2 (pc : Nat) {t u v : Value} (hd : decode M.2.1 pc = .ok (.dup_x2, 1)) (ct : t.category = 1) (cu : u.category = 1) (cv : v.category = 1) (k : TX g Γ M Z Po (pc + 1) L (v :: u :: t :: v :: st) pr) : TX g Γ M Z Po pc L (v :: u :: t :: st) pr := by
  obtain ⟨p, l, e, R, s, m, args, below, meth, c, Q⟩ := Γ
  intro F A C H locs ls S hp
  exact lv_dup_x2 F.1 F.2.1 hd ((dv_cat _).trans cv) ((dv_cat _).trans cu) ((dv_cat _).trans ct) (k F A C H locs ls (TXs_st S (okc (okh S.2.2.1) (okc (okh (okt S.2.2.1)) (okc (okh (okt (okt S.2.2.1))) (okc (okh S.2.2.1) (okt (okt (okt S.2.2.1)))))))) hp)
theorem x_dup2 (pc : Nat) {u v : Value} (hd : decode M.2.1 pc = .ok (.dup2, 1)) (cu : u.category = 1) (cv : v.category = 1) (k : TX g Γ M Z Po (pc + 1) L (v :: u :: v :: u :: st) pr) : TX g Γ M Z Po pc L (v :: u :: st) pr := by
  obtain ⟨p, l, e, R, s, m, args, below, meth, c, Q⟩ := Γ
  intro F A C H locs ls S hp
  exact lv_dup2_11 F.1 F.2.1 hd ((dv_cat _).trans cv) ((dv_cat _).trans cu) (k F A C H locs ls (TXs_st S (okc (okh S.2.2.1) (okc (okh (okt S.2.2.1)) (okc (okh S.2.2.1) (okc (okh (okt S.2.2.1)) (okt (okt S.2.2.1))))))) hp)
theorem x_if_eq (pc tgt : Nat) {x : Int32} {off : Int} (hd : decode M.2.1 pc = .ok (.ifCond .eq off, 3)) (ht : (pc : Int) + off = (tgt : Int)) (k1 : x = 0 → TX g Γ M Z Po tgt L st pr) (k2 : ¬ x = 0 → TX g Γ M Z Po (pc + 3) L st pr2) : TX g Γ M Z Po pc L (.int x :: st) (cnd (x = 0) pr pr2) := by
  obtain ⟨p, l, e, R, s, m, args, below, meth, c, Q⟩ := Γ
  intro F A C H locs ls S hp
  exact lv_if_eq F.1 F.2.1 hd ht (fun h => k1 h F A C H locs ls (TXs_st S (okt S.2.2.1)) (hp.1 h)) (fun h => k2 h F A C H locs ls (TXs_st S (okt S.2.2.1)) (hp.2 h))
theorem x_icmp_eq (pc tgt : Nat) {x y : Int32} {off : Int} (hd : decode M.2.1 pc = .ok (.if_icmp .eq off, 3)) (ht : (pc : Int) + off = (tgt : Int)) (k1 : x = y → TX g Γ M Z Po tgt L st pr) (k2 : ¬ x = y → TX g Γ M Z Po (pc + 3) L st pr2) : TX g Γ M Z Po pc L (.int y :: .int x :: st) (cnd (x = y) pr pr2) := by
  obtain ⟨p, l, e, R, s, m, args, below, meth, c, Q⟩ := Γ
  intro F A C H locs ls S hp
  exact lv_icmp_eq F.1 F.2.1 hd ht (fun h => k1 h F A C H locs ls (TXs_st S (okt (okt S.2.2.1))) (hp.1 h)) (fun h => k2 h F A C H locs ls (TXs_st S (okt (okt S.2.2.1))) (hp.2 h))
theorem x_if_ne (pc tgt : Nat) {x : Int32} {off : Int} (hd : decode M.2.1 pc = .ok (.ifCond .ne off, 3)) (ht : (pc : Int) + off = (tgt : Int)) (k1 : x = 0 → TX g Γ M Z Po (pc + 3) L st pr) (k2 : ¬ x = 0 → TX g Γ M Z Po tgt L st pr2) : TX g Γ M Z Po pc L (.int x :: st) (cnd (x = 0) pr pr2) := by
  obtain ⟨p, l, e, R, s, m, args, below, meth, c, Q⟩ := Γ
  intro F A C H locs ls S hp
  exact lv_if_ne F.1 F.2.1 hd ht (fun h => k2 h F A C H locs ls (TXs_st S (okt S.2.2.1)) (hp.2 h)) (fun h => k1 h F A C H locs ls (TXs_st S (okt S.2.2.1)) (hp.1 h))
theorem x_icmp_ne (pc tgt : Nat) {x y : Int32} {off : Int} (hd : decode M.2.1 pc = .ok (.if_icmp .ne off, 3)) (ht : (pc : Int) + off = (tgt : Int)) (k1 : x = y → TX g Γ M Z Po (pc + 3) L st pr) (k2 : ¬ x = y → TX g Γ M Z Po tgt L st pr2) : TX g Γ M Z Po pc L (.int y :: .int x :: st) (cnd (x = y) pr pr2) := by
  obtain ⟨p, l, e, R, s, m, args, below, meth, c, Q⟩ := Γ
  intro F A C H locs ls S hp
  exact lv_icmp_ne F.1 F.2.1 hd ht (fun h => k2 h F A C H locs ls (TXs_st S (okt (okt S.2.2.1))) (hp.2 h)) (fun h => k1 h F A C H locs ls (TXs_st S (okt (okt S.2.2.1))) (hp.1 h))
theorem x_if_lt (pc tgt : Nat) {x : Int32} {off : Int} (hd : decode M.2.1 pc = .ok (.ifCond .lt off, 3)) (ht : (pc : Int) + off = (tgt : Int)) (k1 : x < 0 → TX g Γ M Z Po tgt L st pr) (k2 : ¬ x < 0 → TX g Γ M Z Po (pc + 3) L st pr2) : TX g Γ M Z Po pc L (.int x :: st) (cnd (x < 0) pr pr2) := by
  obtain ⟨p, l, e, R, s, m, args, below, meth, c, Q⟩ := Γ
  intro F A C H locs ls S hp
  exact lv_if_lt F.1 F.2.1 hd ht (fun h => k1 h F A C H locs ls (TXs_st S (okt S.2.2.1)) (hp.1 h)) (fun h => k2 h F A C H locs ls (TXs_st S (okt S.2.2.1)) (hp.2 h))
theorem x_icmp_lt (pc tgt : Nat) {x y : Int32} {off : Int} (hd : decode M.2.1 pc = .ok (.if_icmp .lt off, 3)) (ht : (pc : Int) + off = (tgt : Int)) (k1 : x < y → TX g Γ M Z Po tgt L st pr) (k2 : ¬ x < y → TX g Γ M Z Po (pc + 3) L st pr2) : TX g Γ M Z Po pc L (.int y :: .int x :: st) (cnd (x < y) pr pr2) := by
  obtain ⟨p, l, e, R, s, m, args, below, meth, c, Q⟩ := Γ
  intro F A C H locs ls S hp
  exact lv_icmp_lt F.1 F.2.1 hd ht (fun h => k1 h F A C H locs ls (TXs_st S (okt (okt S.2.2.1))) (hp.1 h)) (fun h => k2 h F A C H locs ls (TXs_st S (okt (okt S.2.2.1))) (hp.2 h))
theorem x_if_ge (pc tgt : Nat) {x : Int32} {off : Int} (hd : decode M.2.1 pc = .ok (.ifCond .ge off, 3)) (ht : (pc : Int) + off = (tgt : Int)) (k1 : 0 ≤ x → TX g Γ M Z Po tgt L st pr) (k2 : ¬ 0 ≤ x → TX g Γ M Z Po (pc + 3) L st pr2) : TX g Γ M Z Po pc L (.int x :: st) (cnd (0 ≤ x) pr pr2) := by
  obtain ⟨p, l, e, R, s, m, args, below, meth, c, Q⟩ := Γ
  intro F A C H locs ls S hp
  exact lv_if_ge F.1 F.2.1 hd ht (fun h => k1 h F A C H locs ls (TXs_st S (okt S.2.2.1)) (hp.1 h)) (fun h => k2 h F A C H locs ls (TXs_st S (okt S.2.2.1)) (hp.2 h))
theorem x_icmp_ge (pc tgt : Nat) {x y : Int32} {off : Int} (hd : decode M.2.1 pc = .ok (.if_icmp .ge off, 3)) (ht : (pc : Int) + off = (tgt : Int)) (k1 : y ≤ x → TX g Γ M Z Po tgt L st pr) (k2 : ¬ y ≤ x → TX g Γ M Z Po (pc + 3) L st pr2) : TX g Γ M Z Po pc L (.int y :: .int x :: st) (cnd (y ≤ x) pr pr2) := by
  obtain ⟨p, l, e, R, s, m, args, below, meth, c, Q⟩ := Γ
  intro F A C H locs ls S hp
  exact lv_icmp_ge F.1 F.2.1 hd ht (fun h => k1 h F A C H locs ls (TXs_st S (okt (okt S.2.2.1))) (hp.1 h)) (fun h => k2 h F A C H locs ls (TXs_st S (okt (okt S.2.2.1))) (hp.2 h))
theorem x_if_gt (pc tgt : Nat) {x : Int32} {off : Int} (hd : decode M.2.1 pc = .ok (.ifCond .gt off, 3)) (ht : (pc : Int) + off = (tgt : Int)) (k1 : 0 < x → TX g Γ M Z Po tgt L st pr) (k2 : ¬ 0 < x → TX g Γ M Z Po (pc + 3) L st pr2) : TX g Γ M Z Po pc L (.int x :: st) (cnd (0 < x) pr pr2) := by
  obtain ⟨p, l, e, R, s, m, args, below, meth, c, Q⟩ := Γ
  intro F A C H locs ls S hp
  exact lv_if_gt F.1 F.2.1 hd ht (fun h => k1 h F A C H locs ls (TXs_st S (okt S.2.2.1)) (hp.1 h)) (fun h => k2 h F A C H locs ls (TXs_st S (okt S.2.2.1)) (hp.2 h))
theorem x_icmp_gt (pc tgt : Nat) {x y : Int32} {off : Int} (hd : decode M.2.1 pc = .ok (.if_icmp .gt off, 3)) (ht : (pc : Int) + off = (tgt : Int)) (k1 : y < x → TX g Γ M Z Po tgt L st pr) (k2 : ¬ y < x → TX g Γ M Z Po (pc + 3) L st pr2) : TX g Γ M Z Po pc L (.int y :: .int x :: st) (cnd (y < x) pr pr2) := by
  obtain ⟨p, l, e, R, s, m, args, below, meth, c, Q⟩ := Γ
  intro F A C H locs ls S hp
  exact lv_icmp_gt F.1 F.2.1 hd ht (fun h => k1 h F A C H locs ls (TXs_st S (okt (okt S.2.2.1))) (hp.1 h)) (fun h => k2 h F A C H locs ls (TXs_st S (okt (okt S.2.2.1))) (hp.2 h))
theorem x_if_le (pc tgt : Nat) {x : Int32} {off : Int} (hd : decode M.2.1 pc = .ok (.ifCond .le off, 3)) (ht : (pc : Int) + off = (tgt : Int)) (k1 : x ≤ 0 → TX g Γ M Z Po tgt L st pr) (k2 : ¬ x ≤ 0 → TX g Γ M Z Po (pc + 3) L st pr2) : TX g Γ M Z Po pc L (.int x :: st) (cnd (x ≤ 0) pr pr2) := by
  obtain ⟨p, l, e, R, s, m, args, below, meth, c, Q⟩ := Γ
  intro F A C H locs ls S hp
  exact lv_if_le F.1 F.2.1 hd ht (fun h => k1 h F A C H locs ls (TXs_st S (okt S.2.2.1)) (hp.1 h)) (fun h => k2 h F A C H locs ls (TXs_st S (okt S.2.2.1)) (hp.2 h))
theorem x_icmp_le (pc tgt : Nat) {x y : Int32} {off : Int} (hd : decode M.2.1 pc = .ok (.if_icmp .le off, 3)) (ht : (pc : Int) + off = (tgt : Int)) (k1 : x ≤ y → TX g Γ M Z Po tgt L st pr) (k2 : ¬ x ≤ y → TX g Γ M Z Po (pc + 3) L st pr2) : TX g Γ M Z Po pc L (.int y :: .int x :: st) (cnd (x ≤ y) pr pr2) := by
  obtain ⟨p, l, e, R, s, m, args, below, meth, c, Q⟩ := Γ
  intro F A C H locs ls S hp
  exact lv_icmp_le F.1 F.2.1 hd ht (fun h => k1 h F A C H locs ls (TXs_st S (okt (okt S.2.2.1))) (hp.1 h)) (fun h => k2 h F A C H locs ls (TXs_st S (okt (okt S.2.2.1))) (hp.2 h))
theorem x_goto (pc tgt : Nat) {off : Int} (hd : decode M.2.1 pc = .ok (.goto off, 3)) (ht : (pc : Int) + off = (tgt : Int)) (k : TX g Γ M Z Po tgt L st pr) : TX g Γ M Z Po pc L st pr := by
  obtain ⟨p, l, e, R, s, m, args, below, meth, c, Q⟩ := Γ
  intro F A C H locs ls S hp
  exact lv_goto F.1 F.2.1 hd ht (k F A C H locs ls S hp)
theorem x_lcmp (pc : Nat) {a b : Int64} (hd : decode M.2.1 pc = .ok (.lcmp, 1)) (k : TX g Γ M Z Po (pc + 1) L (.int (lg_cmp a b) :: st) pr) : TX g Γ M Z Po pc L (.long b :: .long a :: st) pr := by
  obtain ⟨p, l, e, R, s, m, args, below, meth, c, Q⟩ := Γ
  intro F A C H locs ls S hp
  exact W.lcmp F.1 F.2.1 hd (k F A C H locs ls (TXs_st S (okc (okV_i _) (okt (okt S.2.2.1)))) hp)
theorem x_ifnull (pc tgt : Nat) {n : Nat} {off : Int} (hd : decode M.2.1 pc = .ok (.ifnull off, 3)) (ht : (pc : Int) + off = (tgt : Int)) (k1 : n = nul → TX g Γ M Z Po tgt L st pr) (k2 : ¬ n = nul → TX g Γ M Z Po (pc + 3) L st pr2) : TX g Γ M Z Po pc L (.ref n :: st) (cnd (n = nul) pr pr2) := by
  obtain ⟨p, l, e, R, s, m, args, below, meth, c, Q⟩ := Γ
  intro F A C H locs ls S hp
  by_cases h : n = 62
  · have K := k1 h F A C H locs ls (TXs_st S (okt S.2.2.1)) (hp.1 h)
    subst h
    exact lv_ifnullN F.1 F.2.1 hd ht K
  · have K := k2 h F A C H locs ls (TXs_st S (okt S.2.2.1)) (hp.2 h)
    show WW (p, l, e, R, s, m, args, below, meth, c, Q) H locs (F0 m pc ls (dv A (.ref n) :: st.map (dv A)))
    rw [dv_r h]
    exact lv_ifnull F.1 F.2.1 hd K
theorem x_ifnonnull (pc tgt : Nat) {n : Nat} {off : Int} (hd : decode M.2.1 pc = .ok (.ifnonnull off, 3)) (ht : (pc : Int) + off = (tgt : Int)) (k1 : n = nul → TX g Γ M Z Po (pc + 3) L st pr) (k2 : ¬ n = nul → TX g Γ M Z Po tgt L st pr2) : TX g Γ M Z Po pc L (.ref n :: st) (cnd (n = nul) pr pr2) := by
  obtain ⟨p, l, e, R, s, m, args, below, meth, c, Q⟩ := Γ
  intro F A C H locs ls S hp
  by_cases h : n = 62
  · have K := k1 h F A C H locs ls (TXs_st S (okt S.2.2.1)) (hp.1 h)
    subst h
    exact lv_ifnonnullN F.1 F.2.1 hd K
  · have K := k2 h F A C H locs ls (TXs_st S (okt S.2.2.1)) (hp.2 h)
    show WW (p, l, e, R, s, m, args, below, meth, c, Q) H locs (F0 m pc ls (dv A (.ref n) :: st.map (dv A)))
    rw [dv_r h]
    exact lv_ifnonnull F.1 F.2.1 hd ht K
/-- a case of the program, no instruction -/
theorem x_cnd {c : Prop} {pc : Nat} (k1 : c → TX g Γ M Z Po pc L st pr) (k2 : ¬ c → TX g Γ M Z Po pc L st pr2) : TX g Γ M Z Po pc L st (cnd c pr pr2) := by
  intro F A C H locs ls S hp
  by_cases h : c
  · exact k1 h F A C H locs ls S (hp.1 h)
  · exact k2 h F A C H locs ls S (hp.2 h)
theorem x_asr {c : Prop} {pc : Nat} (k : c → TX g Γ M Z Po pc L st pr) : TX g Γ M Z Po pc L st (asr c pr) := fun F A C H locs ls S hp => k hp.1 F A C H locs ls S hp.2
theorem x_isK {K : Nat} {r pc : Nat} {kk : Nat → PT τ} (k : ∀ i, r = idc K i → TX g Γ M Z Po pc L st (kk i)) : TX g Γ M Z Po pc L st (isK K r kk) := by
  intro F A C H locs ls S hp
  obtain ⟨i, hi, hp⟩ := hp
  exact k i hi F A C H locs ls S hp
theorem x_tsw (pc tgt : Nat) {dflt lo hi : Int} {offs : Array Int} {len : Nat} {x : Int32} (v : Int32) (n : Int) (off : Int) (hx : x = v) (hn : v.toInt = n) (hd : decode M.2.1 pc = .ok (.tableswitch dflt lo hi offs, len)) (h1 : ¬ n < lo) (h2 : ¬ hi < n) (ho : offs[(n - lo).toNat]? = some off) (ht : (pc : Int) + off = (tgt : Int)) (k : TX g Γ M Z Po tgt L st pr) : TX g Γ M Z Po pc L (.int x :: st) pr := by
  obtain ⟨p, l, e, R, s, m, args, below, meth, c, Q⟩ := Γ
  intro F A C H locs ls S hp
  subst hx; subst hn
  exact lv_tableIn F.1 F.2.1 hd h1 h2 ho ht (k F A C H locs ls (TXs_st S (okt S.2.2.1)) hp)
theorem x_tswD (pc tgt : Nat) {dflt lo hi : Int} {offs : Array Int} {len : Nat} {x : Int32} (hd : decode M.2.1 pc = .ok (.tableswitch dflt lo hi offs, len)) (hx : x.toInt < lo ∨ hi < x.toInt) (ht : (pc : Int) + dflt = (tgt : Int)) (k : TX g Γ M Z Po tgt L st pr) : TX g Γ M Z Po pc L (.int x :: st) pr := by
  obtain ⟨p, l, e, R, s, m, args, below, meth, c, Q⟩ := Γ
  intro F A C H locs ls S hp
  exact lv_tableOut F.1 F.2.1 hd hx ht (k F A C H locs ls (TXs_st S (okt S.2.2.1)) hp)
theorem x_lsw (pc tgt : Nat) {dflt : Int} {ps : Array (Int × Int)} {len : Nat} {x : Int32} (off : Int) (hd : decode M.2.1 pc = .ok (.lookupswitch dflt ps, len)) (hq : (ps.toList.zip (ps.toList.drop 1)).all (fun (a, next) => a.1 < next.1) = true) (ho : Op.lookupswitch.offset ps.toList dflt x.toInt = off) (ht : (pc : Int) + off = (tgt : Int)) (k : TX g Γ M Z Po tgt L st pr) : TX g Γ M Z Po pc L (.int x :: st) pr := by
  obtain ⟨p, l, e, R, s, m, args, below, meth, c, Q⟩ := Γ
  intro F A C H locs ls S hp
  exact lv_lookup F.1 F.2.1 hd hq ho ht (k F A C H locs ls (TXs_st S (okt S.2.2.1)) hp)
/-- a loop: at its head, for every state of it -/
theorem x_lp {σ : Type} {Fp : (σ → PT τ) → σ → PT τ} {pc : Nat} {Lf : σ → List (Nat × Value)} {sf : σ → List Value} (k : ∀ (rec : σ → PT τ), (∀ u, TX g Γ M Z Po pc (Lf u) (sf u) (rec u)) → ∀ u, TX g Γ M Z Po pc (Lf u) (sf u) (Fp rec u)) (u : σ) : TX g Γ M Z Po pc (Lf u) (sf u) (lp Fp u) := by
  have key : ∀ n u, TX g Γ M Z Po pc (Lf u) (sf u) (lpN Fp n u) := by
    intro n
    induction n with
    | zero => exact fun u F A C H locs ls S hp => hp.elim
    | succ n ih => exact fun u => k _ ih u
  intro F A C H locs ls S hp
  obtain ⟨n, hp⟩ := hp
  exact key n u F A C H locs ls S hp
/-- a part of the program, and what goes on behind it -/
theorem x_bnd {α : Type} {q : PT α} {kk : α → PT τ} {pc : Nat} (k : TX g Γ M Z (fun r C' => kk r Po Z.2.2.2.2 C') pc L st q) : TX g Γ M Z Po pc L st (bnd q kk) := k
/-- the part's end -/
theorem x_rtk {α : Type} {a : α} {kk : α → PT τ} {pc : Nat} (k : TX g Γ M Z Po pc L st (kk a)) : TX g Γ M Z (fun r C' => kk r Po Z.2.2.2.2 C') pc L st (rt a) := k
/-- a part that can't be come to -/
theorem x_stk {pc : Nat} : TX g Γ M Z Po pc L st stk := fun F A C H locs ls S hp => hp.elim
/-- a place where roads meet -/
theorem x_jo {σ : Type} {rest : σ → PT τ} {body : (σ → PT τ) → PT τ} {pc : Nat} (pcj : Nat) {Lf : σ → List (Nat × Value)} {sf : σ → List Value} (k1 : ∀ u, TX g Γ M Z Po pcj (Lf u) (sf u) (rest u)) (k2 : ∀ j : σ → PT τ, (∀ u, TX g Γ M Z Po pcj (Lf u) (sf u) (j u)) → TX g Γ M Z Po pc L st (body j)) : TX g Γ M Z Po pc L st (jo rest body) := k2 rest k1
/-- the answer of a part of the program, given on -/
theorem x_let {α : Type} {a : α} {kk : α → PT τ} {pc : Nat} (k : TX g Γ M Z Po pc L st (kk a)) : TX g Γ M Z Po pc L st (bnd (rt a) kk) := k
end R1
