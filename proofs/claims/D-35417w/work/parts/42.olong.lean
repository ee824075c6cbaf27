/-! ===== the law's own array of one long ===== -/
def uO (v : Vw) (z : Nat) (x : Int64) : Vw := (vM v, vN v, vL v, vK v, vZ v, vE v, vB v, vW v, vQ v, vb v, (z + 1, x))
def hbJ {ρ : Type} (z : Nat) (x : Int64) (k : PV ρ) : PV ρ := fun P X v => (vo v).1 = z + 1 ∧ k P X (uO v z x)
theorem s_bJ {ρ : Type} {z : Nat} {x : Int64} {k : PV ρ} {k' : PT ρ} (h2 : Sim k k') : Sim (hbJ z x k) (bJ 34 z (0 : Int32) x k') := fun P' X' v P X C w hP hX h => by
  obtain ⟨hz, h⟩ := h
  obtain ⟨w1, w2, w3, o5, o4, o6, j1, j2, j3, j4, j5⟩ := w
  obtain ⟨a1, a2, a3, a4⟩ := j5 z hz
  have e0 : (0 : Int32).toNatClampNeg = 0 := by decide +kernel
  refine ⟨by rw [a3, ← nI_0]; exact nI_in (by decide) (by decide), ?_⟩
  rw [e0]
  refine h2 P' X' (uO v z x) P X _ ⟨w1, w2, w3, o5, o4, o6, j1, fun b hb => ?_, j3, j4, fun z' hz' => ?_⟩ hP hX h
  · obtain ⟨y, u, z1, z2, z3, z4⟩ := j2 b hb
    refine ⟨y, u, z1, z2, z3, ?_⟩
    have e : sG (wG C 34 z 0 x) 34 y = sG C 34 y := by
      show up3 (sG C) 34 z 0 x 34 y = _
      funext k
      exact up3_n fun q => by
        have := q.2
        subst this
        omega
    rw [e]; exact z4
  · have : z' = z := by
      have : z + 1 = z' + 1 := hz'
      omega
    subst this
    exact ⟨a1, a2, a3, up3_s⟩
