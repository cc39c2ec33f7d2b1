/-! LAYER 3AS: loops of the model's joining -/
noncomputable def mL1 (v5 v6 v7 v9 : Int32) (v17 v19 v21 v23 : Int64) (p25 : Int32 × hH) : Option ((Int32 × hH) ⊕ hH) :=
  if v9 ≤ p25.1 then (
    some (.inr p25.2)
  ) else (
    gd (vp_in (v6 + p25.1) 612) <|
    lz (A := Int64) (Int32.toInt64 (rdI p25.2 238 (Int32.toNatClampNeg (v6 + p25.1)))) fun v27 =>
    gd (vp_in (v6 + p25.1) 612) <|
    lz (A := Int64) (Int32.toInt64 (rdI p25.2 239 (Int32.toNatClampNeg (v6 + p25.1)))) fun v29 =>
    bP (f_Mo_over ((v27 * v17) + (v29 * v21)) (16384 : Int64)) fun a31 =>
    gd (vp_in ((v5 + v7) + p25.1) 612) <|
    lz (wrI p25.2 238 (Int32.toNatClampNeg ((v5 + v7) + p25.1)) (Int64.toInt32 a31)) fun h6 =>
    bP (f_Mo_over ((v27 * v19) + (v29 * v23)) (16384 : Int64)) fun a33 =>
    gd (vp_in ((v5 + v7) + p25.1) 612) <|
    lz (wrI h6 239 (Int32.toNatClampNeg ((v5 + v7) + p25.1)) (Int64.toInt32 a33)) fun h7 =>
    gd (vp_in (v6 + p25.1) 612 ∧ vp_in ((v5 + v7) + p25.1) 612) <|
    lz (wrI h7 240 (Int32.toNatClampNeg ((v5 + v7) + p25.1)) ((rdI h7 240 (Int32.toNatClampNeg (v6 + p25.1))) &&& 1)) fun h8 =>
    lz (A := Int32) (p25.1 + (1 : Int32)) fun v36 =>
    some (.inl (v36, h8))
  )
noncomputable def mjx (h : hH) (d : Nat) (a b : Int32) (i : Nat) : Int32 := mxV (rdI h 238 (102 * d + 102 + i)) (rdI h 239 (102 * d + 102 + i)) a b
noncomputable def mj1 (h : hH) (d N : Nat) (a b c e : Int32) (k : Nat) : hH := mt3 h 238 239 240 (102 * d + N) k (mjx h d a c) (mjx h d b e) (fun i => rdI h 240 (102 * d + 102 + i) &&& 1)
theorem xI_6 {x v i : Int32} (x0 : 0 ≤ x) (x1 : x ≤ 4) (v0 : 0 ≤ v) (i0 : 0 ≤ i) (hs : v + i ≤ 101) (v1 : v ≤ 101) (i1 : i ≤ 101) : ((102 * x + v + i).toNatClampNeg = 102 * x.toNatClampNeg + v.toNatClampNeg + i.toNatClampNeg ∧ vp_in (102 * x + v + i) 612) ∧ ((102 * x + 102 + i).toNatClampNeg = 102 * x.toNatClampNeg + 102 + i.toNatClampNeg ∧ vp_in (102 * x + 102 + i) 612) := by
  have s0 : 0 ≤ v + i := by grind
  obtain ⟨a1, a2, a3⟩ := xI_k (c := 102) (C := 102) (i := v + i) (by decide) x0 (by grind) s0 (by grind)
  have a4 : (v + i).toNatClampNeg = v.toNatClampNeg + i.toNatClampNeg := xI_add (m := 1000) v0 (by grind) i0 (by grind) (by decide)
  have t0 : 0 ≤ 102 + i := by grind
  obtain ⟨b1, b2, b3⟩ := xI_k (c := 102) (C := 102) (i := 102 + i) (by decide) x0 (by grind) t0 (by grind)
  have b4 : (102 + i).toNatClampNeg = (102 : Int32).toNatClampNeg + i.toNatClampNeg := xI_add (m := 1000) (by decide) (by decide) i0 (by grind) (by decide)
  have b5 : (102 : Int32).toNatClampNeg = 102 := rfl
  have e1 : 102 * x + v + i = 102 * x + (v + i) := by grind
  have e2 : 102 * x + 102 + i = 102 * x + (102 + i) := by grind
  have l2 : 102 * x + (102 + i) < 612 := by
    have hx : x = 0 ∨ x = 1 ∨ x = 2 ∨ x = 3 ∨ x = 4 := by grind
    rcases hx with rfl | rfl | rfl | rfl | rfl <;> grind
  rw [e1, e2]
  exact ⟨⟨by omega, vp_lt (n := 612) (m := 612) a2 (by grind) rfl⟩, ⟨by omega, vp_lt (n := 612) (m := 612) b2 l2 rfl⟩⟩
theorem mj1_eq {h : hH} {x n n' a b c e : Int32} (x0 : 0 ≤ x ∧ x ≤ 4) (n0 : 0 ≤ n ∧ n ≤ 100) (n1 : 0 ≤ n' ∧ n' ≤ 100) (hs : n + n' ≤ 100) : wh (mL1 (102 * x) (102 * x + 102) n n' a.toInt64 b.toInt64 c.toInt64 e.toInt64) ((0 : Int32), h) = some (mj1 h x.toNatClampNeg n.toNatClampNeg a b c e n'.toNatClampNeg) := by
  have o16 : (16384 : Int64) ≠ 0 := by decide
  have s16 : (16384 : Int64).toInt.natAbs ≤ 2 ^ 62 := by decide
  generalize hD : x.toNatClampNeg = d
  generalize hN : n.toNatClampNeg = N
  refine wh_fill (n := n') ⟨n1.1, by grind⟩ (mj1 h d N a b c e) mt3_0 ?_ ?_
  · unfold mL1
    dsimp only
    rw [if_pos (Int32.le_refl _)]
  · intro i q0 q1
    obtain ⟨⟨i1, v1⟩, ⟨i2, v2⟩⟩ := xI_6 (v := n) (i := i) x0.1 x0.2 n0.1 q0 (by grind) (by grind) (by grind)
    rw [hD, hN] at i1
    rw [hD] at i2
    have lN : N + i.toNatClampNeg < 102 := by
      have a4 : (n + i).toNatClampNeg = n.toNatClampNeg + i.toNatClampNeg := xI_add (m := 1000) n0.1 (by grind) q0 (by grind) (by decide)
      have := (xI_lt (x := n + i) (y := 102) (by grind) (by decide)).mpr (by grind)
      have e : (102 : Int32).toNatClampNeg = 102 := rfl
      omega
    unfold mL1
    dsimp only
    generalize hS : mj1 h d N a b c e i.toNatClampNeg = S
    have Sb : ∀ o, rdI S o (102 * d + 102 + i.toNatClampNeg) = rdI h o (102 * d + 102 + i.toNatClampNeg) := fun o => by rw [← hS]; exact mt3_b (by omega)
    rw [if_neg (Int32.not_le.mpr q1), gd_pos v2, lz_eq, gd_pos v2, lz_eq, f_Mo_over_eq o16 s16, bP_some, gd_pos v1, lz_eq, f_Mo_over_eq o16 s16, bP_some, gd_pos v1, lz_eq, gd_pos ⟨v2, v1⟩, i1, i2, rdI_o (by decide), rdI_o (by decide), Sb, Sb, Sb, lz_eq, lz_eq, ← hS]
    refine congrArg (fun H : hH => (some (.inl (i + 1, H)) : Option ((Int32 × hH) ⊕ hH))) ?_
    exact mt3_s rfl rfl rfl rfl (by decide) (by decide) (by decide)
