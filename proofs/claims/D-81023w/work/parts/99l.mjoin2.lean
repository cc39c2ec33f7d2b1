/-! LAYER 3AT: more loops of the model's joining -/
noncomputable def mL2 (v5 v7 v9 dx dy : Int32) (p95 : Int32 × hH) : Option ((Int32 × hH) ⊕ hH) :=
  if ((v5 + v7) + v9) ≤ p95.1 then (
    some (.inr p95.2)
  ) else (
    gd (vp_in p95.1 612) <|
    lz (wrI p95.2 238 (Int32.toNatClampNeg p95.1) ((rdI p95.2 238 (Int32.toNatClampNeg p95.1)) + dx)) fun h10 =>
    gd (vp_in p95.1 612) <|
    lz (wrI h10 239 (Int32.toNatClampNeg p95.1) ((rdI h10 239 (Int32.toNatClampNeg p95.1)) + dy)) fun h11 =>
    lz (A := Int32) (p95.1 + (1 : Int32)) fun v99 =>
    some (.inl (v99, h11))
  )
def mj2 (h : hH) (d N : Nat) (dx dy : Int32) (k : Nat) : hH := mt2 h 238 239 (102 * d + N) k (fun i => rdI h 238 (102 * d + N + i) + dx) (fun i => rdI h 239 (102 * d + N + i) + dy)
theorem mj2_eq {h : hH} {x n n' dx dy : Int32} (x0 : 0 ≤ x ∧ x ≤ 4) (n0 : 0 ≤ n ∧ n ≤ 100) (n1 : 0 ≤ n' ∧ n' ≤ 100) (hs : n + n' ≤ 100) : wh (mL2 (102 * x) n n' dx dy) (102 * x + n, h) = some (mj2 h x.toNatClampNeg n.toNatClampNeg dx dy n'.toNatClampNeg) := by
  obtain ⟨_, b0, b1⟩ := xI_k (c := 102) (C := 102) (i := n) (by decide) x0.1 (by grind) n0.1 (by grind)
  generalize hD : x.toNatClampNeg = d
  generalize hN : n.toNatClampNeg = N
  refine wh_from (b := 102 * x + n) (n := n') ⟨b0, by grind⟩ ⟨n1.1, by grind⟩ (mj2 h d N dx dy) mt2_0 ?_ ?_
  · unfold mL2
    dsimp only
    rw [if_pos (Int32.le_refl _)]
  · intro i q0 q1
    obtain ⟨⟨i1, v1⟩, _⟩ := xI_6 (v := n) (i := i) x0.1 x0.2 n0.1 q0 (by grind) (by grind) (by grind)
    rw [hD, hN] at i1
    have lt : ¬ 102 * x + n + n' ≤ 102 * x + n + i := by
      have hx : x = 0 ∨ x = 1 ∨ x = 2 ∨ x = 3 ∨ x = 4 := by grind
      rcases hx with rfl | rfl | rfl | rfl | rfl <;> grind
    unfold mL2
    dsimp only
    generalize hS : mj2 h d N dx dy i.toNatClampNeg = S
    have Sb : ∀ o, rdI S o (102 * d + N + i.toNatClampNeg) = rdI h o (102 * d + N + i.toNatClampNeg) := fun o => by rw [← hS]; exact mt2_b (by omega)
    rw [if_neg lt, gd_pos v1, lz_eq, gd_pos v1, i1, rdI_o (by decide), Sb, Sb, lz_eq, lz_eq, ← hS]
    refine congrArg (fun H : hH => (some (.inl (102 * x + n + i + 1, H)) : Option ((Int32 × hH) ⊕ hH))) ?_
    exact mt2_s rfl rfl rfl (by decide)
noncomputable def mL3 (x3 v7 : Int32) (p101 : Int32 × hH) : Option ((Int32 × hH) ⊕ hH) :=
  gd (vp_in (x3 + (1 : Int32)) 6) <|
  if (rdI p101.2 237 (Int32.toNatClampNeg (x3 + (1 : Int32)))) ≤ p101.1 then (
    some (.inr p101.2)
  ) else (
    gd (vp_in x3 6 ∧ vp_in ((((20 : Int32) * x3) + (20 : Int32)) + p101.1) 120 ∧ vp_in ((((20 : Int32) * x3) + (rdI p101.2 237 (Int32.toNatClampNeg x3))) + p101.1) 120) <|
    lz (wrI p101.2 241 (Int32.toNatClampNeg ((((20 : Int32) * x3) + (rdI p101.2 237 (Int32.toNatClampNeg x3))) + p101.1)) (v7 + (rdI p101.2 241 (Int32.toNatClampNeg ((((20 : Int32) * x3) + (20 : Int32)) + p101.1))))) fun h12 =>
    lz (A := Int32) (p101.1 + (1 : Int32)) fun v105 =>
    some (.inl (v105, h12))
  )
def mj3 (h : hH) (d C : Nat) (v7 : Int32) (k : Nat) : hH := mtI h 241 (20 * d + C) k (fun i => v7 + rdI h 241 (20 * d + 20 + i))
theorem xI_7 {x v i : Int32} (x0 : 0 ≤ x) (x1 : x ≤ 4) (v0 : 0 ≤ v) (i0 : 0 ≤ i) (hs : v + i ≤ 19) (v1 : v ≤ 20) (i1 : i ≤ 19) : ((20 * x + v + i).toNatClampNeg = 20 * x.toNatClampNeg + v.toNatClampNeg + i.toNatClampNeg ∧ vp_in (20 * x + v + i) 120) ∧ ((20 * x + 20 + i).toNatClampNeg = 20 * x.toNatClampNeg + 20 + i.toNatClampNeg ∧ vp_in (20 * x + 20 + i) 120) := by
  have s0 : 0 ≤ v + i := by grind
  obtain ⟨a1, a2, a3⟩ := xI_k (c := 20) (C := 20) (i := v + i) (by decide) x0 (by grind) s0 (by grind)
  have a4 : (v + i).toNatClampNeg = v.toNatClampNeg + i.toNatClampNeg := xI_add (m := 1000) v0 (by grind) i0 (by grind) (by decide)
  have t0 : 0 ≤ 20 + i := by grind
  obtain ⟨b1, b2, b3⟩ := xI_k (c := 20) (C := 20) (i := 20 + i) (by decide) x0 (by grind) t0 (by grind)
  have b4 : (20 + i).toNatClampNeg = (20 : Int32).toNatClampNeg + i.toNatClampNeg := xI_add (m := 1000) (by decide) (by decide) i0 (by grind) (by decide)
  have b5 : (20 : Int32).toNatClampNeg = 20 := rfl
  have e1 : 20 * x + v + i = 20 * x + (v + i) := by grind
  have e2 : 20 * x + 20 + i = 20 * x + (20 + i) := by grind
  have l : 20 * x + (20 + i) < 120 ∧ 20 * x + (v + i) < 120 := by
    have hx : x = 0 ∨ x = 1 ∨ x = 2 ∨ x = 3 ∨ x = 4 := by grind
    rcases hx with rfl | rfl | rfl | rfl | rfl <;> constructor <;> grind
  rw [e1, e2]
  exact ⟨⟨by omega, vp_lt (n := 120) (m := 120) a2 l.2 rfl⟩, ⟨by omega, vp_lt (n := 120) (m := 120) b2 l.1 rfl⟩⟩
theorem mj3_eq {h : hH} {x c c' v7 : Int32} (x0 : 0 ≤ x ∧ x ≤ 4) (hc : rdI h 237 x.toNatClampNeg = c) (hc' : rdI h 237 (x.toNatClampNeg + 1) = c') (n0 : 0 ≤ c ∧ c ≤ 20) (n1 : 0 ≤ c' ∧ c' ≤ 20) (hs : c + c' ≤ 20) : wh (mL3 x v7) ((0 : Int32), h) = some (mj3 h x.toNatClampNeg c.toNatClampNeg v7 c'.toNatClampNeg) := by
  have vx : vp_in x 6 := vp_lt (n := 6) (m := 6) x0.1 (by grind) rfl
  have vx1 : vp_in (x + 1) 6 := vp_lt (n := 6) (m := 6) (by grind) (by grind) rfl
  have ex : (x + 1).toNatClampNeg = x.toNatClampNeg + 1 := xI_succ (m := 12) x0.1 (by grind) (by decide)
  generalize hD : x.toNatClampNeg = d at hc hc' ex
  generalize hN : c.toNatClampNeg = N
  refine wh_fill (n := c') ⟨n1.1, by grind⟩ (mj3 h d N v7) mtI_0 ?_ ?_
  · unfold mL3
    dsimp only
    unfold mj3
    rw [gd_pos vx1, ex, rdI_mo (by decide), hc', if_pos (Int32.le_refl _)]
  · intro i q0 q1
    obtain ⟨⟨i1, v1⟩, ⟨i2, v2⟩⟩ := xI_7 (v := c) (i := i) x0.1 x0.2 n0.1 q0 (by grind) (by grind) (by grind)
    rw [hD, hN] at i1
    rw [hD] at i2
    have lN : N + i.toNatClampNeg < 20 := by
      have a4 : (c + i).toNatClampNeg = c.toNatClampNeg + i.toNatClampNeg := xI_add (m := 1000) n0.1 (by grind) q0 (by grind) (by decide)
      have := (xI_lt (x := c + i) (y := 20) (by grind) (by decide)).mpr (by grind)
      have e : (20 : Int32).toNatClampNeg = 20 := rfl
      omega
    unfold mL3
    dsimp only
    generalize hS : mj3 h d N v7 i.toNatClampNeg = S
    have S7 : ∀ k, rdI S 237 k = rdI h 237 k := fun k => by rw [← hS]; exact rdI_mo (by decide)
    have Sb : rdI S 241 (20 * d + 20 + i.toNatClampNeg) = rdI h 241 (20 * d + 20 + i.toNatClampNeg) := by
      rw [← hS]
      unfold mj3
      rw [rdI_mtI, if_neg (by omega)]
    rw [gd_pos vx1, ex, hD, S7, S7, hc', hc, if_neg (Int32.not_le.mpr q1), gd_pos ⟨vx, v2, v1⟩, i1, i2, Sb, lz_eq, lz_eq, ← hS]
    refine congrArg (fun H : hH => (some (.inl (i + 1, H)) : Option ((Int32 × hH) ⊕ hH))) ?_
    exact mtI_s rfl rfl
noncomputable def mL4 (x3 : Int32) (p110 : Int32 × hH) : Option ((Int32 × hH) ⊕ hH) :=
  if (4 : Int32) ≤ p110.1 then (
    some (.inr p110.2)
  ) else (
    gd (vp_in ((((4 : Int32) * x3) + (4 : Int32)) + p110.1) 24 ∧ vp_in (((4 : Int32) * x3) + p110.1) 24) <|
    lz (wrI p110.2 242 (Int32.toNatClampNeg (((4 : Int32) * x3) + p110.1)) (rdI p110.2 242 (Int32.toNatClampNeg ((((4 : Int32) * x3) + (4 : Int32)) + p110.1)))) fun h15 =>
    lz (A := Int32) (p110.1 + (1 : Int32)) fun v113 =>
    some (.inl (v113, h15))
  )
def mj4 (h : hH) (d k : Nat) : hH := mtI h 242 (4 * d) k (fun i => rdI h 242 (4 * d + 4 + i))
theorem xI_8 {x i : Int32} (x0 : 0 ≤ x) (x1 : x ≤ 4) (i0 : 0 ≤ i) (i1 : i < 4) : ((4 * x + i).toNatClampNeg = 4 * x.toNatClampNeg + i.toNatClampNeg ∧ vp_in (4 * x + i) 24) ∧ ((4 * x + 4 + i).toNatClampNeg = 4 * x.toNatClampNeg + 4 + i.toNatClampNeg ∧ vp_in (4 * x + 4 + i) 24) := by
  have hx : x = 0 ∨ x = 1 ∨ x = 2 ∨ x = 3 ∨ x = 4 := by grind
  have hi : i = 0 ∨ i = 1 ∨ i = 2 ∨ i = 3 := by grind
  rcases hx with rfl | rfl | rfl | rfl | rfl <;> rcases hi with rfl | rfl | rfl | rfl <;> exact ⟨⟨rfl, vp_lt (n := 24) (m := 24) (by decide) (by decide) rfl⟩, ⟨rfl, vp_lt (n := 24) (m := 24) (by decide) (by decide) rfl⟩⟩
theorem mj4_eq {h : hH} {x : Int32} (x0 : 0 ≤ x ∧ x ≤ 4) : wh (mL4 x) ((0 : Int32), h) = some (mj4 h x.toNatClampNeg 4) := by
  generalize hD : x.toNatClampNeg = d
  refine wh_fill (n := 4) (by decide) (mj4 h d) mtI_0 ?_ ?_
  · unfold mL4
    dsimp only
    rw [if_pos (Int32.le_refl _)]
    rfl
  · intro i q0 q1
    obtain ⟨⟨i1, v1⟩, ⟨i2, v2⟩⟩ := xI_8 (i := i) x0.1 x0.2 q0 q1
    rw [hD] at i1 i2
    have l4 := (xI_lt (y := 4) q0 (by decide)).mpr q1
    have e4 : (4 : Int32).toNatClampNeg = 4 := rfl
    unfold mL4
    dsimp only
    generalize hS : mj4 h d i.toNatClampNeg = S
    have Sb : rdI S 242 (4 * d + 4 + i.toNatClampNeg) = rdI h 242 (4 * d + 4 + i.toNatClampNeg) := by
      rw [← hS]
      unfold mj4
      rw [rdI_mtI, if_neg (by omega)]
    rw [if_neg (Int32.not_le.mpr q1), gd_pos ⟨v2, v1⟩, i1, i2, Sb, lz_eq, lz_eq, ← hS]
    refine congrArg (fun H : hH => (some (.inl (i + 1, H)) : Option ((Int32 × hH) ⊕ hH))) ?_
    exact mtI_s rfl rfl
