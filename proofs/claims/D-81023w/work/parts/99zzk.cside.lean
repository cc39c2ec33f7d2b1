/-! LAYER 3CS: the side of a piece, as the component finds it -/
def LC (h : hH) (A B C U V W : Int) : Prop := (N64 (rdL h 182 14) A 32768 ∧ N64 (rdL h 182 15) B 16384 ∧ N64 (rdL h 182 16) C 18192) ∧ (N64 (rdL h 182 17) U 32768 ∧ N64 (rdL h 182 18) V 16384 ∧ N64 (rdL h 182 19) W 18192)
theorem lineSide_eq {h : hH} {A B C U V W : Int} (lc : LC h A B C U V W) : f_In_lineSide h = some (sg (U * C * C - 4 * B * V * C + 4 * B * B * W)) := by
  obtain ⟨⟨hA, hB, hC⟩, hU, hV, hW⟩ := lc
  unfold f_In_lineSide
  have e := N64_add (N64_sub (N64_mul (N64_mul hU hC (by decide)) hC (by decide)) (N64_mul (N64_mul (N64_mul N64_4 hB (by decide)) hV (by decide)) hC (by decide)) (by decide)) (N64_mul (N64_mul (N64_mul N64_4 hB (by decide)) hB (by decide)) hW (by decide)) (by decide)
  rw [signOf_eq e, bP_some]
def cmI (x : Int32) (A B v1 v2 : Int) : Int := if x = 0 then -v2 * v1 else (if x = 1 then -(v2 + v1) * v1 else (B * v1 - v2 * A) * A * v1)
theorem compare_eq {h : hH} {A B C U V W v1 v2 : Int} {x1 x2 : Int64} {x3 : Int32} (lc : LC h A B C U V W) (h1 : N64 x1 v1 3000000000) (h2 : N64 x2 v2 3000000000) : f_In_compare x1 x2 x3 h = some (sg (cmI x3 A B v1 v2)) := by
  obtain ⟨⟨hA, hB, hC⟩, hU, hV, hW⟩ := lc
  unfold f_In_compare cmI
  by_cases q : x3 = 0
  · rw [if_pos q, if_pos q, signOf_eq h2, bP_some, signOf_eq h1, bP_some, sg_neg, sg_mul]
  · rw [if_neg q, if_neg q]
    by_cases q2 : x3 = 1
    · rw [if_pos q2, if_pos q2, signOf_eq (N64_add h2 h1 (by decide)), bP_some, signOf_eq h1, bP_some, sg_neg, sg_mul]
    · rw [if_neg q2, if_neg q2, signOf_eq (N64_sub (N64_mul hB h1 (by decide)) (N64_mul h2 hA (by decide)) (by decide)), bP_some, signOf_eq hA, bP_some, signOf_eq h1, bP_some, sg_mul, sg_mul]
def csI (x1 x2 x3 : Int32) (A B C v1 v2 : Int) : Int32 := if v1 = 0 then sg (v2 * A) else (if 0 ≤ cmI x2 A B v1 v2 then (if cmI x3 A B v1 v2 ≤ 0 then (if x1 = 0 then sg (A * ((A * v2 - B * v1) * (A * v2 - B * v1) - (B * B - A * C) * v1 * v1) * (A * v1)) else sg (-(A * ((A * v2 - B * v1) * (A * v2 - B * v1) - (B * B - A * C) * v1 * v1)) * (A * v1))) else sg (-(A * v1))) else sg (A * v1))
theorem curveSide_eq {h : hH} {A B C U V W : Int} {x1 x2 x3 : Int32} (lc : LC h A B C U V W) : f_In_curveSide x1 x2 x3 h = some (csI x1 x2 x3 A B C (2 * (V * A - B * U)) (W * A - C * U)) := by
  have lc0 := lc
  obtain ⟨⟨hA, hB, hC⟩, hU, hV, hW⟩ := lc
  have h1 := N64_up (c := 3000000000) (N64_mul N64_2 (N64_sub (N64_mul hV hA (by decide)) (N64_mul hB hU (by decide)) (by decide)) (by decide)) (by decide)
  have h2 := N64_up (c := 3000000000) (N64_sub (N64_mul hW hA (by decide)) (N64_mul hC hU (by decide)) (by decide)) (by decide)
  unfold f_In_curveSide csI
  rw [lz_eq, lz_eq]
  generalize (2 : Int64) * (rdL h 182 18 * rdL h 182 14 - rdL h 182 15 * rdL h 182 17) = X1 at h1
  generalize rdL h 182 19 * rdL h 182 14 - rdL h 182 16 * rdL h 182 17 = X2 at h2
  generalize 2 * (V * A - B * U) = v1 at h1
  generalize W * A - C * U = v2 at h2
  by_cases q : v1 = 0
  · rw [if_pos ((N64_z h1).mpr q), if_pos q, signOf_eq h2, bP_some, signOf_eq hA, bP_some, sg_mul]
  rw [if_neg (fun w => q ((N64_z h1).mp w)), if_neg q, signOf_eq hA, bP_some, signOf_eq h1, bP_some, lz_eq, compare_eq lc0 h1 h2, bP_some, compare_eq lc0 h1 h2, sg_mul]
  by_cases c1 : ¬ 0 ≤ cmI x2 A B v1 v2
  · rw [if_neg (fun w => c1 ((sg_ge _).mp w)), if_neg c1]
  have c1' : 0 ≤ cmI x2 A B v1 v2 := Decidable.not_not.mp c1
  rw [if_pos ((sg_ge _).mpr c1'), if_pos c1', bP_some]
  by_cases c2 : ¬ cmI x3 A B v1 v2 ≤ 0
  · rw [if_neg (fun w => c2 ((sg_le _).mp w)), if_neg c2, sg_neg]
  have c2' : cmI x3 A B v1 v2 ≤ 0 := Decidable.not_not.mp c2
  rw [if_pos ((sg_le _).mpr c2'), if_pos c2']
  obtain ⟨a8, e8, n8, _⟩ := N64_abs (N64_sub (N64_mul hA h2 (by decide)) (N64_mul hB h1 (by decide)) (by decide)) (by decide)
  obtain ⟨a10, e10, n10, _⟩ := N64_abs h1 (by decide)
  have n8' := N64_up (c := 200000000000000) n8 (by decide)
  have hD := N64_up (c := 1000000000) (N64_sub (N64_mul hB hB (by decide)) (N64_mul hA hC (by decide)) (by decide)) (by decide)
  rw [e8, bP_some, bP_some, e10, bP_some]
  have vp : 0 < (if 0 ≤ v1 then v1 else -v1) := by
    split <;> omega
  have np : 0 ≤ (if 0 ≤ A * v2 - B * v1 then A * v2 - B * v1 else -(A * v2 - B * v1)) := by
    split <;> omega
  rw [squares_eq n8' hD n10 np vp, bP_some, lz_eq, sg_mul]
  have e1 : (if 0 ≤ A * v2 - B * v1 then A * v2 - B * v1 else -(A * v2 - B * v1)) * (if 0 ≤ A * v2 - B * v1 then A * v2 - B * v1 else -(A * v2 - B * v1)) = (A * v2 - B * v1) * (A * v2 - B * v1) := by
    split
    · rfl
    · rw [Int.neg_mul_neg]
  have e2 : (B * B - A * C) * (if 0 ≤ v1 then v1 else -v1) * (if 0 ≤ v1 then v1 else -v1) = (B * B - A * C) * v1 * v1 := by
    split
    · rfl
    · grind
  rw [e1, e2]
  by_cases q1 : x1 = 0
  · rw [if_pos q1, if_pos q1, sg_mul]
  · rw [if_neg q1, if_neg q1, sg_neg, sg_mul]
/-- the side, in normal form -/
def kI (x : Int32) (A M p E : Int) : Int := if x = 0 then p else (if x = 1 then p - 2 * E else M * A)
theorem cm_k {A B E p s : Int} {x : Int32} (e0 : 0 < E) (hs : s = 1 ∨ s = -1) : same (cmI x A B (2 * (s * E)) (-(s * p))) (kI x A (A * p + 2 * B * E) p E) := by
  have key : cmI x A B (2 * (s * E)) (-(s * p)) = kI x A (A * p + 2 * B * E) p E * (2 * E) := by
    unfold cmI kI
    split
    · rcases hs with rfl | rfl <;> grind
    · split
      · rcases hs with rfl | rfl <;> grind
      · rcases hs with rfl | rfl <;> grind
  rw [key]
  refine same_mul ?_ (by omega)
  unfold same
  omega
theorem cs_n {A B C E p d s : Int} {x1 x2 x3 : Int32} (e0 : 0 < E) (hs : s = 1 ∨ s = -1) (rel : A * d + B * p + C * E = 0) (nz : A ≠ 0) : csI x1 x2 x3 A B C (2 * (s * E)) (-(s * p)) = if 0 ≤ kI x2 A (A * p + 2 * B * E) p E then (if kI x3 A (A * p + 2 * B * E) p E ≤ 0 then (if x1 = 0 then sg (s * (p * p - 4 * E * d)) else sg (s * (-(p * p - 4 * E * d)))) else sg (s * (-A))) else sg (s * A) := by
  have k2 := cm_k (A := A) (B := B) (p := p) (x := x2) e0 hs
  have k3 := cm_k (A := A) (B := B) (p := p) (x := x3) e0 hs
  have vz : ¬ 2 * (s * E) = 0 := by rcases hs with rfl | rfl <;> omega
  have i4 := gI4 rel
  have aa : 0 < A * A := by
    by_cases u : 0 < A
    · exact Int.mul_pos u u
    · exact Int.mul_pos_of_neg_of_neg (by omega) (by omega)
  have sq : (A * (-(s * p)) - B * (2 * (s * E))) * (A * (-(s * p)) - B * (2 * (s * E))) - (B * B - A * C) * (2 * (s * E)) * (2 * (s * E)) = A * A * (p * p - 4 * E * d) := by
    rcases hs with rfl | rfl <;> grind
  unfold csI
  rw [if_neg vz, sq]
  generalize cmI x2 A B (2 * (s * E)) (-(s * p)) = c2 at k2
  generalize cmI x3 A B (2 * (s * E)) (-(s * p)) = c3 at k3
  have r2 : 0 ≤ c2 ↔ 0 ≤ kI x2 A (A * p + 2 * B * E) p E := by unfold same at k2; omega
  have r3 : c3 ≤ 0 ↔ kI x3 A (A * p + 2 * B * E) p E ≤ 0 := by unfold same at k3; omega
  have sR : ∀ R : Int, same R R := fun R => by unfold same; omega
  have a4 : 0 < A * A * A * A * (2 * E) := by
    have h1 := Int.mul_pos aa aa
    have h2 := Int.mul_pos h1 (show 0 < 2 * E by omega)
    have h3 : A * A * A * A * (2 * E) = A * A * (A * A) * (2 * E) := by grind
    omega
  generalize p * p - 4 * E * d = R
  have v1 : sg (A * (2 * (s * E))) = sg (s * A) := by
    have h := same_mul (sR (s * A)) (show 0 < 2 * E by omega)
    have e : A * (2 * (s * E)) = s * A * (2 * E) := by grind
    rw [e]
    exact sg_same h
  have v2 : sg (-(A * (2 * (s * E)))) = sg (s * (-A)) := by
    have h := same_mul (sR (s * (-A))) (show 0 < 2 * E by omega)
    have e : -(A * (2 * (s * E))) = s * (-A) * (2 * E) := by grind
    rw [e]
    exact sg_same h
  have v3 : sg (A * (A * A * R) * (A * (2 * (s * E)))) = sg (s * R) := by
    have h := same_mul (sR (s * R)) a4
    have e : A * (A * A * R) * (A * (2 * (s * E))) = s * R * (A * A * A * A * (2 * E)) := by grind
    rw [e]
    exact sg_same h
  have v4 : sg (-(A * (A * A * R)) * (A * (2 * (s * E)))) = sg (s * (-R)) := by
    have h := same_mul (sR (s * (-R))) a4
    have e : -(A * (A * A * R)) * (A * (2 * (s * E))) = s * (-R) * (A * A * A * A * (2 * E)) := by grind
    rw [e]
    exact sg_same h
  rw [v1, v2, v3, v4]
  by_cases q2 : 0 ≤ c2
  · rw [if_pos q2, if_pos (r2.mp q2)]
    by_cases q3 : c3 ≤ 0
    · rw [if_pos q3, if_pos (r3.mp q3)]
    · rw [if_neg q3, if_neg (fun w => q3 (r3.mpr w))]
  · rw [if_neg q2, if_neg (fun w => q2 (r2.mpr w))]
