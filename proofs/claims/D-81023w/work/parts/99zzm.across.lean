/-! LAYER 3CU: a curve, as the component counts it -/
/-- a quadratic with these corners meets zero between 0 and 1 -/
def MZ (x1 x2 x3 : Int) : Prop := x1 = 0 ∨ x3 = 0 ∨ (x1 < 0 ∧ 0 < x3) ∨ (0 < x1 ∧ x3 < 0) ∨ (0 < x1 ∧ 0 < x3 ∧ x2 < 0 ∧ x1 * x3 ≤ x2 * x2) ∨ (x1 < 0 ∧ x3 < 0 ∧ 0 < x2 ∧ x1 * x3 ≤ x2 * x2)
theorem MZ_neg {x1 x2 x3 : Int} : MZ (-x1) (-x2) (-x3) ↔ MZ x1 x2 x3 := by
  unfold MZ
  rw [Int.neg_mul_neg, Int.neg_mul_neg]
  generalize x1 * x3 = a
  generalize x2 * x2 = b
  omega
theorem mz_up {A B C : Int} (b0 : 0 ≤ B) (b1 : 0 ≤ A + B) : (C ≤ 0 ∧ 0 ≤ A + 2 * B + C) ↔ MZ C (B + C) (A + 2 * B + C) := by
  unfold MZ
  generalize C * (A + 2 * B + C) = a
  generalize (B + C) * (B + C) = b
  omega
theorem mz_dn {A B C : Int} (b0 : B ≤ 0) (b1 : A + B ≤ 0) : (0 ≤ C ∧ A + 2 * B + C ≤ 0) ↔ MZ C (B + C) (A + 2 * B + C) := by
  unfold MZ
  generalize C * (A + 2 * B + C) = a
  generalize (B + C) * (B + C) = b
  omega
theorem mz_i {A B C : Int} (a0 : 0 < A) (b0 : B < 0) (b1 : 0 < A + B) : ((0 ≤ C ∧ A * C - B * B ≤ 0) ∨ (A * C - B * B ≤ 0 ∧ 0 ≤ A + 2 * B + C)) ↔ MZ C (B + C) (A + 2 * B + C) := by
  have cc : C ≤ 0 → A * C - B * B < 0 := fun c0 => by
    have := Int.mul_nonpos_of_nonneg_of_nonpos (Int.le_of_lt a0) c0
    have := Int.mul_pos_of_neg_of_neg b0 b0
    omega
  have cy : A + 2 * B + C ≤ 0 → A * C - B * B < 0 := fun y0 => by
    have h1 := Int.mul_nonpos_of_nonneg_of_nonpos (Int.le_of_lt a0) y0
    have h2 := Int.mul_pos b1 b1
    have h3 : A * (A + 2 * B + C) = (A + B) * (A + B) + (A * C - B * B) := by grind
    omega
  have e : (B + C) * (B + C) - C * (A + 2 * B + C) = -(A * C - B * B) := by grind
  have f : 0 ≤ B + C → 0 < C → 0 < A + 2 * B + C → 0 < A * C - B * B := fun h1 h2 h3 => by
    have k1 : (B + C) * (B + C) ≤ C * (B + C) := Int.mul_le_mul_of_nonneg_right (by omega) h1
    have k2 : C * (B + C) < C * (A + 2 * B + C) := Int.mul_lt_mul_of_pos_left (by omega) h2
    omega
  unfold MZ
  generalize C * (A + 2 * B + C) = a at e ⊢
  generalize (B + C) * (B + C) = b at e ⊢
  generalize A * C - B * B = S at cc cy e f ⊢
  omega
theorem mz_j {A B C : Int} (a0 : A < 0) (b0 : 0 < B) (b1 : A + B < 0) : ((C ≤ 0 ∧ A * C - B * B ≤ 0) ∨ (A * C - B * B ≤ 0 ∧ A + 2 * B + C ≤ 0)) ↔ MZ C (B + C) (A + 2 * B + C) := by
  have h := mz_i (A := -A) (B := -B) (C := -C) (by omega) (by omega) (by omega)
  have e : -A * -C - -B * -B = A * C - B * B := by grind
  rw [e, show -B + -C = -(B + C) by omega, show -A + 2 * -B + -C = -(A + 2 * B + C) by omega, MZ_neg] at h
  rw [← h]
  generalize A * C - B * B = S
  omega
/-- turning between 0 and 1 -/
def inn (A B : Int) : Prop := (0 < A ∧ B < 0 ∧ 0 < A + B) ∨ (A < 0 ∧ 0 < B ∧ A + B < 0)
theorem rch_mz {U V W : Int} : (¬ 0 < W * (U + 2 * V + W) ∨ (inn U V ∧ ¬ 0 < (W * U - V * V) * U * W)) ↔ MZ W (V + W) (U + 2 * V + W) := by
  have hp : 0 < W * (U + 2 * V + W) ↔ ((0 < W ∧ 0 < U + 2 * V + W) ∨ (W < 0 ∧ U + 2 * V + W < 0)) := by
    constructor
    · intro h
      rcases Int.lt_trichotomy 0 (U + 2 * V + W) with q | q | q
      · exact Or.inl ⟨(pos_of_mul h).1 q, q⟩
      · rw [← q, Int.mul_zero] at h
        omega
      · exact Or.inr ⟨(pos_of_mul h).2.1 q, q⟩
    · rintro (⟨a, b⟩ | ⟨a, b⟩)
      · exact Int.mul_pos a b
      · exact Int.mul_pos_of_neg_of_neg a b
  have e : W * U - V * V = U * W - V * V := by grind
  by_cases q : inn U V
  · rcases q with ⟨a0, b0, b1⟩ | ⟨a0, b0, b1⟩
    · rw [← mz_i a0 b0 b1, hp, e]
      have iq : inn U V := Or.inl ⟨a0, b0, b1⟩
      have s1 : 0 < W → (0 < (U * W - V * V) * U * W ↔ 0 < U * W - V * V) := fun w0 => by
        have uw := Int.mul_pos a0 w0
        rw [Int.mul_assoc]
        exact ⟨fun h => (pos_of_mul h).1 uw, fun h => Int.mul_pos h uw⟩
      have s2 : W < 0 → 0 < (U * W - V * V) * U * W := fun w0 => by
        have uw := Int.mul_neg_of_pos_of_neg a0 w0
        have vv := Int.mul_pos_of_neg_of_neg b0 b0
        rw [Int.mul_assoc]
        exact Int.mul_pos_of_neg_of_neg (by omega) uw
      have cc : W ≤ 0 → U * W - V * V < 0 := fun c0 => by
        have := Int.mul_nonpos_of_nonneg_of_nonpos (Int.le_of_lt a0) c0
        have := Int.mul_pos_of_neg_of_neg b0 b0
        omega
      have cy : U + 2 * V + W ≤ 0 → U * W - V * V < 0 := fun y0 => by
        have h1 := Int.mul_nonpos_of_nonneg_of_nonpos (Int.le_of_lt a0) y0
        have h2 := Int.mul_pos b1 b1
        have h3 : U * (U + 2 * V + W) = (U + V) * (U + V) + (U * W - V * V) := by grind
        omega
      generalize (U * W - V * V) * U * W = t at s1 s2 ⊢
      generalize U * W - V * V = S at s1 cc cy ⊢
      constructor
      · rintro (h | ⟨_, h⟩)
        · omega
        · omega
      · intro h
        by_cases g : (0 < W ∧ 0 < U + 2 * V + W) ∨ (W < 0 ∧ U + 2 * V + W < 0)
        · refine Or.inr ⟨iq, ?_⟩
          omega
        · exact Or.inl g
    · rw [← mz_j a0 b0 b1, hp, e]
      have iq : inn U V := Or.inr ⟨a0, b0, b1⟩
      have s1 : W < 0 → (0 < (U * W - V * V) * U * W ↔ 0 < U * W - V * V) := fun w0 => by
        have uw := Int.mul_pos_of_neg_of_neg a0 w0
        rw [Int.mul_assoc]
        exact ⟨fun h => (pos_of_mul h).1 uw, fun h => Int.mul_pos h uw⟩
      have s2 : 0 < W → 0 < (U * W - V * V) * U * W := fun w0 => by
        have uw := Int.mul_neg_of_neg_of_pos a0 w0
        have vv := Int.mul_pos b0 b0
        rw [Int.mul_assoc]
        exact Int.mul_pos_of_neg_of_neg (by omega) uw
      have cc : 0 ≤ W → U * W - V * V < 0 := fun c0 => by
        have := Int.mul_nonpos_of_nonpos_of_nonneg (Int.le_of_lt a0) c0
        have := Int.mul_pos b0 b0
        omega
      have cy : 0 ≤ U + 2 * V + W → U * W - V * V < 0 := fun y0 => by
        have h1 := Int.mul_nonpos_of_nonpos_of_nonneg (Int.le_of_lt a0) y0
        have h2 := Int.mul_pos_of_neg_of_neg b1 b1
        have h3 : U * (U + 2 * V + W) = (U + V) * (U + V) + (U * W - V * V) := by grind
        omega
      generalize (U * W - V * V) * U * W = t at s1 s2 ⊢
      generalize U * W - V * V = S at s1 cc cy ⊢
      constructor
      · rintro (h | ⟨_, h⟩)
        · omega
        · omega
      · intro h
        by_cases g : (0 < W ∧ 0 < U + 2 * V + W) ∨ (W < 0 ∧ U + 2 * V + W < 0)
        · refine Or.inr ⟨iq, ?_⟩
          omega
        · exact Or.inl g
  · have m : (0 ≤ V ∧ 0 ≤ U + V) ∨ (V ≤ 0 ∧ U + V ≤ 0) := by
      unfold inn at q
      omega
    rw [hp]
    constructor
    · rintro (h | h)
      · unfold MZ
        omega
      · exact absurd h.1 q
    · intro h
      left
      rcases m with ⟨m1, m2⟩ | ⟨m1, m2⟩
      · have := (mz_up (C := W) m1 m2).mpr h
        omega
      · have := (mz_dn (C := W) m1 m2).mpr h
        omega
/-- the program's test for a turning point -/
noncomputable def innF (x y : Int64) : Option Int32 :=
  if x = (0 : Int64) then (
    some (0 : Int32)
  ) else (
    bP (f_HH_signOf x) fun a5 =>
    bP (f_HH_signOf y) fun a6 =>
    if a5 = (-a6) then (
      bP (f_JM_abs y) fun a7 =>
      bP (f_JM_abs x) fun a8 =>
      if a8 ≤ a7 then (
        some (0 : Int32)
      ) else (
        some (1 : Int32)
      )
    ) else (
      some (0 : Int32)
    )
  )
theorem innF_eq {x y : Int64} {A B : Int} (hx : N64 x A 32768) (hy : N64 y B 16384) : (inn A B ∧ innF x y = some 1) ∨ (¬ inn A B ∧ innF x y = some 0) := by
  unfold innF inn
  by_cases q : A = 0
  · rw [if_pos ((N64_z hx).mpr q)]
    exact Or.inr ⟨by omega, rfl⟩
  rw [if_neg (fun w => q ((N64_z hx).mp w)), signOf_eq hx, bP_some, signOf_eq hy, bP_some]
  by_cases o : sg A = -sg B
  · rw [if_pos o]
    obtain ⟨a7, e7, n7, _⟩ := N64_abs hy (by decide)
    obtain ⟨a8, e8, n8, _⟩ := N64_abs hx (by decide)
    rw [e7, bP_some, e8, bP_some]
    have o' := (sg_op A B).mp o
    have iff := N64_le n8 n7
    by_cases l : a8 ≤ a7
    · rw [if_pos l]
      have := iff.mp l
      refine Or.inr ⟨?_, rfl⟩
      split at this <;> split at this <;> omega
    · rw [if_neg l]
      have : ¬ _ := fun w => l (iff.mpr w)
      refine Or.inl ⟨?_, rfl⟩
      split at this <;> split at this <;> omega
  · rw [if_neg o]
    refine Or.inr ⟨fun w => o ((sg_op A B).mpr (by omega)), rfl⟩
theorem reaches_eq {h : hH} {A B C U V W : Int} (lc : LC h A B C U V W) : (MZ W (V + W) (U + 2 * V + W) ∧ f_In_reaches h = some 1) ∨ (¬ MZ W (V + W) (U + 2 * V + W) ∧ f_In_reaches h = some 0) := by
  obtain ⟨_, hU, hV, hW⟩ := lc
  have eF : f_In_reaches h = lz (A := Int64) (((rdL h 182 17) + ((2 : Int64) * (rdL h 182 18))) + (rdL h 182 19)) fun v1 =>
      bP (f_HH_signOf (rdL h 182 19)) fun a2 =>
      bP (f_HH_signOf v1) fun a3 =>
      if 0 < (a2 * a3) then (
        bP (A := Int32) (innF (rdL h 182 17) (rdL h 182 18)) fun p4 =>
        if p4 = 0 then (
          some (0 : Int32)
        ) else (
          bP (f_HH_signOf (((rdL h 182 19) * (rdL h 182 17)) - ((rdL h 182 18) * (rdL h 182 18)))) fun a12 =>
          bP (f_HH_signOf (rdL h 182 17)) fun a13 =>
          bP (f_HH_signOf (rdL h 182 19)) fun a14 =>
          if 0 < ((a12 * a13) * a14) then (
            some (0 : Int32)
          ) else (
            some (1 : Int32)
          )
        )
      ) else (
        some (1 : Int32)
      ) := rfl
  rw [eF, lz_eq, ← rch_mz, signOf_eq hW, bP_some, signOf_eq (N64_add (N64_add hU (N64_mul N64_2 hV (by decide)) (by decide)) hW (by decide)), bP_some, sg_mul]
  by_cases q : ¬ 0 < W * (U + 2 * V + W)
  · rw [if_neg (fun w => q ((sg_gt _).mp w))]
    exact Or.inl ⟨Or.inl q, rfl⟩
  have q' : 0 < W * (U + 2 * V + W) := Decidable.not_not.mp q
  rw [if_pos ((sg_gt _).mpr q')]
  rcases innF_eq hU hV with ⟨i, e⟩ | ⟨i, e⟩
  · rw [e, bP_some, if_neg (by decide), signOf_eq (N64_sub (N64_mul hW hU (by decide)) (N64_mul hV hV (by decide)) (by decide)), bP_some, signOf_eq hU, bP_some, bP_some, sg_mul, sg_mul]
    by_cases g : 0 < (W * U - V * V) * U * W
    · rw [if_pos ((sg_gt _).mpr g)]
      refine Or.inr ⟨?_, rfl⟩
      rintro (u | u)
      · exact u q'
      · exact u.2 g
    · rw [if_neg (fun w => g ((sg_gt _).mp w))]
      exact Or.inl ⟨Or.inr ⟨i, g⟩, rfl⟩
  · rw [e, bP_some, if_pos rfl]
    refine Or.inr ⟨?_, rfl⟩
    rintro (u | u)
    · exact u q'
    · exact i u.1
theorem piece_up {h : hH} {ya yb z : Int} {x4 x5 : Int32} (hm : ya ≤ 0 → 0 ≤ yb → sdF 1 x4 x5 h = some (sg z)) : f_In_piece (sg ya) (sg yb) 1 x4 x5 h = if ya ≤ 0 ∧ 0 ≤ yb then some (Int32.ofInt (upW ya yb z), wrI h 182 13 (if z = 0 then 1 else 0)) else some (0, h) := by
  have n10 : ¬ (1 : Int32) = 0 := by decide
  have eF : f_In_piece (sg ya) (sg yb) 1 x4 x5 h = lz (A := Int32) (if (1 : Int32) = 0 then (if sg ya < 0 then (0 : Int32) else (if 0 < sg yb then (0 : Int32) else (1 : Int32))) else (if 0 < sg ya then (0 : Int32) else (if sg yb < 0 then (0 : Int32) else (1 : Int32)))) fun p1 =>
    if p1 = 0 then (
      some ((0 : Int32), h)
    ) else (
      bP (A := Int32) (sdF 1 x4 x5 h) fun p7 =>
      lz (A := Int32) (if p7 = 0 then (1 : Int32) else (0 : Int32)) fun p11 =>
      gd ((p11 = 0 ∨ p11 = 1)) <|
      lz (wrI h 182 13 p11) fun h1 =>
      lz (A := Int32) (if (1 : Int32) = 0 then (if 0 < sg yb then (0 : Int32) else (if sg ya ≤ 0 then (0 : Int32) else (1 : Int32))) else (if 0 < sg ya then (0 : Int32) else (if sg yb ≤ 0 then (0 : Int32) else (1 : Int32)))) fun p14 =>
      if p14 = 0 then (
        some ((0 : Int32), h1)
      ) else (
        if p7 ≤ 0 then (
          some ((0 : Int32), h1)
        ) else (
          if (1 : Int32) = 0 then (
            some ((-1 : Int32), h1)
          ) else (
            some ((1 : Int32), h1)
          )
        )
      )
    ) := rfl
  have ez : (if sg z = 0 then (1 : Int32) else 0) = if z = 0 then 1 else 0 := by
    by_cases u : z = 0
    · rw [if_pos ((sg_z z).mpr u), if_pos u]
    · rw [if_neg (fun w => u ((sg_z z).mp w)), if_neg u]
  rw [eF]
  simp only [lz_eq, if_neg n10]
  by_cases q1 : 0 < ya
  · rw [if_pos ((sg_gt _).mpr q1), if_pos rfl, if_neg (by omega)]
  have q1' : ¬ 0 < sg ya := fun w => q1 ((sg_gt _).mp w)
  simp only [if_neg q1']
  by_cases q2 : yb < 0
  · rw [if_pos ((sg_lt _).mpr q2), if_pos rfl, if_neg (by omega)]
  have hq : ya ≤ 0 ∧ 0 ≤ yb := ⟨by omega, by omega⟩
  rw [if_neg (fun w => q2 ((sg_lt _).mp w)), if_neg n10, if_pos hq, hm hq.1 hq.2, bP_some, ez, gd_pos (by split; exact Or.inr rfl; exact Or.inl rfl)]
  unfold upW
  by_cases q3 : yb ≤ 0
  · rw [if_pos ((sg_le _).mpr q3), if_pos rfl, if_neg (show ¬ (ya ≤ 0 ∧ 0 < yb ∧ 0 < z) by omega)]
    rfl
  rw [if_neg (fun w => q3 ((sg_le _).mp w)), if_neg n10]
  by_cases q4 : z ≤ 0
  · rw [if_pos ((sg_le _).mpr q4), if_neg (show ¬ (ya ≤ 0 ∧ 0 < yb ∧ 0 < z) by omega)]
    rfl
  · rw [if_neg (fun w => q4 ((sg_le _).mp w)), if_pos (show ya ≤ 0 ∧ 0 < yb ∧ 0 < z by omega)]
    rfl
theorem piece_dn {h : hH} {ya yb z : Int} {x4 x5 : Int32} (hm : 0 ≤ ya → yb ≤ 0 → sdF 0 x4 x5 h = some (sg z)) : f_In_piece (sg ya) (sg yb) 0 x4 x5 h = if 0 ≤ ya ∧ yb ≤ 0 then some (Int32.ofInt (dnW ya yb z), wrI h 182 13 (if z = 0 then 1 else 0)) else some (0, h) := by
  have n10 : ¬ (1 : Int32) = 0 := by decide
  have eF : f_In_piece (sg ya) (sg yb) 0 x4 x5 h = lz (A := Int32) (if (0 : Int32) = 0 then (if sg ya < 0 then (0 : Int32) else (if 0 < sg yb then (0 : Int32) else (1 : Int32))) else (if 0 < sg ya then (0 : Int32) else (if sg yb < 0 then (0 : Int32) else (1 : Int32)))) fun p1 =>
    if p1 = 0 then (
      some ((0 : Int32), h)
    ) else (
      bP (A := Int32) (sdF 0 x4 x5 h) fun p7 =>
      lz (A := Int32) (if p7 = 0 then (1 : Int32) else (0 : Int32)) fun p11 =>
      gd ((p11 = 0 ∨ p11 = 1)) <|
      lz (wrI h 182 13 p11) fun h1 =>
      lz (A := Int32) (if (0 : Int32) = 0 then (if 0 < sg yb then (0 : Int32) else (if sg ya ≤ 0 then (0 : Int32) else (1 : Int32))) else (if 0 < sg ya then (0 : Int32) else (if sg yb ≤ 0 then (0 : Int32) else (1 : Int32)))) fun p14 =>
      if p14 = 0 then (
        some ((0 : Int32), h1)
      ) else (
        if p7 ≤ 0 then (
          some ((0 : Int32), h1)
        ) else (
          if (0 : Int32) = 0 then (
            some ((-1 : Int32), h1)
          ) else (
            some ((1 : Int32), h1)
          )
        )
      )
    ) := rfl
  have ez : (if sg z = 0 then (1 : Int32) else 0) = if z = 0 then 1 else 0 := by
    by_cases u : z = 0
    · rw [if_pos ((sg_z z).mpr u), if_pos u]
    · rw [if_neg (fun w => u ((sg_z z).mp w)), if_neg u]
  rw [eF]
  simp only [lz_eq, if_true]
  by_cases q1 : ya < 0
  · rw [if_pos ((sg_lt _).mpr q1), if_pos rfl, if_neg (by omega)]
  rw [if_neg (fun w => q1 ((sg_lt _).mp w))]
  by_cases q2 : 0 < yb
  · rw [if_pos ((sg_gt _).mpr q2), if_pos rfl, if_neg (by omega)]
  have q2' : ¬ 0 < sg yb := fun w => q2 ((sg_gt _).mp w)
  have hq : 0 ≤ ya ∧ yb ≤ 0 := ⟨by omega, by omega⟩
  simp only [if_neg q2']
  rw [if_neg n10, if_pos hq, hm hq.1 hq.2, bP_some, ez, gd_pos (by split; exact Or.inr rfl; exact Or.inl rfl)]
  unfold dnW
  by_cases q3 : ya ≤ 0
  · rw [if_pos ((sg_le _).mpr q3), if_pos rfl, if_neg (show ¬ (yb ≤ 0 ∧ 0 < ya ∧ 0 < z) by omega)]
    rfl
  rw [if_neg (fun w => q3 ((sg_le _).mp w)), if_neg n10]
  by_cases q4 : z ≤ 0
  · rw [if_pos ((sg_le _).mpr q4), if_neg (show ¬ (yb ≤ 0 ∧ 0 < ya ∧ 0 < z) by omega)]
    rfl
  · rw [if_neg (fun w => q4 ((sg_le _).mp w)), if_pos (show yb ≤ 0 ∧ 0 < ya ∧ 0 < z by omega)]
    rfl
