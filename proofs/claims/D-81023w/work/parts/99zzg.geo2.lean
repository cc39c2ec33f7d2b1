/-! LAYER 3CO: geometry of one curve, second half -/
theorem inT_neg {A B C E p d : Int} (rel : A * d + B * p + C * E = 0) : -A * d + -B * p + -C * E = 0 := by grind
theorem gM_neg {A B E p : Int} : -A * p + 2 * -B * E = -(A * p + 2 * B * E) := by grind
theorem gP1n {A B C E p d : Int} (e0 : 0 < E) (rel : A * d + B * p + C * E = 0) (c0 : 0 ≤ C) (y0 : A + 2 * B + C ≤ 0) (lt : A + 2 * B + C < C) (nt : ¬ (inT E p d ∧ p * p - 4 * E * d ≤ 0)) : ((0 < A * p + 2 * B * E ∨ p * p - 4 * E * d < 0) ↔ p < 2 * d) ∧ 2 * d ≠ p ∧ ¬ (A * p + 2 * B * E ≤ 0 ∧ p * p - 4 * E * d = 0) := by
  have h := gP1 e0 (inT_neg rel) (by omega) (by omega) (by omega) nt
  rw [gM_neg] at h
  obtain ⟨h1, h2, h3⟩ := h
  refine ⟨⟨fun w => h1.mp (by omega), fun w => ?_⟩, h2, fun w => h3 (by omega)⟩
  have := h1.mpr w
  omega
theorem gP3 {A B C E p d : Int} (e0 : 0 < E) (rel : A * d + B * p + C * E = 0) (a0 : 0 < A) (b0 : B < 0) (b1 : 0 < A + B) (c0 : 0 ≤ C) (y0 : 0 ≤ A + 2 * B + C) (s0 : A * C - B * B ≤ 0) (nt : ¬ (inT E p d ∧ p * p - 4 * E * d ≤ 0)) : 0 < p * p - 4 * E * d ∧ A * p + 2 * B * E ≠ 0 := by
  have i1 := gI1 rel
  have i2 := gI2 rel
  have i3 := gI3 rel
  have i4 := gI4 rel
  have be : B * E < 0 := Int.mul_neg_of_neg_of_pos b0 e0
  have be1 : 0 < (A + B) * E := Int.mul_pos b1 e0
  have e5 : 2 * B * E = 2 * (B * E) := by grind
  have e6 : 2 * (A + B) * E = 2 * ((A + B) * E) := by grind
  have e7 : A * (p - 2 * E) + 2 * (A + B) * E = A * p + 2 * B * E := by grind
  have ce : 0 ≤ C * E * E := Int.mul_nonneg (Int.mul_nonneg c0 (by omega)) (by omega)
  have ye : 0 ≤ (A + 2 * B + C) * (E * E) := Int.mul_nonneg y0 (Int.mul_nonneg (by omega) (by omega))
  have r0 : 0 < p * p - 4 * E * d := by
    by_cases r : 0 < p * p - 4 * E * d
    · exact r
    · exfalso
      have ar := Int.mul_nonpos_of_nonneg_of_nonpos (Int.le_of_lt a0) (show p * p - 4 * E * d ≤ 0 by omega)
      have p0 : 0 ≤ p := by
        by_cases q : 0 ≤ p
        · exact q
        · have h1 := Int.mul_neg_of_pos_of_neg a0 (show p < 0 by omega)
          have := Int.mul_pos_of_neg_of_neg (show p < 0 by omega) (show A * p + 2 * B * E + 2 * B * E < 0 by omega)
          omega
      have p1 : p ≤ 2 * E := by
        by_cases q : p ≤ 2 * E
        · exact q
        · have h1 := Int.mul_pos a0 (show 0 < p - 2 * E by omega)
          have := Int.mul_pos (show 0 < p - 2 * E by omega) (show 0 < A * p + 2 * B * E + 2 * (A + B) * E by omega)
          omega
      have h1 : 0 ≤ (2 * E - p) * C := Int.mul_nonneg (by omega) c0
      have h2 : 0 ≤ p * (A + 2 * B + C) := Int.mul_nonneg p0 y0
      have ch : 2 * d ≤ p := by
        by_cases q : 2 * d ≤ p
        · exact q
        · have := Int.mul_neg_of_pos_of_neg a0 (show p - 2 * d < 0 by omega)
          omega
      exact nt ⟨inT_of e0 p0 (by omega) ch, by omega⟩
  refine ⟨r0, fun m => ?_⟩
  rw [m] at i4
  have h1 : 0 < A * A * (p * p - 4 * E * d) := Int.mul_pos (Int.mul_pos a0 a0) r0
  have h2 : 0 ≤ E * E * (B * B - A * C) := Int.mul_nonneg (Int.mul_nonneg (by omega) (by omega)) (by omega)
  omega
theorem gP3n {A B C E p d : Int} (e0 : 0 < E) (rel : A * d + B * p + C * E = 0) (a0 : A < 0) (b0 : 0 < B) (b1 : A + B < 0) (c0 : C ≤ 0) (y0 : A + 2 * B + C ≤ 0) (s0 : A * C - B * B ≤ 0) (nt : ¬ (inT E p d ∧ p * p - 4 * E * d ≤ 0)) : 0 < p * p - 4 * E * d ∧ A * p + 2 * B * E ≠ 0 := by
  have e : -A * -C - -B * -B = A * C - B * B := by grind
  have h := gP3 e0 (inT_neg rel) (by omega) (by omega) (by omega) (by omega) (by omega) (by omega) nt
  rw [gM_neg] at h
  exact ⟨h.1, by omega⟩
/-- where R is 0, the point lies in the triangle iff the root lies between 0 and 1 -/
theorem gON {A B C E p d : Int} (e0 : 0 < E) (rel : A * d + B * p + C * E = 0) (nz : A ≠ 0 ∨ B ≠ 0) (b0 : 0 ≤ B) (b1 : 0 ≤ A + B) : (C ≤ 0 ∧ 0 ≤ A + 2 * B + C ∧ 0 ≤ A * p + 2 * B * E ∧ p * p - 4 * E * d = 0) ↔ (inT E p d ∧ p * p - 4 * E * d = 0) := by
  have i1 := gI1 rel
  have i2 := gI2 rel
  have be : 0 ≤ B * E := Int.mul_nonneg b0 (by omega)
  have be1 : 0 ≤ (A + B) * E := Int.mul_nonneg b1 (by omega)
  have e5 : 2 * B * E = 2 * (B * E) := by grind
  have e6 : 2 * (A + B) * E = 2 * ((A + B) * E) := by grind
  have e7 : A * (p - 2 * E) + 2 * (A + B) * E = A * p + 2 * B * E := by grind
  have ee : 0 < E * E := Int.mul_pos e0 e0
  have cE : C * E * E = C * (E * E) := by grind
  constructor
  · rintro ⟨c0, y0, m, r⟩
    refine ⟨?_, r⟩
    rw [r, Int.mul_zero] at i1 i2
    have c2 : C * (E * E) ≤ 0 := Int.mul_nonpos_of_nonpos_of_nonneg c0 (by omega)
    have y2 : 0 ≤ (A + 2 * B + C) * (E * E) := Int.mul_nonneg y0 (by omega)
    refine inT_R0 e0 ?_ ?_ r
    · by_cases q : 0 ≤ p
      · exact q
      · exfalso
        have hz : A * p + 2 * B * E + 2 * B * E = 0 := by
          by_cases u : A * p + 2 * B * E + 2 * B * E = 0
          · exact u
          · have := Int.mul_neg_of_neg_of_pos (show p < 0 by omega) (show 0 < A * p + 2 * B * E + 2 * B * E by omega)
            omega
        have bz : B * E = 0 := by omega
        have bz : B = 0 := by
          rcases Int.mul_eq_zero.mp bz with u | u <;> omega
        have az : A * p = 0 := by omega
        rcases Int.mul_eq_zero.mp az with u | u <;> omega
    · by_cases q : p ≤ 2 * E
      · exact q
      · exfalso
        have hz : A * p + 2 * B * E + 2 * (A + B) * E = 0 := by
          by_cases u : A * p + 2 * B * E + 2 * (A + B) * E = 0
          · exact u
          · have := Int.mul_pos (show 0 < p - 2 * E by omega) (show 0 < A * p + 2 * B * E + 2 * (A + B) * E by omega)
            omega
        have bz : (A + B) * E = 0 := by omega
        have bz : A + B = 0 := by
          rcases Int.mul_eq_zero.mp bz with u | u <;> omega
        have az : A * (p - 2 * E) = 0 := by omega
        rcases Int.mul_eq_zero.mp az with u | u <;> omega
  · rintro ⟨t, r⟩
    obtain ⟨p0, p1⟩ := inT_p t
    rw [r, Int.mul_zero] at i1 i2
    have m : 0 ≤ A * p + 2 * B * E := by
      by_cases q : 0 ≤ A
      · have := Int.mul_nonneg q p0
        omega
      · have := Int.mul_nonneg_of_nonpos_of_nonpos (show A ≤ 0 by omega) (show p - 2 * E ≤ 0 by omega)
        omega
    have h1 : 0 ≤ p * (A * p + 2 * B * E + 2 * B * E) := Int.mul_nonneg p0 (by omega)
    have h2 : (p - 2 * E) * (A * p + 2 * B * E + 2 * (A + B) * E) ≤ 0 := Int.mul_nonpos_of_nonpos_of_nonneg (by omega) (by omega)
    refine ⟨?_, ?_, m, r⟩
    · by_cases q : C ≤ 0
      · exact q
      · have := Int.mul_pos (show 0 < C by omega) ee
        omega
    · by_cases q : 0 ≤ A + 2 * B + C
      · exact q
      · have := Int.mul_neg_of_neg_of_pos (show A + 2 * B + C < 0 by omega) ee
        omega
theorem gONn {A B C E p d : Int} (e0 : 0 < E) (rel : A * d + B * p + C * E = 0) (nz : A ≠ 0 ∨ B ≠ 0) (b0 : B ≤ 0) (b1 : A + B ≤ 0) : (0 ≤ C ∧ A + 2 * B + C ≤ 0 ∧ A * p + 2 * B * E ≤ 0 ∧ p * p - 4 * E * d = 0) ↔ (inT E p d ∧ p * p - 4 * E * d = 0) := by
  rw [← gON e0 (inT_neg rel) (by omega) (by omega) (by omega), gM_neg]
  constructor <;> rintro ⟨a, b, c, d⟩ <;> exact ⟨by omega, by omega, by omega, d⟩
theorem gONi {A B C E p d : Int} (e0 : 0 < E) (rel : A * d + B * p + C * E = 0) (a0 : 0 < A) (b0 : B < 0) (b1 : 0 < A + B) : ((0 ≤ C ∧ A * C - B * B ≤ 0 ∧ A * p + 2 * B * E ≤ 0 ∧ p * p - 4 * E * d = 0) ∨ (A * C - B * B ≤ 0 ∧ 0 ≤ A + 2 * B + C ∧ 0 ≤ A * p + 2 * B * E ∧ p * p - 4 * E * d = 0)) ↔ (inT E p d ∧ p * p - 4 * E * d = 0) := by
  have i1 := gI1 rel
  have i2 := gI2 rel
  have i4 := gI4 rel
  have be : B * E < 0 := Int.mul_neg_of_neg_of_pos b0 e0
  have be1 : 0 < (A + B) * E := Int.mul_pos b1 e0
  have e5 : 2 * B * E = 2 * (B * E) := by grind
  have e6 : 2 * (A + B) * E = 2 * ((A + B) * E) := by grind
  have e7 : A * (p - 2 * E) + 2 * (A + B) * E = A * p + 2 * B * E := by grind
  have ee : 0 < E * E := Int.mul_pos e0 e0
  have cE : C * E * E = C * (E * E) := by grind
  constructor
  · rintro (⟨c0, _, m, r⟩ | ⟨_, y0, m, r⟩)
    · refine ⟨inT_R0 e0 ?_ ?_ r, r⟩
      · by_cases q : 0 ≤ p
        · exact q
        · rw [r, Int.mul_zero] at i1
          have c2 : 0 ≤ C * (E * E) := Int.mul_nonneg c0 (by omega)
          have := Int.mul_pos_of_neg_of_neg (show p < 0 by omega) (show A * p + 2 * B * E + 2 * B * E < 0 by omega)
          omega
      · by_cases q : p ≤ 2 * E
        · exact q
        · have := Int.mul_pos a0 (show 0 < p - 2 * E by omega)
          omega
    · refine ⟨inT_R0 e0 ?_ ?_ r, r⟩
      · by_cases q : 0 ≤ p
        · exact q
        · have := Int.mul_neg_of_pos_of_neg a0 (show p < 0 by omega)
          omega
      · by_cases q : p ≤ 2 * E
        · exact q
        · rw [r, Int.mul_zero] at i2
          have y2 : 0 ≤ (A + 2 * B + C) * (E * E) := Int.mul_nonneg y0 (by omega)
          have := Int.mul_pos (show 0 < p - 2 * E by omega) (show 0 < A * p + 2 * B * E + 2 * (A + B) * E by omega)
          omega
  · rintro ⟨t, r⟩
    obtain ⟨p0, p1⟩ := inT_p t
    rw [r, Int.mul_zero] at i1 i2 i4
    have s0 : A * C - B * B ≤ 0 := by
      by_cases q : A * C - B * B ≤ 0
      · exact q
      · have h1 : E * E * (B * B - A * C) < 0 := Int.mul_neg_of_pos_of_neg ee (by omega)
        have h2 : 0 ≤ (A * p + 2 * B * E) * (A * p + 2 * B * E) := by
          by_cases u : 0 ≤ A * p + 2 * B * E
          · exact Int.mul_nonneg u u
          · exact Int.le_of_lt (Int.mul_pos_of_neg_of_neg (by omega) (by omega))
        omega
    by_cases m : A * p + 2 * B * E ≤ 0
    · refine Or.inl ⟨?_, s0, m, r⟩
      have h1 : p * (A * p + 2 * B * E + 2 * B * E) ≤ 0 := Int.mul_nonpos_of_nonneg_of_nonpos p0 (by omega)
      by_cases q : 0 ≤ C
      · exact q
      · have := Int.mul_neg_of_neg_of_pos (show C < 0 by omega) ee
        omega
    · refine Or.inr ⟨s0, ?_, by omega, r⟩
      have h2 : (p - 2 * E) * (A * p + 2 * B * E + 2 * (A + B) * E) ≤ 0 := Int.mul_nonpos_of_nonpos_of_nonneg (by omega) (by omega)
      by_cases q : 0 ≤ A + 2 * B + C
      · exact q
      · have := Int.mul_neg_of_neg_of_pos (show A + 2 * B + C < 0 by omega) ee
        omega
theorem gONin {A B C E p d : Int} (e0 : 0 < E) (rel : A * d + B * p + C * E = 0) (a0 : A < 0) (b0 : 0 < B) (b1 : A + B < 0) : ((C ≤ 0 ∧ A * C - B * B ≤ 0 ∧ 0 ≤ A * p + 2 * B * E ∧ p * p - 4 * E * d = 0) ∨ (A * C - B * B ≤ 0 ∧ A + 2 * B + C ≤ 0 ∧ A * p + 2 * B * E ≤ 0 ∧ p * p - 4 * E * d = 0)) ↔ (inT E p d ∧ p * p - 4 * E * d = 0) := by
  have e : -A * -C - -B * -B = A * C - B * B := by grind
  rw [← gONi e0 (inT_neg rel) (by omega) (by omega) (by omega), gM_neg, e]
  constructor
  · rintro (⟨a, b, c, d⟩ | ⟨a, b, c, d⟩)
    · exact Or.inl ⟨by omega, b, by omega, d⟩
    · exact Or.inr ⟨a, by omega, by omega, d⟩
  · rintro (⟨a, b, c, d⟩ | ⟨a, b, c, d⟩)
    · exact Or.inl ⟨by omega, b, by omega, d⟩
    · exact Or.inr ⟨a, by omega, by omega, d⟩
/-- between chord and curve -/
theorem gP4 {A B C E p d : Int} (e0 : 0 < E) (rel : A * d + B * p + C * E = 0) (t : inT E p d) (r : p * p - 4 * E * d < 0) : 0 < d ∧ 0 < E - p + d ∧ ¬ (0 < C ∧ 0 < B + C ∧ 0 < A + 2 * B + C) ∧ (0 < B → ¬ (C ≤ 0 ∧ B + C ≤ 0 ∧ A + 2 * B + C ≤ 0)) ∧ (A ≠ 0 → A * C - B * B < 0) := by
  obtain ⟨t1, t2, t3⟩ := t
  have i5 := gI5 rel
  have i4 := gI4 rel
  have ee : 0 < E * E := Int.mul_pos e0 e0
  have e4 : 4 * E * d = 4 * (E * d) := by grind
  have pp : 0 ≤ p * p := Int.mul_nonneg (by omega) (by omega)
  have d0 : 0 < d := by
    by_cases q : 0 < d
    · exact q
    · have : d = 0 := by omega
      subst this
      omega
  have a1 : 0 < E - p + d := by
    by_cases q : 0 < E - p + d
    · exact q
    · exfalso
      have ed : d = p - E := by omega
      have h2 : 0 ≤ (2 * E - p) * (2 * E - p) := by
        by_cases u : 0 ≤ 2 * E - p
        · exact Int.mul_nonneg u u
        · exact Int.le_of_lt (Int.mul_pos_of_neg_of_neg (by omega) (by omega))
      have h3 : (2 * E - p) * (2 * E - p) = p * p - 4 * E * (p - E) := by grind
      rw [ed] at r
      omega
  refine ⟨d0, a1, ?_, ?_, ?_⟩
  · rintro ⟨c0, y1, y2⟩
    have h1 := Int.mul_pos a1 c0
    have h2 := Int.mul_nonneg (show 0 ≤ p - 2 * d by omega) (show 0 ≤ B + C by omega)
    have h3 := Int.mul_pos d0 y2
    omega
  · rintro b0 ⟨c0, y1, y2⟩
    have h1 := Int.mul_nonpos_of_nonneg_of_nonpos (Int.le_of_lt a1) c0
    have h2 := Int.mul_nonpos_of_nonneg_of_nonpos (show 0 ≤ p - 2 * d by omega) y1
    have h3 := Int.mul_nonpos_of_nonneg_of_nonpos (Int.le_of_lt d0) y2
    have cz : (E - p + d) * C = 0 := by omega
    rcases Int.mul_eq_zero.mp cz with u | u <;> omega
  · intro nz
    by_cases q : A * C - B * B < 0
    · exact q
    · have h1 : E * E * (B * B - A * C) ≤ 0 := Int.mul_nonpos_of_nonneg_of_nonpos (by omega) (by omega)
      have aa : 0 < A * A := by
        by_cases u : 0 < A
        · exact Int.mul_pos u u
        · exact Int.mul_pos_of_neg_of_neg (by omega) (by omega)
      have h3 := Int.mul_neg_of_pos_of_neg aa r
      have h2 : 0 ≤ (A * p + 2 * B * E) * (A * p + 2 * B * E) := by
        by_cases u : 0 ≤ A * p + 2 * B * E
        · exact Int.mul_nonneg u u
        · exact Int.le_of_lt (Int.mul_pos_of_neg_of_neg (by omega) (by omega))
      omega
