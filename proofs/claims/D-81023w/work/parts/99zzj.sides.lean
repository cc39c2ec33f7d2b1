/-! LAYER 3CR: the side of a piece -/
def same (a b : Int) : Prop := (0 < a ∧ 0 < b) ∨ (a < 0 ∧ b < 0) ∨ (a = 0 ∧ b = 0)
theorem sgS {s a b : Int} (hs : s = 1 ∨ s = -1) (h : same a b) : sg (s * a) = sg (s * b) := by
  rcases hs with rfl | rfl
  · rw [Int.one_mul, Int.one_mul]
    rcases h with h | h | h
    · rw [sg_p h.1, sg_p h.2]
    · rw [sg_n h.1, sg_n h.2]
    · rw [sg_0 h.1, sg_0 h.2]
  · rcases h with h | h | h
    · rw [sg_n (by omega), sg_n (by omega)]
    · rw [sg_p (by omega), sg_p (by omega)]
    · rw [sg_0 (by omega), sg_0 (by omega)]
theorem sg_same {a b : Int} (h : same a b) : sg a = sg b := by
  have := sgS (s := 1) (Or.inl rfl) h
  rwa [Int.one_mul, Int.one_mul] at this
theorem same_mul {a b c : Int} (h : same a b) (hc : 0 < c) : same (a * c) b := by
  rcases h with h | h | h
  · exact Or.inl ⟨Int.mul_pos h.1 hc, h.2⟩
  · exact Or.inr (Or.inl ⟨Int.mul_neg_of_neg_of_pos h.1 hc, h.2⟩)
  · exact Or.inr (Or.inr ⟨by rw [h.1, Int.zero_mul], h.2⟩)
theorem zD_n (M R : Int) : zD M R = -zU (-M) R := by
  rcases zD_c M R with ⟨a, b⟩ | ⟨a, b⟩ | ⟨a, b⟩ <;> rcases zU_c (-M) R with ⟨c, d⟩ | ⟨c, d⟩ | ⟨c, d⟩ <;> omega
/-- one rising piece from 0 to 1 -/
theorem Z_up {A B C E p d : Int} (e0 : 0 < E) (rel : A * d + B * p + C * E = 0) (nz : A ≠ 0) (b0 : 0 ≤ B) (b1 : 0 ≤ A + B) (c0 : C ≤ 0) (y0 : 0 ≤ A + 2 * B + C) : (p < 0 → same A (zU (A * p + 2 * B * E) (p * p - 4 * E * d))) ∧ (2 * E < p → same (-A) (zU (A * p + 2 * B * E) (p * p - 4 * E * d))) ∧ (0 ≤ p → p ≤ 2 * E → same (-(p * p - 4 * E * d)) (zU (A * p + 2 * B * E) (p * p - 4 * E * d))) := by
  have i1 := gI1 rel
  have i2 := gI2 rel
  have hz := zU_c (A * p + 2 * B * E) (p * p - 4 * E * d)
  have be : 0 ≤ B * E := Int.mul_nonneg b0 (by omega)
  have be1 : 0 ≤ (A + B) * E := Int.mul_nonneg b1 (by omega)
  have e5 : 2 * B * E = 2 * (B * E) := by grind
  have e6 : 2 * (A + B) * E = 2 * ((A + B) * E) := by grind
  have e7 : A * (p - 2 * E) + 2 * (A + B) * E = A * p + 2 * B * E := by grind
  have ee : 0 < E * E := Int.mul_pos e0 e0
  have cE : C * E * E = C * (E * E) := by grind
  have c2 : C * (E * E) ≤ 0 := Int.mul_nonpos_of_nonpos_of_nonneg c0 (by omega)
  have y2 : 0 ≤ (A + 2 * B + C) * (E * E) := Int.mul_nonneg y0 (by omega)
  refine ⟨fun q => ?_, fun q => ?_, fun q q2 => ?_⟩
  · by_cases a0 : 0 < A
    · have k := fun m => gK1 e0 rel a0 q m c0
      refine Or.inl ⟨a0, ?_⟩
      by_cases m : 0 ≤ A * p + 2 * B * E
      · have := k m
        omega
      · omega
    · have a1 : A < 0 := by omega
      have h1 := Int.mul_pos_of_neg_of_neg a1 q
      have h2 := Int.mul_neg_of_neg_of_pos q (show 0 < A * p + 2 * B * E + 2 * B * E by omega)
      have r := (neg_of_mul (show (p * p - 4 * E * d) * A < 0 by rw [Int.mul_comm]; omega)).2.1 a1
      refine Or.inr (Or.inl ⟨a1, ?_⟩)
      omega
  · by_cases a0 : 0 < A
    · have h1 := Int.mul_pos a0 (show 0 < p - 2 * E by omega)
      have h2 := Int.mul_pos (show 0 < p - 2 * E by omega) (show 0 < A * p + 2 * B * E + 2 * (A + B) * E by omega)
      have r := (pos_of_mul (show 0 < (p * p - 4 * E * d) * A by rw [Int.mul_comm]; omega)).1 a0
      refine Or.inr (Or.inl ⟨by omega, ?_⟩)
      omega
    · have a1 : A < 0 := by omega
      have k := fun m => gK2 e0 rel a1 q m y0
      refine Or.inl ⟨by omega, ?_⟩
      by_cases m : 0 ≤ A * p + 2 * B * E
      · have := k m
        omega
      · omega
  · have m : 0 ≤ A * p + 2 * B * E := by
      by_cases u : 0 ≤ A
      · have := Int.mul_nonneg u q
        omega
      · have := Int.mul_nonneg_of_nonpos_of_nonpos (show A ≤ 0 by omega) (show p - 2 * E ≤ 0 by omega)
        omega
    unfold same
    generalize A * p + 2 * B * E = M at hz m ⊢
    generalize p * p - 4 * E * d = R at hz ⊢
    omega
theorem same_neg {a b : Int} (h : same (-a) (-b)) : same a b := by
  unfold same at h ⊢
  omega
theorem Z_dn {A B C E p d : Int} (e0 : 0 < E) (rel : A * d + B * p + C * E = 0) (nz : A ≠ 0) (b0 : B ≤ 0) (b1 : A + B ≤ 0) (c0 : 0 ≤ C) (y0 : A + 2 * B + C ≤ 0) : (p < 0 → same A (zD (A * p + 2 * B * E) (p * p - 4 * E * d))) ∧ (2 * E < p → same (-A) (zD (A * p + 2 * B * E) (p * p - 4 * E * d))) ∧ (0 ≤ p → p ≤ 2 * E → same (p * p - 4 * E * d) (zD (A * p + 2 * B * E) (p * p - 4 * E * d))) := by
  obtain ⟨h1, h2, h3⟩ := Z_up e0 (inT_neg rel) (by omega) (by omega) (by omega) (by omega) (by omega)
  rw [gM_neg] at h1 h2 h3
  rw [zD_n]
  refine ⟨fun q => same_neg ?_, fun q => same_neg ?_, fun q q2 => same_neg ?_⟩
  · rw [Int.neg_neg]; exact h1 q
  · rw [Int.neg_neg (zU _ _)]; exact h2 q
  · rw [Int.neg_neg]; exact h3 q q2
/-- two pieces, with the turning point between: A > 0 -/
theorem Z_i1 {A B C E p d : Int} (e0 : 0 < E) (rel : A * d + B * p + C * E = 0) (a0 : 0 < A) (b0 : B < 0) (c0 : 0 ≤ C) : (p < 0 → same A (zD (A * p + 2 * B * E) (p * p - 4 * E * d))) ∧ (0 < A * p + 2 * B * E → same (-A) (zD (A * p + 2 * B * E) (p * p - 4 * E * d))) ∧ (A * p + 2 * B * E ≤ 0 → same (p * p - 4 * E * d) (zD (A * p + 2 * B * E) (p * p - 4 * E * d))) := by
  have i1 := gI1 rel
  have hz := zD_c (A * p + 2 * B * E) (p * p - 4 * E * d)
  have be : B * E < 0 := Int.mul_neg_of_neg_of_pos b0 e0
  have e5 : 2 * B * E = 2 * (B * E) := by grind
  have ee : 0 < E * E := Int.mul_pos e0 e0
  have cE : C * E * E = C * (E * E) := by grind
  have c2 : 0 ≤ C * (E * E) := Int.mul_nonneg c0 (by omega)
  refine ⟨fun q => ?_, fun q => ?_, fun q => ?_⟩
  · have h1 := Int.mul_neg_of_pos_of_neg a0 q
    have h2 := Int.mul_pos_of_neg_of_neg q (show A * p + 2 * B * E + 2 * B * E < 0 by omega)
    have r := (pos_of_mul (show 0 < (p * p - 4 * E * d) * A by rw [Int.mul_comm]; omega)).1 a0
    exact Or.inl ⟨a0, by omega⟩
  · exact Or.inr (Or.inl ⟨by omega, by omega⟩)
  · unfold same
    generalize A * p + 2 * B * E = M at hz q ⊢
    generalize p * p - 4 * E * d = R at hz ⊢
    omega
theorem Z_i2 {A B C E p d : Int} (e0 : 0 < E) (rel : A * d + B * p + C * E = 0) (a0 : 0 < A) (b1 : 0 < A + B) (y0 : 0 ≤ A + 2 * B + C) : (A * p + 2 * B * E < 0 → same A (zU (A * p + 2 * B * E) (p * p - 4 * E * d))) ∧ (2 * E < p → same (-A) (zU (A * p + 2 * B * E) (p * p - 4 * E * d))) ∧ (0 ≤ A * p + 2 * B * E → same (-(p * p - 4 * E * d)) (zU (A * p + 2 * B * E) (p * p - 4 * E * d))) := by
  have i2 := gI2 rel
  have hz := zU_c (A * p + 2 * B * E) (p * p - 4 * E * d)
  have be1 : 0 < (A + B) * E := Int.mul_pos b1 e0
  have e6 : 2 * (A + B) * E = 2 * ((A + B) * E) := by grind
  have e7 : A * (p - 2 * E) + 2 * (A + B) * E = A * p + 2 * B * E := by grind
  have ee : 0 < E * E := Int.mul_pos e0 e0
  have y2 : 0 ≤ (A + 2 * B + C) * (E * E) := Int.mul_nonneg y0 (by omega)
  refine ⟨fun q => Or.inl ⟨a0, by omega⟩, fun q => ?_, fun q => ?_⟩
  · have h1 := Int.mul_pos a0 (show 0 < p - 2 * E by omega)
    have h2 := Int.mul_pos (show 0 < p - 2 * E by omega) (show 0 < A * p + 2 * B * E + 2 * (A + B) * E by omega)
    have r := (pos_of_mul (show 0 < (p * p - 4 * E * d) * A by rw [Int.mul_comm]; omega)).1 a0
    exact Or.inr (Or.inl ⟨by omega, by omega⟩)
  · unfold same
    generalize A * p + 2 * B * E = M at hz q ⊢
    generalize p * p - 4 * E * d = R at hz ⊢
    omega
theorem zU_n (M R : Int) : zU M R = -zD (-M) R := by
  rw [zD_n, Int.neg_neg, Int.neg_neg]
theorem Z_j1 {A B C E p d : Int} (e0 : 0 < E) (rel : A * d + B * p + C * E = 0) (a0 : A < 0) (b0 : 0 < B) (c0 : C ≤ 0) : (p < 0 → same A (zU (A * p + 2 * B * E) (p * p - 4 * E * d))) ∧ (A * p + 2 * B * E < 0 → same (-A) (zU (A * p + 2 * B * E) (p * p - 4 * E * d))) ∧ (0 ≤ A * p + 2 * B * E → same (-(p * p - 4 * E * d)) (zU (A * p + 2 * B * E) (p * p - 4 * E * d))) := by
  obtain ⟨h1, h2, h3⟩ := Z_i1 e0 (inT_neg rel) (show 0 < -A by omega) (show -B < 0 by omega) (show 0 ≤ -C by omega)
  rw [gM_neg] at h1 h2 h3
  rw [zU_n]
  refine ⟨fun q => same_neg ?_, fun q => same_neg ?_, fun q => same_neg ?_⟩
  · rw [Int.neg_neg]; exact h1 q
  · rw [Int.neg_neg (zD _ _)]; exact h2 (by omega)
  · rw [Int.neg_neg, Int.neg_neg]; exact h3 (by omega)
theorem Z_j2 {A B C E p d : Int} (e0 : 0 < E) (rel : A * d + B * p + C * E = 0) (a0 : A < 0) (b1 : A + B < 0) (y0 : A + 2 * B + C ≤ 0) : (0 < A * p + 2 * B * E → same A (zD (A * p + 2 * B * E) (p * p - 4 * E * d))) ∧ (2 * E < p → same (-A) (zD (A * p + 2 * B * E) (p * p - 4 * E * d))) ∧ (A * p + 2 * B * E ≤ 0 → same (p * p - 4 * E * d) (zD (A * p + 2 * B * E) (p * p - 4 * E * d))) := by
  obtain ⟨h1, h2, h3⟩ := Z_i2 e0 (inT_neg rel) (show 0 < -A by omega) (show 0 < -A + -B by omega) (show 0 ≤ -A + 2 * -B + -C by omega)
  rw [gM_neg] at h1 h2 h3
  rw [zD_n]
  refine ⟨fun q => same_neg ?_, fun q => same_neg ?_, fun q => same_neg ?_⟩
  · rw [Int.neg_neg]; exact h1 (by omega)
  · rw [Int.neg_neg (zU _ _)]; exact h2 q
  · rw [Int.neg_neg]; exact h3 (by omega)
