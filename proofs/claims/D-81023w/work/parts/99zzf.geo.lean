/-! LAYER 3CN: geometry of one curve, in whole numbers. y(t) = A t t + 2 B t + C; E > 0; A d + B p + C E = 0 -/
theorem gI1 {A B C E p d : Int} (rel : A * d + B * p + C * E = 0) : A * (p * p - 4 * E * d) = p * (A * p + 2 * B * E + 2 * B * E) + 4 * (C * E * E) := by grind
theorem gI2 {A B C E p d : Int} (rel : A * d + B * p + C * E = 0) : A * (p * p - 4 * E * d) = (p - 2 * E) * (A * p + 2 * B * E + 2 * (A + B) * E) + 4 * ((A + 2 * B + C) * (E * E)) := by grind
theorem gI3 {A B C E p d : Int} (rel : A * d + B * p + C * E = 0) : (2 * E - p) * C + p * (A + 2 * B + C) = A * (p - 2 * d) := by grind
theorem gI4 {A B C E p d : Int} (rel : A * d + B * p + C * E = 0) : (A * p + 2 * B * E) * (A * p + 2 * B * E) - A * A * (p * p - 4 * E * d) = 4 * (E * E * (B * B - A * C)) := by grind
theorem gI5 {A B C E p d : Int} (rel : A * d + B * p + C * E = 0) : (E - p + d) * C + (p - 2 * d) * (B + C) + d * (A + 2 * B + C) = 0 := by grind
/-- the point lies in the triangle -/
def inT (E p d : Int) : Prop := 0 ≤ d ∧ 2 * d ≤ p ∧ p ≤ E + d
/-- a root between 0 and 1 with R at most 0, below the chord: in the triangle -/
theorem inT_of {E p d : Int} (e0 : 0 < E) (p0 : 0 ≤ p) (r : p * p - 4 * E * d ≤ 0) (ch : 2 * d ≤ p) : inT E p d := by
  have d0 : 0 ≤ d := by
    by_cases q : 0 ≤ d
    · exact q
    · have h1 : E * d < 0 := Int.mul_neg_of_pos_of_neg e0 (by omega)
      have h2 : 0 ≤ p * p := Int.mul_nonneg p0 p0
      have h3 : 4 * E * d = 4 * (E * d) := by grind
      omega
  refine ⟨d0, ch, ?_⟩
  by_cases q : p ≤ E + d
  · exact q
  · have h1 : 0 < E * (p - (E + d)) := Int.mul_pos e0 (by omega)
    have h2 : 0 ≤ (2 * E - p) * (2 * E - p) := by
      by_cases u : 0 ≤ 2 * E - p
      · exact Int.mul_nonneg u u
      · exact Int.le_of_lt (Int.mul_pos_of_neg_of_neg (by omega) (by omega))
    have h3 : (2 * E - p) * (2 * E - p) + 4 * (E * (p - (E + d))) = p * p - 4 * E * d := by grind
    omega
theorem inT_R0 {E p d : Int} (e0 : 0 < E) (p0 : 0 ≤ p) (p1 : p ≤ 2 * E) (r : p * p - 4 * E * d = 0) : inT E p d := by
  refine inT_of e0 p0 (by omega) ?_
  by_cases q : 2 * d ≤ p
  · exact q
  · have h1 : 0 < E * (2 * d - p) := Int.mul_pos e0 (by omega)
    have h2 : 0 ≤ p * (2 * E - p) := Int.mul_nonneg p0 (by omega)
    have h3 : p * (2 * E - p) + 2 * (E * (2 * d - p)) = - (p * p - 4 * E * d) := by grind
    omega
theorem inT_p {E p d : Int} (h : inT E p d) : 0 ≤ p ∧ p ≤ 2 * E := by
  obtain ⟨a, b, c⟩ := h
  omega
theorem gK1 {A B C E p d : Int} (e0 : 0 < E) (rel : A * d + B * p + C * E = 0) (a0 : 0 < A) (p0 : p < 0) (m : 0 ≤ A * p + 2 * B * E) (c0 : C ≤ 0) : p * p - 4 * E * d < 0 := by
  have i := gI1 rel
  have h1 : A * p < 0 := Int.mul_neg_of_pos_of_neg a0 p0
  have h2 : p * (A * p + 2 * B * E + 2 * B * E) < 0 := Int.mul_neg_of_neg_of_pos p0 (by omega)
  have h3 : C * E * E ≤ 0 := Int.mul_nonpos_of_nonpos_of_nonneg (Int.mul_nonpos_of_nonpos_of_nonneg c0 (by omega)) (by omega)
  have h4 : A * (p * p - 4 * E * d) < 0 := by omega
  by_cases q : p * p - 4 * E * d < 0
  · exact q
  · have := Int.mul_nonneg (Int.le_of_lt a0) (show 0 ≤ p * p - 4 * E * d by omega)
    omega
theorem gK2 {A B C E p d : Int} (e0 : 0 < E) (rel : A * d + B * p + C * E = 0) (a0 : A < 0) (p1 : 2 * E < p) (m : 0 ≤ A * p + 2 * B * E) (y0 : 0 ≤ A + 2 * B + C) : p * p - 4 * E * d < 0 := by
  have i := gI2 rel
  have h1 : A * (p - 2 * E) < 0 := Int.mul_neg_of_neg_of_pos a0 (by omega)
  have h1' : A * (p - 2 * E) + 2 * (A + B) * E = A * p + 2 * B * E := by grind
  have h2 : 0 < (p - 2 * E) * (A * p + 2 * B * E + 2 * (A + B) * E) := Int.mul_pos (by omega) (by omega)
  have h3 : 0 ≤ (A + 2 * B + C) * (E * E) := Int.mul_nonneg y0 (Int.mul_nonneg (by omega) (by omega))
  have h4 : 0 < A * (p * p - 4 * E * d) := by omega
  by_cases q : p * p - 4 * E * d < 0
  · exact q
  · have := Int.mul_nonpos_of_nonpos_of_nonneg (Int.le_of_lt a0) (show 0 ≤ p * p - 4 * E * d by omega)
    omega
theorem gK3 {A B C E p d : Int} (e0 : 0 < E) (rel : A * d + B * p + C * E = 0) (p0 : p < 0) (c0 : C ≤ 0) (y0 : 0 ≤ A + 2 * B + C) (lt : C < A + 2 * B + C) : A * (p - 2 * d) < 0 := by
  have i := gI3 rel
  by_cases q : C < 0
  · have h1 : (2 * E - p) * C < 0 := Int.mul_neg_of_pos_of_neg (by omega) q
    have h2 : p * (A + 2 * B + C) ≤ 0 := Int.mul_nonpos_of_nonpos_of_nonneg (by omega) y0
    omega
  · have h1 : (2 * E - p) * C ≤ 0 := Int.mul_nonpos_of_nonneg_of_nonpos (by omega) c0
    have h2 : p * (A + 2 * B + C) < 0 := Int.mul_neg_of_neg_of_pos p0 (by omega)
    omega
theorem gK4 {A B C E p d : Int} (e0 : 0 < E) (rel : A * d + B * p + C * E = 0) (p1 : 2 * E < p) (c0 : C ≤ 0) (y0 : 0 ≤ A + 2 * B + C) (lt : C < A + 2 * B + C) : 0 < A * (p - 2 * d) := by
  have i := gI3 rel
  by_cases q : C < 0
  · have h1 : 0 < (2 * E - p) * C := Int.mul_pos_of_neg_of_neg (by omega) q
    have h2 : 0 ≤ p * (A + 2 * B + C) := Int.mul_nonneg (by omega) y0
    omega
  · have h1 : 0 ≤ (2 * E - p) * C := Int.mul_nonneg_of_nonpos_of_nonpos (by omega) c0
    have h2 : 0 < p * (A + 2 * B + C) := Int.mul_pos (by omega) (by omega)
    omega
theorem neg_of_mul {a b : Int} (h : a * b < 0) : (0 < b → a < 0) ∧ (b < 0 → 0 < a) ∧ (0 ≤ b → a < 0) ∧ (b ≤ 0 → 0 < a) := by
  have key1 : 0 ≤ b → a < 0 := fun hb => by
    by_cases q : a < 0
    · exact q
    · have := Int.mul_nonneg (show 0 ≤ a by omega) hb
      omega
  have key2 : b ≤ 0 → 0 < a := fun hb => by
    by_cases q : 0 < a
    · exact q
    · have := Int.mul_nonneg_of_nonpos_of_nonpos (show a ≤ 0 by omega) hb
      omega
  exact ⟨fun w => key1 (by omega), fun w => key2 (by omega), key1, key2⟩
theorem pos_of_mul {a b : Int} (h : 0 < a * b) : (0 < b → 0 < a) ∧ (b < 0 → a < 0) ∧ (0 ≤ b → 0 < a) ∧ (b ≤ 0 → a < 0) := by
  have h' : -a * b < 0 := by
    have : -a * b = -(a * b) := Int.neg_mul a b
    omega
  obtain ⟨a1, a2, a3, a4⟩ := neg_of_mul h'
  exact ⟨fun w => by have := a1 w; omega, fun w => by have := a2 w; omega, fun w => by have := a3 w; omega, fun w => by have := a4 w; omega⟩
theorem gM {A B C E p : Int} (e0 : 0 < E) (p0 : 0 ≤ p) (lt : C < A + 2 * B + C) (m : A * p + 2 * B * E < 0) : (0 ≤ A → B < 0) ∧ (A ≤ 0 → p ≤ 2 * E → A + B < 0) ∧ (0 < A ∧ p ≤ 2 * E ∨ A < 0) := by
  have be : ∀ {x : Int}, 2 * x * E < 0 → x < 0 := fun {x} h => by
    have := (neg_of_mul h).1 e0
    omega
  have h1 : 0 ≤ A → B < 0 := fun a0 => by
    have := Int.mul_nonneg a0 p0
    exact be (by omega)
  have e2 : A * (p - 2 * E) + 2 * (A + B) * E = A * p + 2 * B * E := by grind
  refine ⟨h1, fun a0 p1 => ?_, ?_⟩
  · have := Int.mul_nonneg_of_nonpos_of_nonpos a0 (show p - 2 * E ≤ 0 by omega)
    exact be (by omega)
  · by_cases q : A < 0
    · exact Or.inr q
    · have b := h1 (by omega)
      refine Or.inl ⟨by omega, ?_⟩
      by_cases u : p ≤ 2 * E
      · exact u
      · have := Int.mul_nonneg (show 0 ≤ A by omega) (show 0 ≤ p - 2 * E by omega)
        have := be (x := A + B) (by omega)
        omega
theorem gP1 {A B C E p d : Int} (e0 : 0 < E) (rel : A * d + B * p + C * E = 0) (c0 : C ≤ 0) (y0 : 0 ≤ A + 2 * B + C) (lt : C < A + 2 * B + C) (nt : ¬ (inT E p d ∧ p * p - 4 * E * d ≤ 0)) : ((A * p + 2 * B * E < 0 ∨ p * p - 4 * E * d < 0) ↔ p < 2 * d) ∧ 2 * d ≠ p ∧ ¬ (0 ≤ A * p + 2 * B * E ∧ p * p - 4 * E * d = 0) := by
  have e4 : 4 * E * d = 4 * (E * d) := by grind
  have k1 := fun a m q => gK1 (A := A) (B := B) (p := p) e0 rel a q m c0
  have k2 := fun a m q => gK2 (A := A) (B := B) (p := p) e0 rel a q m y0
  have k3 := fun q => gK3 (p := p) e0 rel q c0 y0 lt
  have k4 := fun q => gK4 (p := p) e0 rel q c0 y0 lt
  have pr1 : p * (p - 2 * E) = p * p - 2 * (E * p) := by grind
  refine ⟨⟨fun h => ?_, fun h => ?_⟩, fun h => ?_, fun h => ?_⟩
  · by_cases w : p < 2 * d
    · exact w
    · exfalso
      by_cases r : p * p - 4 * E * d < 0
      · have h1 : E * (2 * d) ≤ E * p := Int.mul_le_mul_of_nonneg_left (by omega) (by omega)
        have h2 : E * (2 * d) = 2 * (E * d) := by grind
        have h3 : p * (p - 2 * E) < 0 := by omega
        have p0 : 0 ≤ p := by
          by_cases q : 0 ≤ p
          · exact q
          · have := Int.mul_pos_of_neg_of_neg (show p < 0 by omega) (show p - 2 * E < 0 by omega)
            omega
        exact nt ⟨inT_of e0 p0 (by omega) (by omega), by omega⟩
      · have m : A * p + 2 * B * E < 0 := by omega
        by_cases q : p < 0
        · have a0 := (neg_of_mul (k3 q)).2.2.1 (by omega)
          have := Int.mul_pos_of_neg_of_neg a0 q
          have b0 := (neg_of_mul (show 2 * B * E < 0 by omega)).1 e0
          omega
        · have p0 : 0 ≤ p := by omega
          obtain ⟨g1, g2, g3⟩ := gM e0 p0 lt m
          by_cases q2 : 2 * E < p
          · have a0 := (pos_of_mul (k4 q2)).2.2.1 (by omega)
            rcases g3 with ⟨_, g3⟩ | g3 <;> omega
          · rcases g3 with ⟨a0, _⟩ | a0
            · have b0 := g1 (by omega)
              have be : B * E < 0 := Int.mul_neg_of_neg_of_pos b0 e0
              have i := gI1 rel
              have ar := Int.mul_nonneg (Int.le_of_lt a0) (show 0 ≤ p * p - 4 * E * d by omega)
              have c2 : C * E * E ≤ 0 := Int.mul_nonpos_of_nonpos_of_nonneg (Int.mul_nonpos_of_nonpos_of_nonneg c0 (by omega)) (by omega)
              have e5 : 2 * B * E = 2 * (B * E) := by grind
              have pz : p = 0 := by
                by_cases u : p = 0
                · exact u
                · have := Int.mul_neg_of_pos_of_neg (show 0 < p by omega) (show A * p + 2 * B * E + 2 * B * E < 0 by omega)
                  omega
              subst pz
              have e6 : A * (0 * 0 - 4 * E * d) = -(4 * (E * (A * d))) := by grind
              have e7 : A * d + C * E = 0 := by grind
              have ce : C * E ≤ 0 := Int.mul_nonpos_of_nonpos_of_nonneg c0 (by omega)
              have ad : 0 ≤ A * d := by omega
              have dz : d = 0 := by
                by_cases u : d = 0
                · exact u
                · have dp : 0 < d := by
                    by_cases v : 0 < d
                    · exact v
                    · have := Int.mul_neg_of_pos_of_neg a0 (show d < 0 by omega)
                      omega
                  have := Int.mul_pos e0 dp
                  omega
              subst dz
              exact nt ⟨⟨by omega, by omega, by omega⟩, by omega⟩
            · have b1 := g2 (by omega) (by omega)
              have be : (A + B) * E < 0 := Int.mul_neg_of_neg_of_pos b1 e0
              have i := gI2 rel
              have ar := Int.mul_nonpos_of_nonpos_of_nonneg (Int.le_of_lt a0) (show 0 ≤ p * p - 4 * E * d by omega)
              have y2 : 0 ≤ (A + 2 * B + C) * (E * E) := Int.mul_nonneg y0 (Int.mul_nonneg (by omega) (by omega))
              have e5 : 2 * (A + B) * E = 2 * ((A + B) * E) := by grind
              have pz : p = 2 * E := by
                by_cases u : p = 2 * E
                · exact u
                · have := Int.mul_pos_of_neg_of_neg (show p - 2 * E < 0 by omega) (show A * p + 2 * B * E + 2 * (A + B) * E < 0 by omega)
                  omega
              subst pz
              have e8 : (2 * E - 2 * E) * (A * (2 * E) + 2 * B * E + 2 * (A + B) * E) = 0 := by grind
              have ar0 : A * (2 * E * (2 * E) - 4 * E * d) = 0 := by omega
              have r0 : 2 * E * (2 * E) - 4 * E * d = 0 := by
                rcases Int.mul_eq_zero.mp ar0 with u | u
                · omega
                · exact u
              have e9 : E * (E - d) = 0 := by grind
              have de : d = E := by
                rcases Int.mul_eq_zero.mp e9 with u | u <;> omega
              subst de
              exact nt ⟨⟨by omega, by omega, by omega⟩, by omega⟩
  · by_cases w : A * p + 2 * B * E < 0 ∨ p * p - 4 * E * d < 0
    · exact w
    · exfalso
      have m : 0 ≤ A * p + 2 * B * E := by omega
      have r : 0 ≤ p * p - 4 * E * d := by omega
      by_cases q : p < 0
      · have a0 := (neg_of_mul (k3 q)).2.1 (by omega)
        have := k1 a0 m q
        omega
      · by_cases q2 : 2 * E < p
        · have a0 := (pos_of_mul (k4 q2)).2.1 (by omega)
          have := k2 a0 m q2
          omega
        · have h1 : E * p < E * (2 * d) := Int.mul_lt_mul_of_pos_left h e0
          have h2 : E * (2 * d) = 2 * (E * d) := by grind
          have h3 : p * (p - 2 * E) ≤ 0 := Int.mul_nonpos_of_nonneg_of_nonpos (by omega) (by omega)
          omega
  · by_cases q : p < 0
    · have := k3 q
      rw [show p - 2 * d = 0 by omega] at this
      omega
    · by_cases q2 : 2 * E < p
      · have := k4 q2
        rw [show p - 2 * d = 0 by omega] at this
        omega
      · have h2 : E * (2 * d) = 2 * (E * d) := by grind
        have h3 : p * (p - 2 * E) ≤ 0 := Int.mul_nonpos_of_nonneg_of_nonpos (by omega) (by omega)
        have h4 : E * (2 * d) = E * p := by rw [h]
        exact nt ⟨inT_of e0 (by omega) (by omega) (by omega), by omega⟩
  · obtain ⟨m, r⟩ := h
    by_cases q : p < 0
    · have pp := Int.mul_pos_of_neg_of_neg q q
      have dp : 0 < d := by
        by_cases v : 0 < d
        · exact v
        · have := Int.mul_nonpos_of_nonneg_of_nonpos (show 0 ≤ E by omega) (show d ≤ 0 by omega)
          omega
      have a0 := (neg_of_mul (k3 q)).2.1 (by omega)
      have := k1 a0 m q
      omega
    · by_cases q2 : 2 * E < p
      · have h3 : 0 < p * (p - 2 * E) := Int.mul_pos (by omega) (by omega)
        have h5 : 0 < E * (2 * d - p) := by
          have : E * (2 * d - p) = 2 * (E * d) - E * p := by grind
          omega
        have h6 : 0 < 2 * d - p := by
          have : 0 < (2 * d - p) * E := by rw [Int.mul_comm]; exact h5
          exact (pos_of_mul this).1 e0
        have a0 := (pos_of_mul (k4 q2)).2.1 (by omega)
        have := k2 a0 m q2
        omega
      · exact nt ⟨inT_R0 e0 (by omega) (by omega) r, by omega⟩
