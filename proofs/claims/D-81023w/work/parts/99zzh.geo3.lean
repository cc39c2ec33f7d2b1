/-! LAYER 3CP: crossings of one curve, counted on both sides -/
def stW (ya yb cr : Int) : Int := if ya ≤ 0 ∧ 0 < yb ∧ 0 < cr then 1 else (if yb ≤ 0 ∧ 0 < ya ∧ cr < 0 then -1 else 0)
def upW (ya yb z : Int) : Int := if ya ≤ 0 ∧ 0 < yb ∧ 0 < z then 1 else 0
def dnW (ya yb z : Int) : Int := if yb ≤ 0 ∧ 0 < ya ∧ 0 < z then -1 else 0
def zU (M R : Int) : Int := if M < 0 then 1 else (if R < 0 then 1 else (if R = 0 then 0 else -1))
def zD (M R : Int) : Int := if 0 < M then -1 else (if R < 0 then -1 else (if R = 0 then 0 else 1))
theorem stW_c (ya yb cr : Int) : (stW ya yb cr = 1 ∧ ya ≤ 0 ∧ 0 < yb ∧ 0 < cr) ∨ (stW ya yb cr = -1 ∧ yb ≤ 0 ∧ 0 < ya ∧ cr < 0) ∨ (stW ya yb cr = 0 ∧ ¬ (ya ≤ 0 ∧ 0 < yb ∧ 0 < cr) ∧ ¬ (yb ≤ 0 ∧ 0 < ya ∧ cr < 0)) := by
  unfold stW
  split
  · rename_i h; exact Or.inl ⟨rfl, h⟩
  · rename_i h
    split
    · rename_i h'; exact Or.inr (Or.inl ⟨rfl, h'⟩)
    · rename_i h'; exact Or.inr (Or.inr ⟨rfl, h, h'⟩)
theorem upW_c (ya yb z : Int) : (upW ya yb z = 1 ∧ ya ≤ 0 ∧ 0 < yb ∧ 0 < z) ∨ (upW ya yb z = 0 ∧ ¬ (ya ≤ 0 ∧ 0 < yb ∧ 0 < z)) := by
  unfold upW
  split
  · rename_i h; exact Or.inl ⟨rfl, h⟩
  · rename_i h; exact Or.inr ⟨rfl, h⟩
theorem dnW_c (ya yb z : Int) : (dnW ya yb z = -1 ∧ yb ≤ 0 ∧ 0 < ya ∧ 0 < z) ∨ (dnW ya yb z = 0 ∧ ¬ (yb ≤ 0 ∧ 0 < ya ∧ 0 < z)) := by
  unfold dnW
  split
  · rename_i h; exact Or.inl ⟨rfl, h⟩
  · rename_i h; exact Or.inr ⟨rfl, h⟩
theorem zU_c (M R : Int) : (zU M R = 1 ∧ (M < 0 ∨ R < 0)) ∨ (zU M R = 0 ∧ 0 ≤ M ∧ R = 0) ∨ (zU M R = -1 ∧ 0 ≤ M ∧ 0 < R) := by
  unfold zU
  split
  · exact Or.inl ⟨rfl, by omega⟩
  · split
    · exact Or.inl ⟨rfl, by omega⟩
    · split
      · exact Or.inr (Or.inl ⟨rfl, by omega, by omega⟩)
      · exact Or.inr (Or.inr ⟨rfl, by omega, by omega⟩)
theorem zD_c (M R : Int) : (zD M R = -1 ∧ (0 < M ∨ R < 0)) ∨ (zD M R = 0 ∧ M ≤ 0 ∧ R = 0) ∨ (zD M R = 1 ∧ M ≤ 0 ∧ 0 < R) := by
  unfold zD
  split
  · exact Or.inl ⟨rfl, by omega⟩
  · split
    · exact Or.inl ⟨rfl, by omega⟩
    · split
      · exact Or.inr (Or.inl ⟨rfl, by omega, by omega⟩)
      · exact Or.inr (Or.inr ⟨rfl, by omega, by omega⟩)
theorem GS_up {A B C E p d s : Int} (e0 : 0 < E) (rel : A * d + B * p + C * E = 0) (b0 : 0 ≤ B) (b1 : 0 ≤ A + B) (hs : s = 1 ∨ s = -1) : (inT E p d → p * p - 4 * E * d < 0 → upW C (A + 2 * B + C) (s * zU (A * p + 2 * B * E) (p * p - 4 * E * d)) = stW C (B + C) (s * d) + stW (B + C) (A + 2 * B + C) (s * (E - p + d))) ∧ (¬ (inT E p d ∧ p * p - 4 * E * d ≤ 0) → upW C (A + 2 * B + C) (s * zU (A * p + 2 * B * E) (p * p - 4 * E * d)) = stW C (A + 2 * B + C) (s * (2 * d - p))) := by
  have hz := zU_c (A * p + 2 * B * E) (p * p - 4 * E * d)
  refine ⟨fun t r => ?_, fun nt => ?_⟩
  · obtain ⟨d0, a1, _, _, _⟩ := gP4 e0 rel t r
    generalize A * p + 2 * B * E = M at hz ⊢
    generalize p * p - 4 * E * d = R at hz r ⊢
    have h1 := upW_c C (A + 2 * B + C) (s * zU M R)
    have h2 := stW_c C (B + C) (s * d)
    have h3 := stW_c (B + C) (A + 2 * B + C) (s * (E - p + d))
    rcases hs with rfl | rfl <;> omega
  · have f1 : C ≤ 0 → 0 < A + 2 * B + C → _ := fun c0 y0 => gP1 e0 rel c0 (Int.le_of_lt y0) (by omega) nt
    generalize A * p + 2 * B * E = M at hz f1 ⊢
    generalize p * p - 4 * E * d = R at hz f1 ⊢
    have h1 := upW_c C (A + 2 * B + C) (s * zU M R)
    have h2 := stW_c C (A + 2 * B + C) (s * (2 * d - p))
    by_cases q : C ≤ 0 ∧ 0 < A + 2 * B + C
    · have := f1 q.1 q.2
      rcases hs with rfl | rfl <;> omega
    · rcases hs with rfl | rfl <;> omega
theorem GS_dn {A B C E p d s : Int} (e0 : 0 < E) (rel : A * d + B * p + C * E = 0) (b0 : B ≤ 0) (b1 : A + B ≤ 0) (hs : s = 1 ∨ s = -1) : (inT E p d → p * p - 4 * E * d < 0 → dnW C (A + 2 * B + C) (s * zD (A * p + 2 * B * E) (p * p - 4 * E * d)) = stW C (B + C) (s * d) + stW (B + C) (A + 2 * B + C) (s * (E - p + d))) ∧ (¬ (inT E p d ∧ p * p - 4 * E * d ≤ 0) → dnW C (A + 2 * B + C) (s * zD (A * p + 2 * B * E) (p * p - 4 * E * d)) = stW C (A + 2 * B + C) (s * (2 * d - p))) := by
  have hz := zD_c (A * p + 2 * B * E) (p * p - 4 * E * d)
  refine ⟨fun t r => ?_, fun nt => ?_⟩
  · obtain ⟨d0, a1, _, _, _⟩ := gP4 e0 rel t r
    generalize A * p + 2 * B * E = M at hz ⊢
    generalize p * p - 4 * E * d = R at hz r ⊢
    have h1 := dnW_c C (A + 2 * B + C) (s * zD M R)
    have h2 := stW_c C (B + C) (s * d)
    have h3 := stW_c (B + C) (A + 2 * B + C) (s * (E - p + d))
    rcases hs with rfl | rfl <;> omega
  · have f1 : 0 < C → A + 2 * B + C ≤ 0 → _ := fun c0 y0 => gP1n e0 rel (Int.le_of_lt c0) y0 (by omega) nt
    generalize A * p + 2 * B * E = M at hz f1 ⊢
    generalize p * p - 4 * E * d = R at hz f1 ⊢
    have h1 := dnW_c C (A + 2 * B + C) (s * zD M R)
    have h2 := stW_c C (A + 2 * B + C) (s * (2 * d - p))
    by_cases q : 0 < C ∧ A + 2 * B + C ≤ 0
    · have := f1 q.1 q.2
      rcases hs with rfl | rfl <;> omega
    · rcases hs with rfl | rfl <;> omega
theorem GI_up {A B C E p d s : Int} (e0 : 0 < E) (rel : A * d + B * p + C * E = 0) (a0 : 0 < A) (b0 : B < 0) (b1 : 0 < A + B) (hs : s = 1 ∨ s = -1) : (inT E p d → p * p - 4 * E * d < 0 → dnW C (A * C - B * B) (s * zD (A * p + 2 * B * E) (p * p - 4 * E * d)) + upW (A * C - B * B) (A + 2 * B + C) (s * zU (A * p + 2 * B * E) (p * p - 4 * E * d)) = stW C (B + C) (s * d) + stW (B + C) (A + 2 * B + C) (s * (E - p + d))) ∧ (¬ (inT E p d ∧ p * p - 4 * E * d ≤ 0) → dnW C (A * C - B * B) (s * zD (A * p + 2 * B * E) (p * p - 4 * E * d)) + upW (A * C - B * B) (A + 2 * B + C) (s * zU (A * p + 2 * B * E) (p * p - 4 * E * d)) = stW C (A + 2 * B + C) (s * (2 * d - p))) := by
  have hz := zD_c (A * p + 2 * B * E) (p * p - 4 * E * d)
  have hu := zU_c (A * p + 2 * B * E) (p * p - 4 * E * d)
  have cc : C ≤ 0 → A * C - B * B < 0 := fun c0 => by
    have := Int.mul_nonpos_of_nonneg_of_nonpos (Int.le_of_lt a0) c0
    have := Int.mul_pos_of_neg_of_neg b0 b0
    omega
  have cy : A + 2 * B + C ≤ 0 → A * C - B * B < 0 := fun y0 => by
    have h1 := Int.mul_nonpos_of_nonneg_of_nonpos (Int.le_of_lt a0) y0
    have h2 := Int.mul_pos b1 b1
    have h3 : A * (A + 2 * B + C) = (A + B) * (A + B) + (A * C - B * B) := by grind
    omega
  refine ⟨fun t r => ?_, fun nt => ?_⟩
  · obtain ⟨d0, a1, f1, _, f3⟩ := gP4 e0 rel t r
    have s0 := f3 (by omega)
    generalize A * p + 2 * B * E = M at hz hu ⊢
    generalize p * p - 4 * E * d = R at hz hu r ⊢
    generalize A * C - B * B = S at cc cy s0 ⊢
    have h0 := dnW_c C S (s * zD M R)
    have h1 := upW_c S (A + 2 * B + C) (s * zU M R)
    have h2 := stW_c C (B + C) (s * d)
    have h3 := stW_c (B + C) (A + 2 * B + C) (s * (E - p + d))
    rcases hs with rfl | rfl <;> omega
  · have f1 : C ≤ 0 → 0 < A + 2 * B + C → _ := fun c0 y0 => gP1 e0 rel c0 (Int.le_of_lt y0) (by omega) nt
    have f2 : 0 < C → A + 2 * B + C ≤ 0 → _ := fun c0 y0 => gP1n e0 rel (Int.le_of_lt c0) y0 (by omega) nt
    have f3 : 0 < C → 0 < A + 2 * B + C → A * C - B * B ≤ 0 → _ := fun c0 y0 s0 => gP3 e0 rel a0 b0 b1 (Int.le_of_lt c0) (Int.le_of_lt y0) s0 nt
    generalize A * p + 2 * B * E = M at hz hu f1 f2 f3 ⊢
    generalize p * p - 4 * E * d = R at hz hu f1 f2 f3 ⊢
    generalize A * C - B * B = S at cc cy f3 ⊢
    have h0 := dnW_c C S (s * zD M R)
    have h1 := upW_c S (A + 2 * B + C) (s * zU M R)
    have h2 := stW_c C (A + 2 * B + C) (s * (2 * d - p))
    by_cases q1 : C ≤ 0
    · by_cases q2 : 0 < A + 2 * B + C
      · have := f1 q1 q2
        have := cc q1
        rcases hs with rfl | rfl <;> omega
      · have := cc q1
        rcases hs with rfl | rfl <;> omega
    · by_cases q2 : A + 2 * B + C ≤ 0
      · have := f2 (by omega) q2
        have := cy q2
        rcases hs with rfl | rfl <;> omega
      · by_cases q3 : S ≤ 0
        · have := f3 (by omega) (by omega) q3
          rcases hs with rfl | rfl <;> omega
        · rcases hs with rfl | rfl <;> omega
theorem GI_dn {A B C E p d s : Int} (e0 : 0 < E) (rel : A * d + B * p + C * E = 0) (a0 : A < 0) (b0 : 0 < B) (b1 : A + B < 0) (hs : s = 1 ∨ s = -1) : (inT E p d → p * p - 4 * E * d < 0 → upW C (-(A * C - B * B)) (s * zU (A * p + 2 * B * E) (p * p - 4 * E * d)) + dnW (-(A * C - B * B)) (A + 2 * B + C) (s * zD (A * p + 2 * B * E) (p * p - 4 * E * d)) = stW C (B + C) (s * d) + stW (B + C) (A + 2 * B + C) (s * (E - p + d))) ∧ (¬ (inT E p d ∧ p * p - 4 * E * d ≤ 0) → upW C (-(A * C - B * B)) (s * zU (A * p + 2 * B * E) (p * p - 4 * E * d)) + dnW (-(A * C - B * B)) (A + 2 * B + C) (s * zD (A * p + 2 * B * E) (p * p - 4 * E * d)) = stW C (A + 2 * B + C) (s * (2 * d - p))) := by
  have hz := zD_c (A * p + 2 * B * E) (p * p - 4 * E * d)
  have hu := zU_c (A * p + 2 * B * E) (p * p - 4 * E * d)
  have cc : 0 ≤ C → A * C - B * B < 0 := fun c0 => by
    have := Int.mul_nonpos_of_nonpos_of_nonneg (Int.le_of_lt a0) c0
    have := Int.mul_pos b0 b0
    omega
  have cy : 0 ≤ A + 2 * B + C → A * C - B * B < 0 := fun y0 => by
    have h1 := Int.mul_nonpos_of_nonpos_of_nonneg (Int.le_of_lt a0) y0
    have h2 := Int.mul_pos_of_neg_of_neg b1 b1
    have h3 : A * (A + 2 * B + C) = (A + B) * (A + B) + (A * C - B * B) := by grind
    omega
  refine ⟨fun t r => ?_, fun nt => ?_⟩
  · obtain ⟨d0, a1, f1, f2, f3⟩ := gP4 e0 rel t r
    have s0 := f3 (by omega)
    have f2' := f2 b0
    generalize A * p + 2 * B * E = M at hz hu ⊢
    generalize p * p - 4 * E * d = R at hz hu r ⊢
    generalize A * C - B * B = S at cc cy s0 ⊢
    have h0 := upW_c C (-S) (s * zU M R)
    have h1 := dnW_c (-S) (A + 2 * B + C) (s * zD M R)
    have h2 := stW_c C (B + C) (s * d)
    have h3 := stW_c (B + C) (A + 2 * B + C) (s * (E - p + d))
    rcases hs with rfl | rfl <;> omega
  · have f1 : C ≤ 0 → 0 < A + 2 * B + C → _ := fun c0 y0 => gP1 e0 rel c0 (Int.le_of_lt y0) (by omega) nt
    have f2 : 0 < C → A + 2 * B + C ≤ 0 → _ := fun c0 y0 => gP1n e0 rel (Int.le_of_lt c0) y0 (by omega) nt
    have f3 : C ≤ 0 → A + 2 * B + C ≤ 0 → A * C - B * B ≤ 0 → _ := fun c0 y0 s0 => gP3n e0 rel a0 b0 b1 c0 y0 s0 nt
    generalize A * p + 2 * B * E = M at hz hu f1 f2 f3 ⊢
    generalize p * p - 4 * E * d = R at hz hu f1 f2 f3 ⊢
    generalize A * C - B * B = S at cc cy f3 ⊢
    have h0 := upW_c C (-S) (s * zU M R)
    have h1 := dnW_c (-S) (A + 2 * B + C) (s * zD M R)
    have h2 := stW_c C (A + 2 * B + C) (s * (2 * d - p))
    by_cases q1 : C ≤ 0
    · by_cases q2 : 0 < A + 2 * B + C
      · have := f1 q1 q2
        have := cy (by omega)
        rcases hs with rfl | rfl <;> omega
      · by_cases q3 : S ≤ 0
        · have := f3 q1 (by omega) q3
          rcases hs with rfl | rfl <;> omega
        · rcases hs with rfl | rfl <;> omega
    · have := cc (by omega)
      by_cases q2 : A + 2 * B + C ≤ 0
      · have := f2 (by omega) q2
        rcases hs with rfl | rfl <;> omega
      · rcases hs with rfl | rfl <;> omega
