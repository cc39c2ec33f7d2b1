/-! LAYER 3CQ: long numbers with bounds; signs -/
def N64 (v : Int64) (n b : Int) : Prop := v.toInt = n ∧ -b ≤ n ∧ n ≤ b
theorem mulB {n m b c : Int} (h1 : -b ≤ n) (h2 : n ≤ b) (h3 : -c ≤ m) (h4 : m ≤ c) : -(b * c) ≤ n * m ∧ n * m ≤ b * c := by
  have k1 := Int.mul_nonneg (show 0 ≤ b - n by omega) (show 0 ≤ c + m by omega)
  have k2 := Int.mul_nonneg (show 0 ≤ b + n by omega) (show 0 ≤ c - m by omega)
  have k3 := Int.mul_nonneg (show 0 ≤ b - n by omega) (show 0 ≤ c - m by omega)
  have k4 := Int.mul_nonneg (show 0 ≤ b + n by omega) (show 0 ≤ c + m by omega)
  have e1 : (b - n) * (c + m) + (b + n) * (c - m) = 2 * (b * c) - 2 * (n * m) := by grind
  have e2 : (b - n) * (c - m) + (b + n) * (c + m) = 2 * (b * c) + 2 * (n * m) := by grind
  omega
theorem N64_add {v w : Int64} {n m b c : Int} (h : N64 v n b) (k : N64 w m c) (l : b + c < 2 ^ 63) : N64 (v + w) (n + m) (b + c) := by
  obtain ⟨h1, h2, h3⟩ := h
  obtain ⟨k1, k2, k3⟩ := k
  refine ⟨?_, by omega, by omega⟩
  rw [i64_add (by rw [h1, k1]; omega) (by rw [h1, k1]; omega), h1, k1]
theorem N64_sub {v w : Int64} {n m b c : Int} (h : N64 v n b) (k : N64 w m c) (l : b + c < 2 ^ 63) : N64 (v - w) (n - m) (b + c) := by
  obtain ⟨h1, h2, h3⟩ := h
  obtain ⟨k1, k2, k3⟩ := k
  refine ⟨?_, by omega, by omega⟩
  rw [i64_sub (by rw [h1, k1]; omega) (by rw [h1, k1]; omega), h1, k1]
theorem N64_mul {v w : Int64} {n m b c : Int} (h : N64 v n b) (k : N64 w m c) (l : b * c < 2 ^ 63) : N64 (v * w) (n * m) (b * c) := by
  obtain ⟨h1, h2, h3⟩ := h
  obtain ⟨k1, k2, k3⟩ := k
  obtain ⟨m1, m2⟩ := mulB h2 h3 k2 k3
  refine ⟨?_, m1, m2⟩
  rw [i64_mul (by rw [h1, k1]; omega) (by rw [h1, k1]; omega), h1, k1]
theorem N64_up {v : Int64} {n b c : Int} (h : N64 v n b) (l : b ≤ c) : N64 v n c := ⟨h.1, by have := h.2.1; omega, by have := h.2.2; omega⟩
theorem N64_e {v : Int64} {n m b : Int} (h : N64 v n b) (e : n = m) : N64 v m b := by rw [← e]; exact h
theorem N64_z {v : Int64} {n b : Int} (h : N64 v n b) : v = 0 ↔ n = 0 := by
  rw [← Int64.toInt_inj, h.1]
  exact Iff.rfl
theorem N64_le {v w : Int64} {n m b c : Int} (h : N64 v n b) (k : N64 w m c) : v ≤ w ↔ n ≤ m := by rw [Int64.le_iff_toInt_le, h.1, k.1]
theorem N64_lt {v w : Int64} {n m b c : Int} (h : N64 v n b) (k : N64 w m c) : v < w ↔ n < m := by rw [Int64.lt_iff_toInt_lt, h.1, k.1]
theorem N64_0 : N64 0 0 0 := ⟨rfl, by decide, by decide⟩
theorem N64_1 : N64 1 1 1 := ⟨rfl, by decide, by decide⟩
theorem N64_2 : N64 2 2 2 := ⟨rfl, by decide, by decide⟩
theorem N64_4 : N64 4 4 4 := ⟨rfl, by decide, by decide⟩
theorem N64_abs {v : Int64} {n b : Int} (h : N64 v n b) (l : b < 2 ^ 63) : ∃ w, f_JM_abs v = some w ∧ N64 w (if 0 ≤ n then n else -n) b ∧ (0 ≤ n → w = v) := by
  rw [f_JM_abs_eq]
  obtain ⟨h1, h2, h3⟩ := h
  have iff : (0 : Int64) ≤ v ↔ 0 ≤ n := by
    rw [Int64.le_iff_toInt_le, h1]
    exact Iff.rfl
  by_cases q : 0 ≤ n
  · rw [if_pos (iff.mpr q), if_pos q]
    exact ⟨_, rfl, ⟨h1, h2, h3⟩, fun _ => rfl⟩
  · rw [if_neg (fun w => q (iff.mp w)), if_neg q]
    exact ⟨_, rfl, ⟨by rw [i64_neg (by rw [h1]; omega), h1], by omega, by omega⟩, fun w => absurd w q⟩
/-- signs -/
def sg (x : Int) : Int32 := if 0 < x then 1 else (if x < 0 then -1 else 0)
theorem sg_c (x : Int) : (sg x = 1 ∧ 0 < x) ∨ (sg x = -1 ∧ x < 0) ∨ (sg x = 0 ∧ x = 0) := by
  unfold sg
  split
  · exact Or.inl ⟨rfl, by omega⟩
  · split
    · exact Or.inr (Or.inl ⟨rfl, by omega⟩)
    · exact Or.inr (Or.inr ⟨rfl, by omega⟩)
theorem sg_p {x : Int} (h : 0 < x) : sg x = 1 := by unfold sg; rw [if_pos h]
theorem sg_n {x : Int} (h : x < 0) : sg x = -1 := by unfold sg; rw [if_neg (by omega), if_pos h]
theorem sg_0 {x : Int} (h : x = 0) : sg x = 0 := by unfold sg; rw [if_neg (by omega), if_neg (by omega)]
theorem sg_mul (x y : Int) : sg x * sg y = sg (x * y) := by
  rcases sg_c x with ⟨a, b⟩ | ⟨a, b⟩ | ⟨a, b⟩ <;> rcases sg_c y with ⟨c, d⟩ | ⟨c, d⟩ | ⟨c, d⟩ <;> rw [a, c]
  · rw [sg_p (Int.mul_pos b d)]; decide
  · rw [sg_n (Int.mul_neg_of_pos_of_neg b d)]; decide
  · rw [sg_0 (by rw [d, Int.mul_zero])]; decide
  · rw [sg_n (Int.mul_neg_of_neg_of_pos b d)]; decide
  · rw [sg_p (Int.mul_pos_of_neg_of_neg b d)]; decide
  · rw [sg_0 (by rw [d, Int.mul_zero])]; decide
  · rw [sg_0 (by rw [b, Int.zero_mul])]; decide
  · rw [sg_0 (by rw [b, Int.zero_mul])]; decide
  · rw [sg_0 (by rw [b, Int.zero_mul])]; decide
theorem sg_neg (x : Int) : -sg x = sg (-x) := by
  rcases sg_c x with ⟨a, b⟩ | ⟨a, b⟩ | ⟨a, b⟩ <;> rw [a]
  · rw [sg_n (by omega)]
  · rw [sg_p (by omega)]; decide
  · rw [sg_0 (by omega)]; decide
theorem sg_le (x : Int) : sg x ≤ 0 ↔ x ≤ 0 := by
  rcases sg_c x with ⟨a, b⟩ | ⟨a, b⟩ | ⟨a, b⟩ <;> rw [a]
  · exact ⟨fun w => absurd w (by decide), fun w => by omega⟩
  · exact ⟨fun _ => by omega, fun _ => by decide⟩
  · exact ⟨fun _ => by omega, fun _ => by decide⟩
theorem sg_ge (x : Int) : 0 ≤ sg x ↔ 0 ≤ x := by
  rcases sg_c x with ⟨a, b⟩ | ⟨a, b⟩ | ⟨a, b⟩ <;> rw [a]
  · exact ⟨fun _ => by omega, fun _ => by decide⟩
  · exact ⟨fun w => absurd w (by decide), fun w => by omega⟩
  · exact ⟨fun _ => by omega, fun _ => by decide⟩
theorem sg_lt (x : Int) : sg x < 0 ↔ x < 0 := by
  rw [← Int32.not_le, sg_ge]
  omega
theorem sg_gt (x : Int) : 0 < sg x ↔ 0 < x := by
  rw [← Int32.not_le, sg_le]
  omega
theorem sg_z (x : Int) : sg x = 0 ↔ x = 0 := by
  rcases sg_c x with ⟨a, b⟩ | ⟨a, b⟩ | ⟨a, b⟩ <;> rw [a]
  · exact ⟨fun w => absurd w (by decide), fun w => by omega⟩
  · exact ⟨fun w => absurd w (by decide), fun w => by omega⟩
  · exact ⟨fun _ => b, fun _ => rfl⟩
theorem sg_op (x y : Int) : sg x = -sg y ↔ (0 < x ∧ y < 0) ∨ (x < 0 ∧ 0 < y) ∨ (x = 0 ∧ y = 0) := by
  rw [sg_neg]
  rcases sg_c x with ⟨a, b⟩ | ⟨a, b⟩ | ⟨a, b⟩ <;> rcases sg_c (-y) with ⟨c, d⟩ | ⟨c, d⟩ | ⟨c, d⟩ <;> rw [a, c]
  · exact ⟨fun _ => by omega, fun _ => rfl⟩
  · exact ⟨fun w => absurd w (by decide), fun w => by omega⟩
  · exact ⟨fun w => absurd w (by decide), fun w => by omega⟩
  · exact ⟨fun w => absurd w (by decide), fun w => by omega⟩
  · exact ⟨fun _ => by omega, fun _ => rfl⟩
  · exact ⟨fun w => absurd w (by decide), fun w => by omega⟩
  · exact ⟨fun w => absurd w (by decide), fun w => by omega⟩
  · exact ⟨fun w => absurd w (by decide), fun w => by omega⟩
  · exact ⟨fun _ => by omega, fun _ => rfl⟩
theorem signOf_eq {v : Int64} {n b : Int} (h : N64 v n b) : f_HH_signOf v = some (sg n) := by
  unfold f_HH_signOf
  have z := N64_0
  by_cases q : n ≤ 0
  · rw [if_pos ((N64_le h z).mpr q)]
    by_cases q2 : 0 ≤ n
    · rw [if_pos ((N64_le z h).mpr q2), sg_0 (by omega)]
    · rw [if_neg (fun w => q2 ((N64_le z h).mp w)), sg_n (by omega)]
  · rw [if_neg (fun w => q ((N64_le h z).mp w)), sg_p (by omega)]
theorem divB {v w : Int64} {n m b c : Int} (h : N64 v n b) (k : N64 w m c) (n0 : 0 ≤ n) (m0 : 0 < m) (l : b < 2 ^ 63) (l2 : c ≤ 2 ^ 62) : N64 (v / w) (n / m) b ∧ N64 (hx_rL v w) (n % m) c := by
  obtain ⟨h1, h2, h3⟩ := h
  obtain ⟨k1, k2, k3⟩ := k
  have q1 : n / m ≤ n := Int.ediv_le_self m n0
  have q0 : 0 ≤ n / m := Int.ediv_nonneg n0 (by omega)
  have r0 := Int.emod_nonneg n (show m ≠ 0 by omega)
  have r1 := Int.emod_lt_of_pos n m0
  refine ⟨⟨?_, by omega, by omega⟩, ⟨?_, by omega, by omega⟩⟩
  · rw [Int64.toInt_div, h1, k1, Int.tdiv_eq_ediv_of_nonneg n0]
    exact i64_bm (by omega) (by omega)
  · rw [i64_rem (by rw [k1]; omega) (by rw [k1]; omega), h1, k1, Int.tmod_eq_emod_of_nonneg n0]
/-- the comparison of squares -/
theorem squares_eq {x1 x2 x3 : Int64} {N D v : Int} (h1 : N64 x1 N 200000000000000) (h2 : N64 x2 D 1000000000) (h3 : N64 x3 v 3000000000) (n0 : 0 ≤ N) (v0 : 0 < v) : f_In_squares x1 x2 x3 = some (sg (N * N - D * v * v)) := by
  obtain ⟨hq, hr⟩ := divB h1 h3 n0 v0 (by decide) (by decide)
  have nz : ¬ x3 = 0 := fun w => by
    have := (N64_z h3).mp w
    omega
  have q0 : 0 ≤ N / v := Int.ediv_nonneg n0 (by omega)
  have r0 := Int.emod_nonneg N (show v ≠ 0 by omega)
  have r1 := Int.emod_lt_of_pos N v0
  have eN : N = N / v * v + N % v := by
    have := Int.mul_ediv_add_emod N v
    rw [Int.mul_comm] at this
    exact this.symm
  have b3 := h3.2
  have b2 := h2.2
  unfold f_In_squares
  rw [gd_pos nz, lz_eq, gd_pos nz, lz_eq]
  generalize x1 / x3 = Q at hq
  generalize hx_rL x1 x3 = G at hr
  generalize N / v = q at hq q0 eN
  generalize N % v = r at hr r0 r1 eN
  have vv : 0 < v * v := Int.mul_pos v0 v0
  have e65 : N64 65536 65536 65536 := ⟨rfl, by decide, by decide⟩
  have main : N * N - D * v * v = r * r - ((D - q * q) * v - 2 * q * r) * v := by
    rw [eN]
    grind
  have qv0 : 0 ≤ q * v := Int.mul_nonneg q0 (by omega)
  by_cases c1 : 65536 < q
  · rw [if_pos ((N64_lt e65 hq).mpr c1), sg_p]
    have k1 : 65536 * 65536 < q * q := by
      have := Int.mul_le_mul (show (65537 : Int) ≤ q by omega) (show (65537 : Int) ≤ q by omega) (by decide) (by omega)
      omega
    have k2 : 0 < (q * q - D) * (v * v) := Int.mul_pos (by omega) vv
    have k3 : 0 ≤ r * (q * v) := Int.mul_nonneg r0 qv0
    have k4 : 0 ≤ r * r := Int.mul_nonneg r0 r0
    have k5 : N * N - D * v * v = (q * q - D) * (v * v) + 2 * (r * (q * v)) + r * r := by
      rw [eN]
      grind
    omega
  have hQ : N64 Q q 65536 := ⟨hq.1, by omega, by omega⟩
  have hqq := N64_mul hQ hQ (by decide)
  rw [if_neg (fun w => c1 ((N64_lt e65 hq).mp w))]
  by_cases c2 : ¬ q * q ≤ D
  · rw [if_neg (fun w => c2 ((N64_le hqq h2).mp w)), sg_p]
    have k2 : 0 < (q * q - D) * (v * v) := Int.mul_pos (by omega) vv
    have k3 : 0 ≤ r * (q * v) := Int.mul_nonneg r0 qv0
    have k4 : 0 ≤ r * r := Int.mul_nonneg r0 r0
    have k5 : N * N - D * v * v = (q * q - D) * (v * v) + 2 * (r * (q * v)) + r * r := by
      rw [eN]
      grind
    omega
  have c2' : q * q ≤ D := Decidable.not_not.mp c2
  have hq1 := N64_add hQ N64_1 (by decide)
  have hqq1 := N64_mul hq1 hq1 (by decide)
  rw [if_pos ((N64_le hqq h2).mpr c2')]
  by_cases c3 : ¬ D < (q + 1) * (q + 1)
  · rw [if_neg (fun w => c3 ((N64_lt h2 hqq1).mp w)), sg_n]
    have k2 : 0 ≤ (D - (q + 1) * (q + 1)) * (v * v) := Int.mul_nonneg (by omega) (by omega)
    have k3 : 0 < (v - r) * (2 * (q * v) + v + r) := Int.mul_pos (by omega) (by omega)
    have k5 : N * N - D * v * v = -((D - (q + 1) * (q + 1)) * (v * v)) - (v - r) * (2 * (q * v) + v + r) := by
      rw [eN]
      grind
    omega
  have c3' : D < (q + 1) * (q + 1) := Decidable.not_not.mp c3
  rw [if_pos ((N64_lt h2 hqq1).mpr c3')]
  have hG : N64 G r 3000000000 := hr
  have eqq : (q + 1) * (q + 1) = q * q + 2 * q + 1 := by grind
  have hD : N64 (x2 - Q * Q) (D - q * q) 131072 := ⟨(N64_sub h2 hqq (by decide)).1, by omega, by omega⟩
  have h5 := N64_sub (N64_mul hD h3 (by decide)) (N64_mul (N64_mul N64_2 hQ (by decide)) hG (by decide)) (by decide)
  rw [lz_eq, main]
  generalize (x2 - Q * Q) * x3 - 2 * Q * G = T at h5
  generalize (D - q * q) * v - 2 * q * r = t at h5
  by_cases c4 : ¬ 0 ≤ t
  · rw [if_neg (fun w => c4 ((N64_le N64_0 h5).mp w)), sg_p]
    have k1 : t * v < 0 := Int.mul_neg_of_neg_of_pos (by omega) v0
    have k4 : 0 ≤ r * r := Int.mul_nonneg r0 r0
    omega
  have c4' : 0 ≤ t := Decidable.not_not.mp c4
  rw [if_pos ((N64_le N64_0 h5).mpr c4')]
  by_cases c5 : t < r
  · have hT : N64 T t 3000000000 := ⟨h5.1, by omega, by omega⟩
    rw [if_pos ((N64_lt h5 hG).mpr c5)]
    have hs := N64_mul hG hG (by decide)
    have ht := N64_mul hT h3 (by decide)
    have ht0 : 0 ≤ t * v := Int.mul_nonneg c4' (by omega)
    have hr0 : 0 ≤ r * r := Int.mul_nonneg r0 r0
    have e : (G * G - T * x3).toInt = r * r - t * v := by
      have a1 := hs.1
      have a2 := ht.1
      have a3 := hs.2
      have a4 := ht.2
      rw [i64_sub (by rw [a1, a2]; omega) (by rw [a1, a2]; omega), a1, a2]
    have hd : N64 (G * G - T * x3) (r * r - t * v) (3000000000 * 3000000000) := ⟨e, by have := ht.2; omega, by have := hs.2; omega⟩
    rw [signOf_eq hd, bP_some]
  · rw [if_neg (fun w => c5 ((N64_lt h5 hG).mp w))]
    by_cases c6 : t = 0
    · rw [if_pos ((N64_z h5).mpr c6), sg_0]
      have : r = 0 := by omega
      rw [c6, this, Int.zero_mul, Int.zero_mul]
      rfl
    · rw [if_neg (fun w => c6 ((N64_z h5).mp w)), sg_n]
      have k1 : r * r ≤ t * r := Int.mul_le_mul_of_nonneg_right (by omega) r0
      have k2 : t * r < t * v := Int.mul_lt_mul_of_pos_left r1 (by omega)
      omega
