/-! LAYER 3AX: what the joined heaps hold -/
theorem jnF_o {d J o k : Nat} {h : hH} (h1 : o ≠ 75 + 17 * d) (h2 : o ≠ 76 + 17 * d) : rdI (jnF d h J) o k = rdI (jU d h J) o k := by
  unfold jnF
  split
  · rfl
  · unfold cpP
    rw [mt2_o h1 h2]
theorem jnF_3 {d J : Nat} {h : hH} : rdI (jnF d h J) (70 + 17 * d) 3 = rdI h (70 + 17 * d) 3 + rdI h (87 + 17 * d) 3 := by
  rw [jnF_o (by omega) (by omega)]
  unfold jU
  rw [rdI_wrI, if_neg (by omega), rdI_wrI, if_pos ⟨rfl, rfl⟩]
theorem jnF_5 {d J : Nat} {h : hH} : rdI (jnF d h J) (70 + 17 * d) 5 = rdI h (70 + 17 * d) 5 + rdI h (87 + 17 * d) 5 := by
  rw [jnF_o (by omega) (by omega)]
  unfold jU
  rw [rdI_wrI, if_pos ⟨rfl, rfl⟩]
theorem jY_b {d J o i : Nat} {h : hH} (hi : i < (rdI h (70 + 17 * d) 3).toNatClampNeg) (ho : o = 71 + 17 * d ∨ o = 72 + 17 * d ∨ o = 73 + 17 * d) : rdI (jY d h J) o i = rdI h o i := by
  unfold jY jn3
  rw [jX_o (by omega) (by omega), mt3_b (Or.inl hi)]
  exact jX_o (by omega) (by omega)
theorem jnF_b {d J o i : Nat} {h : hH} (hi : i < (rdI h (70 + 17 * d) 3).toNatClampNeg) (ho : o = 71 + 17 * d ∨ o = 72 + 17 * d ∨ o = 73 + 17 * d) : rdI (jnF d h J) o i = rdI h o i := by
  rw [jnF_o (by omega) (by omega)]
  unfold jU
  rw [rdI_o (by omega), rdI_o (by omega)]
  unfold jW jn4
  rw [rdI_mo (by omega)]
  exact jY_b hi ho
theorem jX_i {d J i : Nat} {h : hH} (hi : i < (rdI h (87 + 17 * d) 3).toNatClampNeg) : rdI (jX d h J) (88 + 17 * d) i = jx d h J i ∧ rdI (jX d h J) (89 + 17 * d) i = jy d h J i := by
  have := mt2_i (h := h) (o := 88 + 17 * d) (p := 89 + 17 * d) (b := 0) (u := jx d h J) (v := jy d h J) hi (by omega)
  rw [Nat.zero_add] at this
  exact this
theorem jnF_i {d J i : Nat} {h : hH} (hi : i < (rdI h (87 + 17 * d) 3).toNatClampNeg) : rdI (jnF d h J) (71 + 17 * d) ((rdI h (70 + 17 * d) 3).toNatClampNeg + i) = jx d h J i + (jD d h J).1 ∧ rdI (jnF d h J) (72 + 17 * d) ((rdI h (70 + 17 * d) 3).toNatClampNeg + i) = jy d h J i + (jD d h J).2 ∧ rdI (jnF d h J) (73 + 17 * d) ((rdI h (70 + 17 * d) 3).toNatClampNeg + i) = rdI h (90 + 17 * d) i &&& 1 := by
  rw [jnF_o (by omega) (by omega), jnF_o (by omega) (by omega), jnF_o (by omega) (by omega)]
  unfold jU
  rw [rdI_o (by omega), rdI_o (by omega), rdI_o (by omega), rdI_o (by omega), rdI_o (by omega), rdI_o (by omega)]
  unfold jW jn4
  rw [rdI_mo (by omega), rdI_mo (by omega), rdI_mo (by omega)]
  unfold jY jn3
  rw [jX_o (o := 70 + 17 * d) (by omega) (by omega)]
  obtain ⟨a1, a2, a3⟩ := mt3_i (h := jX d h J) (o := 71 + 17 * d) (p := 72 + 17 * d) (q := 73 + 17 * d) (b := (rdI h (70 + 17 * d) 3).toNatClampNeg) (u := fun i => rdI (jX d h J) (88 + 17 * d) i + (jD d h J).1) (v := fun i => rdI (jX d h J) (89 + 17 * d) i + (jD d h J).2) (w := fun i => rdI (jX d h J) (90 + 17 * d) i &&& 1) hi (by omega) (by omega) (by omega)
  rw [a1, a2, a3]
  obtain ⟨b1, b2⟩ := jX_i (J := J) hi
  rw [b1, b2, jX_o (by omega) (by omega)]
  exact ⟨rfl, rfl, rfl⟩
theorem jnF_e {d J i : Nat} {h : hH} : (i < (rdI h (70 + 17 * d) 5).toNatClampNeg → rdI (jnF d h J) (74 + 17 * d) i = rdI h (74 + 17 * d) i) ∧ (i < (rdI h (87 + 17 * d) 5).toNatClampNeg → rdI (jnF d h J) (74 + 17 * d) ((rdI h (70 + 17 * d) 5).toNatClampNeg + i) = rdI h (70 + 17 * d) 3 + rdI h (91 + 17 * d) i) := by
  refine ⟨fun hi => ?_, fun hi => ?_⟩
  · rw [jnF_o (by omega) (by omega)]
    unfold jU
    rw [rdI_o (by omega), rdI_o (by omega)]
    unfold jW jn4
    rw [jY_o (o := 70 + 17 * d) (k := 5) (by omega), rdI_mtI, if_neg (by omega)]
    exact jY_o (by omega)
  · rw [jnF_o (by omega) (by omega)]
    unfold jU
    rw [rdI_o (by omega), rdI_o (by omega)]
    unfold jW jn4
    rw [jY_o (o := 70 + 17 * d) (k := 5) (by omega), rdI_mi hi, jY_o (by omega), jY_o (by omega)]
/-- the model's -/
theorem mJF_o {hc h : hH} {d J o k : Nat} (h1 : o ≠ 242) : rdI (mJF hc h d J) o k = rdI (mJU hc h d J) o k := by
  unfold mJF
  split
  · rfl
  · unfold mj4
    rw [rdI_mo h1]
theorem mJF_6 {hc h : hH} {d J : Nat} : rdI (mJF hc h d J) 236 d = rdI h 236 d + rdI h 236 (d + 1) := by
  rw [mJF_o (by decide)]
  unfold mJU
  rw [rdI_o (by decide), rdI_wrI, if_pos ⟨rfl, rfl⟩]
theorem mJF_7 {hc h : hH} {d J : Nat} : rdI (mJF hc h d J) 237 d = rdI h 237 d + rdI h 237 (d + 1) := by
  rw [mJF_o (by decide)]
  unfold mJU
  rw [rdI_wrI, if_pos ⟨rfl, rfl⟩]
theorem mJX_b {h : hH} {d J o k : Nat} (hk : k < 102 * d + (rdI h 236 d).toNatClampNeg) : rdI (mJX h d J) o k = rdI h o k := by
  unfold mJX mj1
  exact mt3_b (Or.inl hk)
theorem mJX_i {h : hH} {d J i : Nat} (hi : i < (rdI h 236 (d + 1)).toNatClampNeg) : rdI (mJX h d J) 238 (102 * d + (rdI h 236 d).toNatClampNeg + i) = mjx h d (rdI h 207 (4 * J)) (rdI h 207 (4 * J + 2)) i ∧ rdI (mJX h d J) 239 (102 * d + (rdI h 236 d).toNatClampNeg + i) = mjx h d (rdI h 207 (4 * J + 1)) (rdI h 207 (4 * J + 3)) i ∧ rdI (mJX h d J) 240 (102 * d + (rdI h 236 d).toNatClampNeg + i) = rdI h 240 (102 * d + 102 + i) &&& 1 := by
  unfold mJX mj1
  exact mt3_i hi (by decide) (by decide) (by decide)
theorem mJF_p {hc h : hH} {d J o k : Nat} (ho : o = 238 ∨ o = 239 ∨ o = 240) : rdI (mJF hc h d J) o k = rdI (mJY hc h d J) o k := by
  rw [mJF_o (by omega)]
  unfold mJU
  rw [rdI_o (by omega), rdI_o (by omega)]
  unfold mJW mj3
  rw [rdI_mo (by omega)]
theorem mJF_b {hc h : hH} {d J o k : Nat} (ho : o = 238 ∨ o = 239 ∨ o = 240) (hk : k < 102 * d + (rdI h 236 d).toNatClampNeg) : rdI (mJF hc h d J) o k = rdI h o k := by
  rw [mJF_p ho]
  unfold mJY mj2
  rw [mt2_b (Or.inl hk)]
  exact mJX_b hk
theorem mJF_i {hc h : hH} {d J i : Nat} (hi : i < (rdI h 236 (d + 1)).toNatClampNeg) : rdI (mJF hc h d J) 238 (102 * d + (rdI h 236 d).toNatClampNeg + i) = mjx h d (rdI h 207 (4 * J)) (rdI h 207 (4 * J + 2)) i + (mJD hc h d J).1 ∧ rdI (mJF hc h d J) 239 (102 * d + (rdI h 236 d).toNatClampNeg + i) = mjx h d (rdI h 207 (4 * J + 1)) (rdI h 207 (4 * J + 3)) i + (mJD hc h d J).2 ∧ rdI (mJF hc h d J) 240 (102 * d + (rdI h 236 d).toNatClampNeg + i) = rdI h 240 (102 * d + 102 + i) &&& 1 := by
  obtain ⟨a1, a2, a3⟩ := mJX_i (J := J) hi
  rw [mJF_p (by omega), mJF_p (by omega), mJF_p (by omega)]
  unfold mJY mj2
  obtain ⟨b1, b2⟩ := mt2_i (h := mJX h d J) (o := 238) (p := 239) (b := 102 * d + (rdI h 236 d).toNatClampNeg) (u := fun i => rdI (mJX h d J) 238 (102 * d + (rdI h 236 d).toNatClampNeg + i) + (mJD hc h d J).1) (v := fun i => rdI (mJX h d J) 239 (102 * d + (rdI h 236 d).toNatClampNeg + i) + (mJD hc h d J).2) hi (by decide)
  rw [b1, b2, mt2_o (by decide) (by decide), a1, a2, a3]
  exact ⟨rfl, rfl, rfl⟩
theorem mJF_e {hc h : hH} {d J i : Nat} : (i < (rdI h 237 d).toNatClampNeg → rdI (mJF hc h d J) 241 (20 * d + i) = rdI h 241 (20 * d + i)) ∧ (i < (rdI h 237 (d + 1)).toNatClampNeg → rdI (mJF hc h d J) 241 (20 * d + (rdI h 237 d).toNatClampNeg + i) = rdI h 236 d + rdI h 241 (20 * d + 20 + i)) := by
  refine ⟨fun hi => ?_, fun hi => ?_⟩
  · rw [mJF_o (by decide)]
    unfold mJU
    rw [rdI_o (by decide), rdI_o (by decide)]
    unfold mJW mj3
    rw [rdI_mtI, if_neg (by omega)]
    exact mJY_o (by decide) (by decide) (by decide)
  · rw [mJF_o (by decide)]
    unfold mJU
    rw [rdI_o (by decide), rdI_o (by decide)]
    unfold mJW mj3
    rw [rdI_mi hi, mJY_o (by decide) (by decide) (by decide)]
