/-! LAYER 3AR: the whole joining, on the component's side -/
theorem Mk_join_eq {d : Nat} {h : hH} {j : Int32} (hd : d < 5) (hj : 0 ≤ j ∧ j < 8) (hu : 16 ≤ rdI h 4 6) (n0 : 0 ≤ rdI h (70 + 17 * d) 3 ∧ rdI h (70 + 17 * d) 3 ≤ 100) (n1 : 0 ≤ rdI h (87 + 17 * d) 3 ∧ rdI h (87 + 17 * d) 3 ≤ 100) (c0 : 0 ≤ rdI h (70 + 17 * d) 5 ∧ rdI h (70 + 17 * d) 5 ≤ 20) (c1 : 0 ≤ rdI h (87 + 17 * d) 5 ∧ rdI h (87 + 17 * d) 5 ≤ 20) (ha : jfl d h j.toNatClampNeg &&& 2 = 0 → 0 ≤ rdI h (84 + 17 * d) j.toNatClampNeg ∧ 0 ≤ rdI h (85 + 17 * d) j.toNatClampNeg) : f_Mk_join (77 + 17 * d) j (70 + 17 * d) (87 + 17 * d) h = if 100 < rdI h (70 + 17 * d) 3 + rdI h (87 + 17 * d) 3 ∨ 20 < rdI h (70 + 17 * d) 5 + rdI h (87 + 17 * d) 5 then some (.inl (wnt h 12)) else if jfl d h j.toNatClampNeg &&& 2 = 0 ∧ (rdI h (70 + 17 * d) 3 ≤ rdI h (84 + 17 * d) j.toNatClampNeg ∨ rdI h (87 + 17 * d) 3 ≤ rdI h (85 + 17 * d) j.toNatClampNeg) then some (.inl (wnt (jX d h j.toNatClampNeg) 5)) else some (.inr ((), jnF d h j.toNatClampNeg)) := by
  obtain ⟨_, _, hz, _, _, _⟩ := od_rf (show d < 6 by omega)
  obtain ⟨⟨_, _, _, _, z10⟩, _, _, _, _, _, _⟩ := gl_rf hz
  have v8 : vp_in j 8 := vp_lt (n := 8) (m := 8) hj.1 hj.2 rfl
  rw [Mk_join_eq0, lz_eq]
  by_cases w1 : 100 < rdI h (70 + 17 * d) 3 + rdI h (87 + 17 * d) 3
  · rw [if_pos w1, if_pos (Or.inl w1), want_F]
    rfl
  rw [if_neg w1]
  by_cases w2 : 20 < rdI h (70 + 17 * d) 5 + rdI h (87 + 17 * d) 5
  · rw [if_pos w2, if_pos (Or.inr w2), want_F]
    rfl
  have w3 : ¬ (100 < rdI h (70 + 17 * d) 3 + rdI h (87 + 17 * d) 3 ∨ 20 < rdI h (70 + 17 * d) 5 + rdI h (87 + 17 * d) 5) := fun w => w.elim w1 w2
  rw [if_neg w2, if_neg w3, want_T, bT_inr, gd_pos v8, lz_eq, lz_eq, jn1_eq hd hj n1, bJT_inr, z10, show 77 + 17 * d + 5 = 82 + 17 * d by omega]
  have ef : rdI h (82 + 17 * d) j.toNatClampNeg = jfl d h j.toNatClampNeg := rfl
  have eX : jn1 d h j.toNatClampNeg (rdI h (87 + 17 * d) 3).toNatClampNeg = jX d h j.toNatClampNeg := rfl
  rw [ef, eX, jK2_eq hd hj hu n0 n1 ha]
  generalize hJ : j.toNatClampNeg = J
  by_cases q : jfl d h J &&& 2 = 0 ∧ (rdI h (70 + 17 * d) 3 ≤ rdI h (84 + 17 * d) J ∨ rdI h (87 + 17 * d) 3 ≤ rdI h (85 + 17 * d) J)
  · rw [if_pos q, if_pos q]
    rfl
  rw [if_neg q, if_neg q, bJT_inr]
  dsimp only
  have x3 : ∀ k, rdI (jX d h J) (70 + 17 * d) k = rdI h (70 + 17 * d) k := fun k => jX_o (by omega) (by omega)
  have x4 : ∀ k, rdI (jX d h J) (87 + 17 * d) k = rdI h (87 + 17 * d) k := fun k => jX_o (by omega) (by omega)
  rw [jn3_eq hd (by rw [x3]; exact n0.1) (by rw [x4]; exact n1.1) (by rw [x3]; exact n0.2) (by rw [x4]; exact n1.2) (by rw [x3, x4]; exact Int32.not_lt.mp w1), bJT_inr, x4]
  have eY : jn3 d (jX d h J) (jD d h J).1 (jD d h J).2 (rdI h (87 + 17 * d) 3).toNatClampNeg = jY d h J := rfl
  rw [eY]
  have y3 : ∀ k, rdI (jY d h J) (70 + 17 * d) k = rdI h (70 + 17 * d) k := fun k => jY_o (by omega)
  have y4 : ∀ k, rdI (jY d h J) (87 + 17 * d) k = rdI h (87 + 17 * d) k := fun k => jY_o (by omega)
  rw [jn4_eq hd (by rw [y3]; exact c0.1) (by rw [y4]; exact c1.1) (by rw [y3]; exact c0.2) (by rw [y4]; exact c1.2) (by rw [y3, y4]; exact Int32.not_lt.mp w2), bJT_inr, y4]
  have eW : jn4 d (jY d h J) (rdI h (87 + 17 * d) 5).toNatClampNeg = jW d h J := rfl
  rw [eW]
  have u3 : ∀ k, rdI (jW d h J) (70 + 17 * d) k = rdI h (70 + 17 * d) k := fun k => jW_o (by omega)
  have u4 : ∀ k, rdI (jW d h J) (87 + 17 * d) k = rdI h (87 + 17 * d) k := fun k => jW_o (by omega)
  rw [u3, u4, lz_eq, rdI_wrI, if_neg (by omega), rdI_o (by omega), u3, u4, lz_eq]
  have eU : wrI (wrI (jW d h J) (70 + 17 * d) 3 (rdI h (70 + 17 * d) 3 + rdI h (87 + 17 * d) 3)) (70 + 17 * d) 5 (rdI h (70 + 17 * d) 5 + rdI h (87 + 17 * d) 5) = jU d h J := rfl
  rw [eU, Ou_cp_eq hd]
  unfold jnF
  by_cases f : jfl d h J &&& 512 = 0
  · rw [if_pos f, if_pos f]
  · rw [if_neg f, if_neg f]
    rfl
