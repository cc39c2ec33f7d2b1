/-! LAYER 3n: code 27 -/
theorem op_27 {P : hH → hH → Prop} {hc hm : hH} (h : Rm P hc hm) : OK2 (f_Ma_settings 27 hc) (f_Mo_low 27 hm) (Tr P) := by
  unfold f_Ma_settings f_Ma_kept f_Mo_low
  simp +decide only [lz, bP_some, bS_some, bT_inl, bT_inr, bJT_inl, bJT_inr, bE_inl, bE_inr, bET_t, bET_inl, bET_inr, cO_t, cO_f, cS_t, cS_f, bE_bS, bE_bP, bE_gd, bET_bT, bET_bS, bET_bP, bET_gd, bJT_bT, bJT_bS, bJT_bP, bJT_gd, bJT_bJT, bP_bS, bP_bP, bP_gd, bT_bT, bT_bS, bT_bP, bT_gd, bS_bS, bS_bP, bS_gd, reduceIte]
  obtain ⟨y, z, e1, e2, w⟩ := L_passIf h (e := 0) (one := 89) (Or.inl ⟨rfl, rfl⟩)
  rw [e1, e2]
  rcases y with g | g
  · exact OK2_of rfl rfl (Tr_f w)
  · exact OK2_of rfl rfl (Tr_m w)
