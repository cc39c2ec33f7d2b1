/-! LAYER 3r: codes 42, 43 -/
theorem L_callFn {P : hH → hH → Prop} {hc hm : hH} (h : Rm P hc hm) (f t : Int32) : OK2 (f_Ma_callFunction f t hc) (cO (
      if f < 0 then some true else
        cO (if (rdI hm 192 16) ≤ f then some true else (gd (vp_in f 64) <| if 0 ≤ (rdI hm 222 (Int32.toNatClampNeg f)) then some false else some true)) (some true) (some false))
      (bS (f_Mo_fail (6 : Int32) hm) fun _ h4 => some ((), h4))
      (if t ≤ 0 then some ((), hm) else (gd (vp_in f 64) <| bS (f_Mo_call (rdI hm 223 (Int32.toNatClampNeg f)) (rdI hm 222 (Int32.toNatClampNeg f)) t hm) fun _ h5 => some ((), h5)))) (Tr P) := by
  have f0 := h.r_funs
  unfold f_Ma_callFunction
  by_cases w : 0 ≤ f ∧ f < rdI hc 4 12
  · have vf : vp_in f 64 := vp_lt (n := 64) (m := 64) w.1 (by grind) rfl
    have lf : f.toNatClampNeg < 64 := (xI_lt (y := 64) w.1 (by decide)).mpr (by grind)
    rw [f_Ma_function_T f0.1 w, h.s_funs, if_neg (Int32.not_lt.mpr w.1), if_neg (Int32.not_le.mpr w.2), gd_pos vf]
    simp only [bT_inr, gd_pos vf, lz]
    rcases h.ft _ lf with ⟨a1, a2⟩ | ⟨a1, a2, a3, a4⟩
    · rw [if_pos a1, f_Ma_want_0, if_neg (Int32.not_le.mpr a2)]
      simp only [cO_t, f_Mo_fail_eq h.fail]
      exact OK2_of rfl rfl (Tr_f (h.fails (by decide)))
    · have n1 : ¬ rdI hc 49 f.toNatClampNeg = -1 := by
        intro e
        rcases a3.1.1 with z | z | z <;> rw [z] at e <;> exact absurd e (by decide)
      rw [if_neg n1, f_Ma_want_1, a1, a2, if_pos a3.2.2.1]
      simp only [cO_f, bT_inr]
      by_cases ht : t ≤ 0
      · rw [if_pos ht]
        unfold f_Ma_call
        rw [if_neg (by grind)]
        exact OK2_of rfl rfl (Tr_m h)
      · rw [if_neg ht]
        exact E_T (hc := hc) (hm := hm) (L_call h a3 (by grind))
  · rw [f_Ma_function_F f0.1 w, h.s_funs]
    by_cases z : f < 0
    · rw [if_pos z]
      simp only [cO_t, f_Mo_fail_eq h.fail]
      exact OK2_of rfl rfl (Tr_f (h.fails (by decide)))
    · rw [if_neg z, if_pos (show rdI hc 4 12 ≤ f by grind)]
      simp only [cO_t, f_Mo_fail_eq h.fail]
      exact OK2_of rfl rfl (Tr_f (h.fails (by decide)))
theorem op_43 {P : hH → hH → Prop} {hc hm : hH} (h : Rm P hc hm) : OK2 (f_Ma_low 43 hc) (f_Mo_stacks 43 hm) (Tr P) := by
  unfold f_Ma_low f_Mo_stacks f_Mo_callFunction
  simp +decide only [lz, bP_some, bS_some, bT_inl, bT_inr, bJT_inl, bJT_inr, bE_inl, bE_inr, bET_t, bET_inl, bET_inr, cO_t, cO_f, cS_t, cS_f, bE_bS, bE_bP, bE_gd, bET_bT, bET_bS, bET_bP, bET_gd, bJT_bT, bJT_bS, bJT_bP, bJT_gd, bJT_bJT, bP_bS, bP_bP, bP_gd, bT_bT, bT_bS, bT_bP, bT_gd, bS_bS, bS_bP, bS_gd, reduceIte]
  by_cases q : 1 ≤ rdI hc 22 15
  · simp +decide only [need_T q, has_T h q, f_Ma_pop_eq q h.top256, f_Mo_pop_eq h q, lz, bP_some, bS_some, bT_inl, bT_inr, bJT_inl, bJT_inr, bE_inl, bE_inr, bET_t, bET_inl, bET_inr, cO_t, cO_f, cS_t, cS_f, bE_bS, bE_bP, bE_gd, bET_bT, bET_bS, bET_bP, bET_gd, bJT_bT, bJT_bS, bJT_bP, bJT_gd, bJT_bJT, bP_bS, bP_bP, bP_gd, bT_bT, bT_bS, bT_bP, bT_gd, bS_bS, bS_bP, bS_gd, reduceIte]
    exact E_T (hc := hc) (hm := hm) (L_callFn (h.pop q) _ 1)
  · have q' := le_of_not q
    simp +decide only [need_F q', has_F h q', lz, bP_some, bS_some, bT_inl, bT_inr, bJT_inl, bJT_inr, bE_inl, bE_inr, bET_t, bET_inl, bET_inr, cO_t, cO_f, cS_t, cS_f, bE_bS, bE_bP, bE_gd, bET_bT, bET_bS, bET_bP, bET_gd, bJT_bT, bJT_bS, bJT_bP, bJT_gd, bJT_bJT, bP_bS, bP_bP, bP_gd, bT_bT, bT_bS, bT_bP, bT_gd, bS_bS, bS_bP, bS_gd, reduceIte]
    exact OK2_of rfl rfl (Tr_f (h.fails (by decide)))
theorem op_42 {P : hH → hH → Prop} {hc hm : hH} (h : Rm P hc hm) : OK2 (f_Ma_low 42 hc) (f_Mo_stacks 42 hm) (Tr P) := by
  unfold f_Ma_low f_Mo_stacks f_Mo_callFunction
  simp +decide only [lz, bP_some, bS_some, bT_inl, bT_inr, bJT_inl, bJT_inr, bE_inl, bE_inr, bET_t, bET_inl, bET_inr, cO_t, cO_f, cS_t, cS_f, bE_bS, bE_bP, bE_gd, bET_bT, bET_bS, bET_bP, bET_gd, bJT_bT, bJT_bS, bJT_bP, bJT_gd, bJT_bJT, bP_bS, bP_bP, bP_gd, bT_bT, bT_bS, bT_bP, bT_gd, bS_bS, bS_bP, bS_gd, reduceIte]
  by_cases q : 2 ≤ rdI hc 22 15
  · have q1 : 1 ≤ rdI hc 22 15 := by grind
    have k := h.pop q1
    have q2 : 1 ≤ rdI (popC hc) 22 15 := by rw [popC_top]; have := h.top256; grind
    simp +decide only [need_T q, has_T h q, f_Ma_pop_eq q1 h.top256, f_Mo_pop_eq h q1, f_Ma_pop_eq q2 k.top256, f_Mo_pop_eq k q2, lz, bP_some, bS_some, bT_inl, bT_inr, bJT_inl, bJT_inr, bE_inl, bE_inr, bET_t, bET_inl, bET_inr, cO_t, cO_f, cS_t, cS_f, bE_bS, bE_bP, bE_gd, bET_bT, bET_bS, bET_bP, bET_gd, bJT_bT, bJT_bS, bJT_bP, bJT_gd, bJT_bJT, bP_bS, bP_bP, bP_gd, bT_bT, bT_bS, bT_bP, bT_gd, bS_bS, bS_bP, bS_gd, reduceIte]
    exact E_T (hc := hc) (hm := hm) (L_callFn (k.pop q2) _ _)
  · have q' := le_of_not q
    simp +decide only [need_F q', has_F h q', lz, bP_some, bS_some, bT_inl, bT_inr, bJT_inl, bJT_inr, bE_inl, bE_inr, bET_t, bET_inl, bET_inr, cO_t, cO_f, cS_t, cS_f, bE_bS, bE_bP, bE_gd, bET_bT, bET_bS, bET_bP, bET_gd, bJT_bT, bJT_bS, bJT_bP, bJT_gd, bJT_bJT, bP_bS, bP_bP, bP_gd, bT_bT, bT_bS, bT_bP, bT_gd, bS_bS, bS_bP, bS_gd, reduceIte]
    exact OK2_of rfl rfl (Tr_f (h.fails (by decide)))
