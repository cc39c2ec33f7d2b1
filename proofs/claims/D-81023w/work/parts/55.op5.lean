/-! LAYER 3q: codes 32 to 47, the stack and calls -/
theorem op_32 {P : hH → hH → Prop} {hc hm : hH} (h : Rm P hc hm) : OK2 (f_Ma_low 32 hc) (f_Mo_stacks 32 hm) (Tr P) := by
  unfold f_Ma_low f_Mo_stacks
  simp +decide only [lz, bP_some, bS_some, bT_inl, bT_inr, bJT_inl, bJT_inr, bE_inl, bE_inr, bET_t, bET_inl, bET_inr, cO_t, cO_f, cS_t, cS_f, bE_bS, bE_bP, bE_gd, bET_bT, bET_bS, bET_bP, bET_gd, bJT_bT, bJT_bS, bJT_bP, bJT_gd, bJT_bJT, bP_bS, bP_bP, bP_gd, bT_bT, bT_bS, bT_bP, bT_gd, bS_bS, bS_bP, bS_gd, reduceIte]
  by_cases q : 1 ≤ rdI hc 22 15
  · have t := h.top256
    have v : vp_in (rdI hc 22 15 - 1) 256 := vp_lt (n := 256) (m := 256) (by grind) (by grind) rfl
    simp +decide only [need_T q, has_T h q, h.s_top, gd_pos v, h.a_stk _ ((xI_lt (x := rdI hc 22 15 - 1) (y := rdI hc 22 15) (by grind) (by grind)).mpr (by grind)), lz, bP_some, bS_some, bT_inl, bT_inr, bJT_inl, bJT_inr, bE_inl, bE_inr, bET_t, bET_inl, bET_inr, cO_t, cO_f, cS_t, cS_f, bE_bS, bE_bP, bE_gd, bET_bT, bET_bS, bET_bP, bET_gd, bJT_bT, bJT_bS, bJT_bP, bJT_gd, bJT_bJT, bP_bS, bP_bP, bP_gd, bT_bT, bT_bS, bT_bP, bT_gd, bS_bS, bS_bP, bS_gd, reduceIte]
    exact E_push h _
  · have q' := le_of_not q
    simp +decide only [need_F q', has_F h q', lz, bP_some, bS_some, bT_inl, bT_inr, bJT_inl, bJT_inr, bE_inl, bE_inr, bET_t, bET_inl, bET_inr, cO_t, cO_f, cS_t, cS_f, bE_bS, bE_bP, bE_gd, bET_bT, bET_bS, bET_bP, bET_gd, bJT_bT, bJT_bS, bJT_bP, bJT_gd, bJT_bJT, bP_bS, bP_bP, bP_gd, bT_bT, bT_bS, bT_bP, bT_gd, bS_bS, bS_bP, bS_gd, reduceIte]
    exact OK2_of rfl rfl (Tr_f (h.fails (by decide)))
theorem op_33 {P : hH → hH → Prop} {hc hm : hH} (h : Rm P hc hm) : OK2 (f_Ma_low 33 hc) (f_Mo_stacks 33 hm) (Tr P) := by
  unfold f_Ma_low f_Mo_stacks
  simp +decide only [lz, bP_some, bS_some, bT_inl, bT_inr, bJT_inl, bJT_inr, bE_inl, bE_inr, bET_t, bET_inl, bET_inr, cO_t, cO_f, cS_t, cS_f, bE_bS, bE_bP, bE_gd, bET_bT, bET_bS, bET_bP, bET_gd, bJT_bT, bJT_bS, bJT_bP, bJT_gd, bJT_bJT, bP_bS, bP_bP, bP_gd, bT_bT, bT_bS, bT_bP, bT_gd, bS_bS, bS_bP, bS_gd, reduceIte]
  by_cases q : 1 ≤ rdI hc 22 15
  · simp +decide only [need_T q, has_T h q, lz, bP_some, bS_some, bT_inl, bT_inr, bJT_inl, bJT_inr, bE_inl, bE_inr, bET_t, bET_inl, bET_inr, cO_t, cO_f, cS_t, cS_f, bE_bS, bE_bP, bE_gd, bET_bT, bET_bS, bET_bP, bET_gd, bJT_bT, bJT_bS, bJT_bP, bJT_gd, bJT_bJT, bP_bS, bP_bP, bP_gd, bT_bT, bT_bS, bT_bP, bT_gd, bS_bS, bS_bP, bS_gd, reduceIte]
    exact OK2_of rfl rfl (Tr_m (h.pop q))
  · have q' := le_of_not q
    simp +decide only [need_F q', has_F h q', lz, bP_some, bS_some, bT_inl, bT_inr, bJT_inl, bJT_inr, bE_inl, bE_inr, bET_t, bET_inl, bET_inr, cO_t, cO_f, cS_t, cS_f, bE_bS, bE_bP, bE_gd, bET_bT, bET_bS, bET_bP, bET_gd, bJT_bT, bJT_bS, bJT_bP, bJT_gd, bJT_bJT, bP_bS, bP_bP, bP_gd, bT_bT, bT_bS, bT_bP, bT_gd, bS_bS, bS_bP, bS_gd, reduceIte]
    exact OK2_of rfl rfl (Tr_f ((h.fails (by decide)).mw _ rfl (by decide)))
theorem op_34 {P : hH → hH → Prop} {hc hm : hH} (h : Rm P hc hm) : OK2 (f_Ma_low 34 hc) (f_Mo_stacks 34 hm) (Tr P) := by
  unfold f_Ma_low f_Mo_stacks
  simp +decide only [lz, bP_some, bS_some, bT_inl, bT_inr, bJT_inl, bJT_inr, bE_inl, bE_inr, bET_t, bET_inl, bET_inr, cO_t, cO_f, cS_t, cS_f, bE_bS, bE_bP, bE_gd, bET_bT, bET_bS, bET_bP, bET_gd, bJT_bT, bJT_bS, bJT_bP, bJT_gd, bJT_bJT, bP_bS, bP_bP, bP_gd, bT_bT, bT_bS, bT_bP, bT_gd, bS_bS, bS_bP, bS_gd, reduceIte]
  exact OK2_of rfl rfl (Tr_m (h.set_top ⟨by decide, h.r_top.1⟩))
theorem op_36 {P : hH → hH → Prop} {hc hm : hH} (h : Rm P hc hm) : OK2 (f_Ma_low 36 hc) (f_Mo_stacks 36 hm) (Tr P) := by
  unfold f_Ma_low f_Mo_stacks
  simp +decide only [lz, bP_some, bS_some, bT_inl, bT_inr, bJT_inl, bJT_inr, bE_inl, bE_inr, bET_t, bET_inl, bET_inr, cO_t, cO_f, cS_t, cS_f, bE_bS, bE_bP, bE_gd, bET_bT, bET_bS, bET_bP, bET_gd, bJT_bT, bJT_bS, bJT_bP, bJT_gd, bJT_bJT, bP_bS, bP_bP, bP_gd, bT_bT, bT_bS, bT_bP, bT_gd, bS_bS, bS_bP, bS_gd, reduceIte]
  rw [h.s_top]
  exact E_push h _
theorem op_44 {P : hH → hH → Prop} {hc hm : hH} (h : Rm P hc hm) : OK2 (f_Ma_low 44 hc) (f_Mo_stacks 44 hm) (Tr P) := by
  unfold f_Ma_low f_Mo_stacks
  simp +decide only [lz, bP_some, bS_some, bT_inl, bT_inr, bJT_inl, bJT_inr, bE_inl, bE_inr, bET_t, bET_inl, bET_inr, cO_t, cO_f, cS_t, cS_f, bE_bS, bE_bP, bE_gd, bET_bT, bET_bS, bET_bP, bET_gd, bJT_bT, bJT_bS, bJT_bP, bJT_gd, bJT_bJT, bP_bS, bP_bP, bP_gd, bT_bT, bT_bS, bT_bP, bT_gd, bS_bS, bS_bP, bS_gd, reduceIte]
  exact E_T (hc := hc) (hm := hm) (L_defFun h)
theorem wrI_id {h : hH} {o k : Nat} {v : Int32} (e : v = rdI h o k) : wrI h o k v = h := by
  subst e
  unfold wrI up2 rdI
  refine Prod.ext ?_ rfl
  funext a b
  dsimp only
  by_cases q : a = o ∧ b = k
  · rw [if_pos q, q.1, q.2]
  · rw [if_neg q]
theorem pushC_popC {h : hH} {v : Int32} (h2 : rdI h 22 15 ≤ rdI h 22 6) : pushC v (popC h) = wrI h 43 (rdI h 22 15 - 1).toNatClampNeg v := by
  unfold pushC
  rw [popC_top, popC_o (k := 6) (by decide)]
  have e : rdI h 22 15 - 1 + 1 = rdI h 22 15 := by grind
  rw [e, if_neg (Int32.not_lt.mpr h2)]
  unfold popC
  rw [wrI_comm (o := 22) (k := 15) (o' := 43) (by omega), wrI_wrI, wrI_id (o := 22) (k := 15) (by simp only [rdI_wrI, rdP_wrI, rdL_wrI, Nat.reduceEqDiff, false_and, and_false, true_and, and_true, eq_self, reduceIte, ite_self]), wrI_id (o := 22) (k := 6) (by simp only [rdI_wrI, rdP_wrI, rdL_wrI, Nat.reduceEqDiff, false_and, and_false, true_and, and_true, eq_self, reduceIte, ite_self])]
theorem op_35 {P : hH → hH → Prop} {hc hm : hH} (h : Rm P hc hm) : OK2 (f_Ma_low 35 hc) (f_Mo_stacks 35 hm) (Tr P) := by
  unfold f_Ma_low f_Mo_stacks
  simp +decide only [lz, bP_some, bS_some, bT_inl, bT_inr, bJT_inl, bJT_inr, bE_inl, bE_inr, bET_t, bET_inl, bET_inr, cO_t, cO_f, cS_t, cS_f, bE_bS, bE_bP, bE_gd, bET_bT, bET_bS, bET_bP, bET_gd, bJT_bT, bJT_bS, bJT_bP, bJT_gd, bJT_bJT, bP_bS, bP_bP, bP_gd, bT_bT, bT_bS, bT_bP, bT_gd, bS_bS, bS_bP, bS_gd, reduceIte]
  by_cases q : 2 ≤ rdI hc 22 15
  · have t := h.top256
    have q1 : 1 ≤ rdI hc 22 15 := by grind
    have k := h.pop q1
    have tt : rdI (popC hc) 22 15 = rdI hc 22 15 - 1 := popC_top
    have q2 : 1 ≤ rdI (popC hc) 22 15 := by rw [tt]; grind
    have k2 := k.pop q2
    have t2 : rdI (popC (popC hc)) 22 15 = rdI hc 22 15 - 1 - 1 := by rw [popC_top, popC_top]
    have s2 : rdI (popC (popC hc)) 4 14 = rdI hc 4 14 := by rw [popC_o (by decide), popC_o (by decide)]
    have rt := h.r_top
    have rs := h.r_stk
    have rh := h.r_high
    have v1 : vp_in (rdI hc 22 15 - 1) 256 := vp_lt (n := 256) (m := 256) (by grind) (by grind) rfl
    have v2 : vp_in (rdI hc 22 15 - 2) 256 := vp_lt (n := 256) (m := 256) (by grind) (by grind) rfl
    have x1 : rdI hm 219 (rdI hc 22 15 - 1).toNatClampNeg = tpC hc := h.a_stk _ ((xI_lt (by grind) (by grind)).mpr (by grind))
    have e2 : rdI hc 22 15 - 1 - 1 = rdI hc 22 15 - 2 := by grind
    have x2 : rdI hm 219 (rdI hc 22 15 - 2).toNatClampNeg = tpC (popC hc) := by
      unfold tpC
      rw [popC_top, popC_o (by omega), e2]
      exact h.a_stk _ ((xI_lt (by grind) (by grind)).mpr (by grind))
    have p1 : pushC (tpC hc) (popC (popC hc)) = popC (wrI hc 43 (rdI hc 22 15 - 2).toNatClampNeg (tpC hc)) := by
      rw [pushC_popC (by rw [tt, popC_o (by decide)]; grind), tt, e2]
      unfold popC
      rw [wrI_comm (o := 22) (k := 15) (o' := 43) (by omega)]
      simp only [rdI_wrI, rdP_wrI, rdL_wrI, Nat.reduceEqDiff, false_and, and_false, true_and, and_true, eq_self, reduceIte, ite_self]
    have p2 : pushC (tpC (popC hc)) (popC (wrI hc 43 (rdI hc 22 15 - 2).toNatClampNeg (tpC hc))) = wrI (wrI hc 43 (rdI hc 22 15 - 2).toNatClampNeg (tpC hc)) 43 (rdI hc 22 15 - 1).toNatClampNeg (tpC (popC hc)) := by
      rw [pushC_popC (by simp only [rdI_wrI, rdP_wrI, rdL_wrI, Nat.reduceEqDiff, false_and, and_false, true_and, and_true, eq_self, reduceIte, ite_self]; exact rh.1)]
      simp only [rdI_wrI, rdP_wrI, rdL_wrI, Nat.reduceEqDiff, false_and, and_false, true_and, and_true, eq_self, reduceIte, ite_self]
    have k3 : Rm P (popC (wrI hc 43 (rdI hc 22 15 - 2).toNatClampNeg (tpC hc))) (popM (wrI hm 219 (rdI hc 22 15 - 2).toNatClampNeg (tpC hc))) := (h.set_stk _ _).pop (by simp only [rdI_wrI, rdP_wrI, rdL_wrI, Nat.reduceEqDiff, false_and, and_false, true_and, and_true, eq_self, reduceIte, ite_self]; exact q1)
    have s3 : rdI (popC (wrI hc 43 (rdI hc 22 15 - 2).toNatClampNeg (tpC hc))) 22 15 = rdI hc 22 15 - 1 := by rw [popC_top]; simp only [rdI_wrI, rdP_wrI, rdL_wrI, Nat.reduceEqDiff, false_and, and_false, true_and, and_true, eq_self, reduceIte, ite_self]
    have s4 : rdI (popC (wrI hc 43 (rdI hc 22 15 - 2).toNatClampNeg (tpC hc))) 4 14 = rdI hc 4 14 := by rw [popC_o (by decide)]; simp only [rdI_wrI, rdP_wrI, rdL_wrI, Nat.reduceEqDiff, false_and, and_false, true_and, and_true, eq_self, reduceIte, ite_self]
    have m1 : ∀ x : Int32, x.toInt64.toInt32 = x := fun x => Int32.toInt32_toInt64 x
    simp +decide only [need_T q, has_T h q, f_Ma_pop_eq q1 h.top256, f_Ma_pop_eq q2 k.top256, f_Ma_push_T k2.r_top.1 (show rdI (popC (popC hc)) 22 15 < rdI (popC (popC hc)) 4 14 by rw [t2, s2]; grind) k2.r_stk.2, m1, p1, f_Ma_push_T k3.r_top.1 (show rdI (popC (wrI hc 43 (rdI hc 22 15 - 2).toNatClampNeg (tpC hc))) 22 15 < rdI (popC (wrI hc 43 (rdI hc 22 15 - 2).toNatClampNeg (tpC hc))) 4 14 by rw [s3, s4]; grind) k3.r_stk.2, p2, h.s_top, gd_pos v1, gd_pos (And.intro v2 v1), lz, bP_some, bS_some, bT_inl, bT_inr, bJT_inl, bJT_inr, bE_inl, bE_inr, bET_t, bET_inl, bET_inr, cO_t, cO_f, cS_t, cS_f, bE_bS, bE_bP, bE_gd, bET_bT, bET_bS, bET_bP, bET_gd, bJT_bT, bJT_bS, bJT_bP, bJT_gd, bJT_bJT, bP_bS, bP_bP, bP_gd, bT_bT, bT_bS, bT_bP, bT_gd, bS_bS, bS_bP, bS_gd, reduceIte]
    simp only [rdI_wrI, rdP_wrI, rdL_wrI, Nat.reduceEqDiff, false_and, and_false, true_and, and_true, eq_self, reduceIte, ite_self]
    simp only [h.s_top, gd_pos v2, x1, x2]
    refine OK2_of rfl rfl (Tr_m ?_)
    have k4 := (h.set_stk (rdI hc 22 15 - 2).toNatClampNeg (tpC hc)).set_stk (rdI hc 22 15 - 1).toNatClampNeg (tpC (popC hc))
    rw [wrI_comm (h := hm) (o := 219) (o' := 219) (k := (rdI hc 22 15 - 2).toNatClampNeg) (k' := (rdI hc 22 15 - 1).toNatClampNeg) (fun w => by have := xI_inj (by grind) (by grind) w.2; grind)] at k4
    exact k4
  · have q' := le_of_not q
    simp +decide only [need_F q', has_F h q', lz, bP_some, bS_some, bT_inl, bT_inr, bJT_inl, bJT_inr, bE_inl, bE_inr, bET_t, bET_inl, bET_inr, cO_t, cO_f, cS_t, cS_f, bE_bS, bE_bP, bE_gd, bET_bT, bET_bS, bET_bP, bET_gd, bJT_bT, bJT_bS, bJT_bP, bJT_gd, bJT_bJT, bP_bS, bP_bP, bP_gd, bT_bT, bT_bS, bT_bP, bT_gd, bS_bS, bS_bP, bS_gd, reduceIte]
    exact OK2_of rfl rfl (Tr_f (h.fails (by decide)))
