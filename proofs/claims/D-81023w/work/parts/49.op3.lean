/-! LAYER 3k: codes 6 to 11 -/
theorem PT_pop {h : hH} {z : Nat} {p : Int32} : PT (popC h) z p ↔ PT h z p := by
  unfold PT
  rw [popC_o (by omega)]
theorem isA_zz {n : Int32} (h : n = 0 ∨ n = 1) : isA 6 (zz n) := by
  rcases h with rfl | rfl
  · exact ⟨rfl, le_b rfl⟩
  · exact ⟨rfl, le_b rfl⟩
theorem E_S {P : hH → hH → Prop} {o p : Option (Unit × hH)} (h : OK2 o p (fun a b => Rm P a.2 b.2)) : OK2 (bS o fun _ h1 => some (Sum.inr ((), h1))) (bS p fun _ h1 => some ((), h1)) (Tr P) :=
  OK2_bS (OK2_mono h (fun _ _ q => OK2_of rfl rfl (Tr_m q)))
theorem Rm.turned {P : hH → hH → Prop} {hc hm : hH} (h : Rm P hc hm) (a b c d : Int32) : Rm P (wrI (wrI hc 22 34 a) 22 35 b) (wrI (wrI hm 192 105 c) 192 106 d) := (((h.c_turnX a).c_turnY b).m_dirX c).m_dirY d
theorem op_10 {P : hH → hH → Prop} {hc hm : hH} (h : Rm P hc hm) {c : Int32} (hcc : c = 10 ∨ c = 11) : OK2 (f_Ma_settings c hc) (f_Mo_low c hm) (Tr P) := by
  by_cases q : 2 ≤ rdI hc 22 15
  · have q1 : 1 ≤ rdI hc 22 15 := by grind
    have k := h.pop q1
    have t : rdI (popC hc) 22 15 = rdI hc 22 15 - 1 := popC_top
    have q2 : 1 ≤ rdI (popC hc) 22 15 := by rw [t]; have := h.top256; grind
    have k2 := k.pop q2
    obtain ⟨a, b, e1, _, e3⟩ := L_direct (Int16.toInt32 (Int32.toInt16 (tpC (popC hc)))) (Int16.toInt32 (Int32.toInt16 (tpC hc))) (popC (popC hc)) (popM (popM hm))
    rcases hcc with rfl | rfl <;> unfold f_Ma_settings f_Mo_low <;> simp +decide only [need_T q, has_T h q, f_Ma_pop_eq q1 h.top256, f_Mo_pop_eq h q1, f_Ma_pop_eq q2 k.top256, f_Mo_pop_eq k q2, e1, e3, lz, bP_some, bS_some, bT_inl, bT_inr, bJT_inl, bJT_inr, bE_inl, bE_inr, bET_t, bET_inl, bET_inr, cO_t, cO_f, cS_t, cS_f, bE_bS, bE_bP, bE_gd, bET_bT, bET_bS, bET_bP, bET_gd, bJT_bT, bJT_bS, bJT_bP, bJT_gd, bJT_bJT, bP_bS, bP_bP, bP_gd, bT_bT, bT_bS, bT_bP, bT_gd, bS_bS, bS_bP, bS_gd, reduceIte] <;> simp only [rdI_wrI, rdP_wrI, rdL_wrI, Nat.reduceEqDiff, false_and, and_false, true_and, and_true, eq_self, reduceIte, ite_self]
    · exact E_S (set_proj (k2.turned a b a b) a b)
    · exact E_S (set_free (k2.turned a b a b) a b)
  · have q' := le_of_not q
    rcases hcc with rfl | rfl <;> unfold f_Ma_settings f_Mo_low <;> simp +decide only [need_F q', has_F h q', lz, bP_some, bS_some, bT_inl, bT_inr, bJT_inl, bJT_inr, bE_inl, bE_inr, bET_t, bET_inl, bET_inr, cO_t, cO_f, cS_t, cS_f, bE_bS, bE_bP, bE_gd, bET_bT, bET_bS, bET_bP, bET_gd, bJT_bT, bJT_bS, bJT_bP, bJT_gd, bJT_bJT, bP_bS, bP_bP, bP_gd, bT_bT, bT_bS, bT_bP, bT_gd, bS_bS, bS_bP, bS_gd, reduceIte] <;> exact OK2_of rfl rfl (Tr_f (h.fails (by decide)))
/-- two points from the stack: of zone 2 the first one, of zone 1 the second one -/
theorem op_6 {P : hH → hH → Prop} {hc hm : hH} (h : Rm P hc hm) {c : Int32} (hcc : c = 6 ∨ c = 7 ∨ c = 8 ∨ c = 9) : OK2 (f_Ma_settings c hc) (f_Mo_low c hm) (Tr P) := by
  by_cases q : 2 ≤ rdI hc 22 15
  · have q1 : 1 ≤ rdI hc 22 15 := by grind
    have k := h.pop q1
    have t : rdI (popC hc) 22 15 = rdI hc 22 15 - 1 := popC_top
    have q2 : 1 ≤ rdI (popC hc) 22 15 := by rw [t]; have := h.top256; grind
    have k2 := k.pop q2
    have z1 := zz_isZ k2.r_zp1
    have z2 := zz_isZ k2.r_zp2
    have m1 : rdI (popM hm) 192 73 = rdI (popC (popC hc)) 55 1 := k.s_zp1.trans (popC_o (by decide)).symm
    have m2 : rdI hm 192 74 = rdI (popC (popC hc)) 55 2 := h.s_zp2.trans ((popC_o (by decide)).symm.trans (popC_o (by decide)).symm)
    have P2 : PT (popC hc) (zz (rdI (popC (popC hc)) 55 2)) (tpC hc) ↔ PT (popC (popC hc)) (zz (rdI (popC (popC hc)) 55 2)) (tpC hc) := PT_pop.symm
    by_cases p2 : PT (popC (popC hc)) (zz (rdI (popC (popC hc)) 55 2)) (tpC hc)
    · have p2' := P2.mpr p2
      by_cases p1 : PT (popC (popC hc)) (zz (rdI (popC (popC hc)) 55 1)) (tpC (popC hc))
      · obtain ⟨a, b, e1, e2, e3⟩ := L_direct (rdI (popC (popC hc)) (rf (zz (rdI (popC (popC hc)) 55 1)) 2) (tpC (popC hc)).toNatClampNeg - rdI (popC (popC hc)) (rf (zz (rdI (popC (popC hc)) 55 2)) 2) (tpC hc).toNatClampNeg) (rdI (popC (popC hc)) (rf (zz (rdI (popC (popC hc)) 55 1)) 3) (tpC (popC hc)).toNatClampNeg - rdI (popC (popC hc)) (rf (zz (rdI (popC (popC hc)) 55 2)) 3) (tpC hc).toNatClampNeg) (popC (popC hc)) (popM (popM hm))
        rcases hcc with rfl | rfl | rfl | rfl <;> unfold f_Ma_settings f_Mo_low <;> simp +decide only [need_T q, has_T h q, f_Ma_pop_eq q1 h.top256, f_Mo_pop_eq h q1, f_Ma_pop_eq q2 k.top256, f_Mo_pop_eq k q2, f_Ma_zone_1, f_Ma_zone_2, gd_pos (isA_zz k2.r_zp1), gd_pos (isA_zz k2.r_zp2), f_Ma_point_T (k2.many0 z1) p1, f_Ma_point_T (k2.many0 z2) p2, m1, m2, f_Mo_pointOf_T k z2 p2', f_Mo_pointOf_T k2 z1 p1, gd_pos (And.intro (k2.vpC z1 p1) (k2.vpC z2 p2)), gd_pos (And.intro (k2.vpM z1 p1) (k2.vpM z2 p2)), k2.fail, k2.zx z1 p1, k2.zy z1 p1, k2.zx z2 p2, k2.zy z2 p2, e1, e2, e3, lz, bP_some, bS_some, bT_inl, bT_inr, bJT_inl, bJT_inr, bE_inl, bE_inr, bET_t, bET_inl, bET_inr, cO_t, cO_f, cS_t, cS_f, bE_bS, bE_bP, bE_gd, bET_bT, bET_bS, bET_bP, bET_gd, bJT_bT, bJT_bS, bJT_bP, bJT_gd, bJT_bJT, bP_bS, bP_bP, bP_gd, bT_bT, bT_bS, bT_bP, bT_gd, bS_bS, bS_bP, bS_gd, reduceIte] <;> simp only [rdI_wrI, rdP_wrI, rdL_wrI, Nat.reduceEqDiff, false_and, and_false, true_and, and_true, eq_self, reduceIte, ite_self]
        · exact E_S (set_proj (k2.turned a b a b) a b)
        · exact E_S (set_proj (k2.turned (-b) a a b) (-b) a)
        · exact E_S (set_free (k2.turned a b a b) a b)
        · exact E_S (set_free (k2.turned (-b) a a b) (-b) a)
      · rcases hcc with rfl | rfl | rfl | rfl <;> unfold f_Ma_settings f_Mo_low <;> simp +decide only [need_T q, has_T h q, f_Ma_pop_eq q1 h.top256, f_Mo_pop_eq h q1, f_Ma_pop_eq q2 k.top256, f_Mo_pop_eq k q2, f_Ma_zone_1, f_Ma_zone_2, gd_pos (isA_zz k2.r_zp1), gd_pos (isA_zz k2.r_zp2), f_Ma_point_F (k2.many0 z1) p1, m1, m2, f_Mo_pointOf_T k z2 p2', f_Mo_pointOf_F k2 z1 p1, failM_F, lz, bP_some, bS_some, bT_inl, bT_inr, bJT_inl, bJT_inr, bE_inl, bE_inr, bET_t, bET_inl, bET_inr, cO_t, cO_f, cS_t, cS_f, bE_bS, bE_bP, bE_gd, bET_bT, bET_bS, bET_bP, bET_gd, bJT_bT, bJT_bS, bJT_bP, bJT_gd, bJT_bJT, bP_bS, bP_bP, bP_gd, bT_bT, bT_bS, bT_bP, bT_gd, bS_bS, bS_bP, bS_gd, reduceIte] <;> exact OK2_of rfl rfl (Tr_f (k2.fails (by decide)))
    · have p2' := fun w => p2 (P2.mp w)
      obtain ⟨v, ev⟩ := f_Mo_pop_X k (c := 5) q2
      obtain ⟨u, eu⟩ := f_Mo_pointOf_X (hm := failM 5 (popM (popM hm))) (n := rdI (failM 5 (popM hm)) 192 73) (p := v) (by rw [failM_F]; decide)
      have fin : Rf P (failC 5 (popC (popC hc))) (failM 5 (popM (popM hm))) := k2.fails (by decide)
      by_cases p1 : PT (popC (popC hc)) (zz (rdI (popC (popC hc)) 55 1)) (tpC (popC hc))
      · rcases hcc with rfl | rfl | rfl | rfl <;> unfold f_Ma_settings f_Mo_low <;> simp +decide only [need_T q, has_T h q, f_Ma_pop_eq q1 h.top256, f_Mo_pop_eq h q1, f_Ma_pop_eq q2 k.top256, f_Ma_zone_1, f_Ma_zone_2, gd_pos (isA_zz k2.r_zp1), gd_pos (isA_zz k2.r_zp2), f_Ma_point_T (k2.many0 z1) p1, f_Ma_point_F (k2.many0 z2) p2, m2, f_Mo_pointOf_F k z2 p2', ev, eu, failM_F, lz, bP_some, bS_some, bT_inl, bT_inr, bJT_inl, bJT_inr, bE_inl, bE_inr, bET_t, bET_inl, bET_inr, cO_t, cO_f, cS_t, cS_f, bE_bS, bE_bP, bE_gd, bET_bT, bET_bS, bET_bP, bET_gd, bJT_bT, bJT_bS, bJT_bP, bJT_gd, bJT_bJT, bP_bS, bP_bP, bP_gd, bT_bT, bT_bS, bT_bP, bT_gd, bS_bS, bS_bP, bS_gd, reduceIte] <;> exact OK2_of rfl rfl (Tr_f fin)
      · rcases hcc with rfl | rfl | rfl | rfl <;> unfold f_Ma_settings f_Mo_low <;> simp +decide only [need_T q, has_T h q, f_Ma_pop_eq q1 h.top256, f_Mo_pop_eq h q1, f_Ma_pop_eq q2 k.top256, f_Ma_zone_1, f_Ma_zone_2, gd_pos (isA_zz k2.r_zp1), gd_pos (isA_zz k2.r_zp2), f_Ma_point_F (k2.many0 z1) p1, m2, f_Mo_pointOf_F k z2 p2', ev, eu, failM_F, lz, bP_some, bS_some, bT_inl, bT_inr, bJT_inl, bJT_inr, bE_inl, bE_inr, bET_t, bET_inl, bET_inr, cO_t, cO_f, cS_t, cS_f, bE_bS, bE_bP, bE_gd, bET_bT, bET_bS, bET_bP, bET_gd, bJT_bT, bJT_bS, bJT_bP, bJT_gd, bJT_bJT, bP_bS, bP_bP, bP_gd, bT_bT, bT_bS, bT_bP, bT_gd, bS_bS, bS_bP, bS_gd, reduceIte] <;> exact OK2_of rfl rfl (Tr_f fin)
  · have q' := le_of_not q
    rcases hcc with rfl | rfl | rfl | rfl <;> unfold f_Ma_settings f_Mo_low <;> simp +decide only [need_F q', has_F h q', lz, bP_some, bS_some, bT_inl, bT_inr, bJT_inl, bJT_inr, bE_inl, bE_inr, bET_t, bET_inl, bET_inr, cO_t, cO_f, cS_t, cS_f, bE_bS, bE_bP, bE_gd, bET_bT, bET_bS, bET_bP, bET_gd, bJT_bT, bJT_bS, bJT_bP, bJT_gd, bJT_bJT, bP_bS, bP_bP, bP_gd, bT_bT, bT_bS, bT_bP, bT_gd, bS_bS, bS_bP, bS_gd, reduceIte] <;> exact OK2_of rfl rfl (Tr_f (h.fails (by decide)))
