/-! LAYER 3v: codes 58, 59, 62, 63 -/
theorem zz26 {n : Int32} : (zz n = 26) ↔ (n = 0) := by
  unfold zz
  by_cases q : n = 0
  · rw [if_pos q]; exact ⟨fun _ => q, fun _ => rfl⟩
  · rw [if_neg q]; exact ⟨fun w => absurd w (by decide), fun w => absurd w q⟩
theorem Rm.rps {P : hH → hH → Prop} {hc hm : hH} (h : Rm P hc hm) (p : Int32) : Rm P (wrI (wrI (wrI hc 54 1 (rdI hc 54 0)) 54 2 p) 54 0 (rdI hc 54 0)) (wrI (wrI (wrI hm 192 70 (rdI hm 192 69)) 192 71 p) 192 69 (rdI hm 192 69)) := by
  rw [h.s_rp0]
  exact ((h.set_rp1 _).set_rp2 _).set_rp0 _
theorem Rm.rpt {P : hH → hH → Prop} {hc hm : hH} (h : Rm P hc hm) (p : Int32) : Rm P (wrI (wrI (wrI hc 54 1 (rdI hc 54 0)) 54 2 p) 54 0 p) (wrI (wrI (wrI hm 192 70 (rdI hm 192 69)) 192 71 p) 192 69 p) := by
  rw [h.s_rp0]
  exact ((h.set_rp1 _).set_rp2 _).set_rp0 _
theorem r54 {g : hH} {a b : Int32} : rdI (wrI (wrI g 54 1 a) 54 2 b) 54 0 = rdI g 54 0 := by
  rw [rdI_wrI, if_neg (by decide), rdI_wrI, if_neg (by decide)]
theorem r69 {g : hH} {a b : Int32} : rdI (wrI (wrI g 192 70 a) 192 71 b) 192 69 = rdI g 192 69 := by
  rw [rdI_wrI, if_neg (by decide), rdI_wrI, if_neg (by decide)]
theorem op_58 {P : hH → hH → Prop} {hc hm : hH} (h : Rm P hc hm) {c : Int32} (hcc : c = 58 ∨ c = 59) : OK2 (f_Ma_low c hc) (f_Mo_middle c hm) (Tr P) := by
  by_cases q : 2 ≤ rdI hc 22 15
  · obtain ⟨q1, k, q2, k2⟩ := h.two q
    have z0 := zz_isZ k2.r_zp0
    have z1 := zz_isZ k2.r_zp1
    have c1 : rdI (popC hc) 55 1 = rdI (popC (popC hc)) 55 1 := g1_o (by decide)
    by_cases p1 : PT (popC (popC hc)) (zz (rdI (popC (popC hc)) 55 1)) (tpC (popC hc))
    · by_cases p0 : PT (popC (popC hc)) (zz (rdI (popC (popC hc)) 55 0)) (rdI (popC (popC hc)) 54 0)
      · by_cases b : rdI (popC (popC hc)) 55 1 = 0
        · have K : ∀ X Y, Rm P (putC (zz (rdI (popC (popC hc)) 55 1)) (tpC (popC hc)) X Y (popC (popC hc))) (putM (102 * rdI (popC (popC hc)) 55 1 + tpC (popC hc)) X Y (popM (popM hm))) := fun X Y => k2.put z1 p1 X Y
          rcases hcc with rfl | rfl <;> unfold f_Ma_low f_Ma_moving f_Mo_middle f_Ma_indirect f_Mo_toDistance f_Ma_give <;> simp +decide only [need_T q, has_T h q, f_Ma_pop_eq q1 h.top256, f_Mo_pop_eq h q1, f_Ma_pop_eq q2 k.top256, f_Mo_pop_eq k q2, f_Ma_zone_0, f_Ma_zone_1, c1, gd_pos (isA_zz k2.r_zp0), gd_pos (isA_zz k2.r_zp1), gd_pos (And.intro (isA_zz k2.r_zp1) (isA_zz k2.r_zp0)), f_Ma_point_T (k2.many0 z1) p1, f_Ma_point_T (k2.many0 z0) p0, k2.s_zp0, k2.s_zp1, k2.s_rp0, f_Mo_pointOf_T k2 z1 p1, f_Mo_pointOf_T k2 z0 p0, k2.fail, zz26, if_pos b, over_one, mover_one, gd_pos (k2.vpC z0 p0), gd_pos (k2.vpM z0 p0), k2.zox z0 p0, k2.zoy z0 p0, k2.s_fx, k2.s_fy, f_Zo_place_eq (k2.vpC z1 p1), f_Mo_put_eq (k2.vpM z1 p1), putC_o z1 (o := 55) (by decide), (fun X Y => (K X Y).distC z1 ((PT_put z1 z1).mpr p1) z0 ((PT_put z1 z0).mpr p0)), (fun X Y => (K X Y).distM z1 ((PT_put z1 z1).mpr p1) z0 ((PT_put z1 z0).mpr p0)), f_Ma_move_eq z1 (k2.vpC z1 p1), f_Mo_move_eq (k2.vpM z1 p1), r54, r69, lz, bP_some, bS_some, bT_inl, bT_inr, bJT_inl, bJT_inr, bE_inl, bE_inr, bET_t, bET_inl, bET_inr, cO_t, cO_f, cS_t, cS_f, bE_bS, bE_bP, bE_gd, bET_bT, bET_bS, bET_bP, bET_gd, bJT_bT, bJT_bS, bJT_bP, bJT_gd, bJT_bJT, bP_bS, bP_bP, bP_gd, bT_bT, bT_bS, bT_bP, bT_gd, bS_bS, bS_bP, bS_gd, reduceIte]
          · exact OK2_of rfl rfl (Tr_m (((K _ _).move z1 ((PT_put z1 z1).mpr p1) _).rps _))
          · exact OK2_of rfl rfl (Tr_m (((K _ _).move z1 ((PT_put z1 z1).mpr p1) _).rpt _))
        · rcases hcc with rfl | rfl <;> unfold f_Ma_low f_Ma_moving f_Mo_middle f_Ma_indirect f_Mo_toDistance f_Ma_give <;> simp +decide only [need_T q, has_T h q, f_Ma_pop_eq q1 h.top256, f_Mo_pop_eq h q1, f_Ma_pop_eq q2 k.top256, f_Mo_pop_eq k q2, f_Ma_zone_0, f_Ma_zone_1, c1, gd_pos (isA_zz k2.r_zp0), gd_pos (isA_zz k2.r_zp1), gd_pos (And.intro (isA_zz k2.r_zp1) (isA_zz k2.r_zp0)), f_Ma_point_T (k2.many0 z1) p1, f_Ma_point_T (k2.many0 z0) p0, k2.s_zp0, k2.s_zp1, k2.s_rp0, f_Mo_pointOf_T k2 z1 p1, f_Mo_pointOf_T k2 z0 p0, k2.fail, zz26, if_neg b, k2.distC z1 p1 z0 p0, k2.distM z1 p1 z0 p0, f_Ma_move_eq z1 (k2.vpC z1 p1), f_Mo_move_eq (k2.vpM z1 p1), r54, r69, lz, bP_some, bS_some, bT_inl, bT_inr, bJT_inl, bJT_inr, bE_inl, bE_inr, bET_t, bET_inl, bET_inr, cO_t, cO_f, cS_t, cS_f, bE_bS, bE_bP, bE_gd, bET_bT, bET_bS, bET_bP, bET_gd, bJT_bT, bJT_bS, bJT_bP, bJT_gd, bJT_bJT, bP_bS, bP_bP, bP_gd, bT_bT, bT_bS, bT_bP, bT_gd, bS_bS, bS_bP, bS_gd, reduceIte]
          · exact OK2_of rfl rfl (Tr_m ((k2.move z1 p1 _).rps _))
          · exact OK2_of rfl rfl (Tr_m ((k2.move z1 p1 _).rpt _))
      · rcases hcc with rfl | rfl <;> unfold f_Ma_low f_Ma_moving f_Mo_middle f_Ma_indirect f_Mo_toDistance <;> simp +decide only [need_T q, has_T h q, f_Ma_pop_eq q1 h.top256, f_Mo_pop_eq h q1, f_Ma_pop_eq q2 k.top256, f_Mo_pop_eq k q2, f_Ma_zone_0, f_Ma_zone_1, c1, gd_pos (isA_zz k2.r_zp0), gd_pos (isA_zz k2.r_zp1), f_Ma_point_T (k2.many0 z1) p1, f_Ma_point_F (k2.many0 z0) p0, k2.s_zp0, k2.s_zp1, k2.s_rp0, f_Mo_pointOf_T k2 z1 p1, f_Mo_pointOf_F k2 z0 p0, failM_F, lz, bP_some, bS_some, bT_inl, bT_inr, bJT_inl, bJT_inr, bE_inl, bE_inr, bET_t, bET_inl, bET_inr, cO_t, cO_f, cS_t, cS_f, bE_bS, bE_bP, bE_gd, bET_bT, bET_bS, bET_bP, bET_gd, bJT_bT, bJT_bS, bJT_bP, bJT_gd, bJT_bJT, bP_bS, bP_bP, bP_gd, bT_bT, bT_bS, bT_bP, bT_gd, bS_bS, bS_bP, bS_gd, reduceIte] <;> exact OK2_of rfl rfl (Tr_f (k2.fails (by decide)))
    · obtain ⟨u, eu⟩ := f_Mo_pointOf_X (hm := failM 5 (popM (popM hm))) (n := rdI (failM 5 (popM (popM hm))) 192 72) (p := rdI (failM 5 (popM (popM hm))) 192 69) (by rw [failM_F]; decide)
      rcases hcc with rfl | rfl <;> unfold f_Ma_low f_Ma_moving f_Mo_middle f_Ma_indirect f_Mo_toDistance <;> simp +decide only [need_T q, has_T h q, f_Ma_pop_eq q1 h.top256, f_Mo_pop_eq h q1, f_Ma_pop_eq q2 k.top256, f_Mo_pop_eq k q2, f_Ma_zone_0, f_Ma_zone_1, c1, gd_pos (isA_zz k2.r_zp1), f_Ma_point_F (k2.many0 z1) p1, k2.s_zp1, f_Mo_pointOf_F k2 z1 p1, eu, failM_F, lz, bP_some, bS_some, bT_inl, bT_inr, bJT_inl, bJT_inr, bE_inl, bE_inr, bET_t, bET_inl, bET_inr, cO_t, cO_f, cS_t, cS_f, bE_bS, bE_bP, bE_gd, bET_bT, bET_bS, bET_bP, bET_gd, bJT_bT, bJT_bS, bJT_bP, bJT_gd, bJT_bJT, bP_bS, bP_bP, bP_gd, bT_bT, bT_bS, bT_bP, bT_gd, bS_bS, bS_bP, bS_gd, reduceIte] <;> exact OK2_of rfl rfl (Tr_f (k2.fails (by decide)))
  · have q' := le_of_not q
    rcases hcc with rfl | rfl <;> unfold f_Ma_low f_Ma_moving f_Mo_middle f_Mo_toDistance <;> simp +decide only [need_F q', has_F h q', lz, bP_some, bS_some, bT_inl, bT_inr, bJT_inl, bJT_inr, bE_inl, bE_inr, bET_t, bET_inl, bET_inr, cO_t, cO_f, cS_t, cS_f, bE_bS, bE_bP, bE_gd, bET_bT, bET_bS, bET_bP, bET_gd, bJT_bT, bJT_bS, bJT_bP, bJT_gd, bJT_bJT, bP_bS, bP_bP, bP_gd, bT_bT, bT_bS, bT_bP, bT_gd, bS_bS, bS_bP, bS_gd, reduceIte] <;> exact OK2_of rfl rfl (Tr_f (h.fails (by decide)))
theorem vp256 {P : hH → hH → Prop} {hc hm : hH} (h : Rm P hc hm) {n : Int32} (w : 0 ≤ n ∧ n < rdI hc 23 1) : vp_in n 256 := by
  have := h.r_cvtM
  exact vp_lt (n := 256) (m := 256) w.1 (by grind) rfl
theorem cvtOf_T {P : hH → hH → Prop} {hc hm : hH} (h : Rm P hc hm) {n : Int32} (w : 0 ≤ n ∧ n < rdI hc 23 1) : f_Mo_cvtOf n hm = some (rdI hc 24 n.toNatClampNeg, hm) := by
  unfold f_Mo_cvtOf
  rw [h.s_cvtM, if_neg (by grind), gd_pos (vp256 h w), h.a_cvt _ ((xI_lt w.1 h.r_cvtM.1).mpr w.2)]
theorem cvtOf_F {P : hH → hH → Prop} {hc hm : hH} (h : Rm P hc hm) {n : Int32} (w : ¬ (0 ≤ n ∧ n < rdI hc 23 1)) : f_Mo_cvtOf n hm = some (0, failM 6 hm) := by
  unfold f_Mo_cvtOf
  rw [h.s_cvtM, if_pos (by grind), f_Mo_fail_eq h.fail]
  rfl
theorem cvtOf_X {P : hH → hH → Prop} {hc hm : hH} (h : Rm P hc hm) {n c : Int32} (hc0 : ¬ c = 0) : ∃ q, f_Mo_cvtOf n (failM c hm) = some (q, failM c hm) := by
  unfold f_Mo_cvtOf
  have e : rdI (failM c hm) 192 25 = rdI hc 23 1 := by unfold failM; simp only [rdI_wrI, rdP_wrI, rdL_wrI, Nat.reduceEqDiff, false_and, and_false, true_and, and_true, eq_self, reduceIte, ite_self]; exact h.s_cvtM
  rw [e]
  by_cases w : 0 ≤ n ∧ n < rdI hc 23 1
  · rw [if_neg (by grind), gd_pos (vp256 h w)]
    exact ⟨_, rfl⟩
  · rw [if_pos (by grind), f_Mo_fail_F (by rw [failM_F]; exact hc0)]
    exact ⟨_, rfl⟩
theorem Rm.roundC_i {P : hH → hH → Prop} {hc hm : hH} (h : Rm P hc hm) {c : Prop} {ic : Decidable c} {x y : Int32} : f_Ma_rounded 2 (@ite _ c ic x.toInt64 y.toInt64) hc = some (rnV (@ite _ c ic x.toInt64 y.toInt64) hc) := h.roundC (by split <;> exact toL_lo _)
theorem Rm.roundM_i {P : hH → hH → Prop} {hc hm : hH} (h : Rm P hc hm) {c : Prop} {ic : Decidable c} {x y : Int32} : f_Mo_rounded (@ite _ c ic x.toInt64 y.toInt64) hm = some (rnV (@ite _ c ic x.toInt64 y.toInt64) hc) := h.roundM (by split <;> exact toL_lo _)
theorem op_62 {P : hH → hH → Prop} {hc hm : hH} (h : Rm P hc hm) {c : Int32} (hcc : c = 62 ∨ c = 63) : OK2 (f_Ma_low c hc) (f_Mo_middle c hm) (Tr P) := by
  by_cases q : 2 ≤ rdI hc 22 15
  · obtain ⟨q1, k, q2, k2⟩ := h.two q
    have z0 := zz_isZ k2.r_zp0
    have c0 : rdI (popC hc) 55 0 = rdI (popC (popC hc)) 55 0 := g1_o (by decide)
    by_cases p0 : PT (popC (popC hc)) (zz (rdI (popC (popC hc)) 55 0)) (tpC (popC hc))
    · by_cases w : 0 ≤ tpC hc ∧ tpC hc < rdI (popC (popC hc)) 23 1
      · by_cases b : rdI (popC (popC hc)) 55 0 = 0
        · have K : ∀ X Y, Rm P (putC (zz (rdI (popC (popC hc)) 55 0)) (tpC (popC hc)) X Y (popC (popC hc))) (putM (102 * rdI (popC (popC hc)) 55 0 + tpC (popC hc)) X Y (popM (popM hm))) := fun X Y => k2.put z0 p0 X Y
          rcases hcc with rfl | rfl <;> unfold f_Ma_low f_Ma_moving f_Mo_middle f_Ma_absolute f_Mo_toCvt <;> simp +decide only [need_T q, has_T h q, f_Ma_pop_eq q1 h.top256, f_Mo_pop_eq h q1, f_Ma_pop_eq q2 k.top256, f_Mo_pop_eq k q2, f_Ma_zone_0, c0, gd_pos (isA_zz k2.r_zp0), f_Ma_point_T (k2.many0 z0) p0, within_0 k2.r_cvtM.1, if_pos w, f_Ma_want_1, gd_pos (vp256 k2 w), k2.s_zp0, f_Mo_pointOf_T k2 z0 p0, cvtOf_T k2 w, k2.fail, zz26, if_pos b, over_one, mover_one, k2.s_fx, k2.s_fy, f_Zo_place_eq (k2.vpC z0 p0), f_Mo_put_eq (k2.vpM z0 p0), (fun X Y => (K X Y).placeC z0 ((PT_put z0 z0).mpr p0)), (fun X Y => (K X Y).placeM z0 ((PT_put z0 z0).mpr p0)), f_JM_abs_eq, f_Mo_sizeOf_eq, (fun X Y => (K X Y).s_cut), (fun X Y (c : Prop) (ic : Decidable c) (x y : Int32) => (K X Y).roundC_i (c := c) (ic := ic) (x := x) (y := y)), (fun X Y (c : Prop) (ic : Decidable c) (x y : Int32) => (K X Y).roundM_i (c := c) (ic := ic) (x := x) (y := y)), f_Ma_move_eq z0 (k2.vpC z0 p0), f_Mo_move_eq (k2.vpM z0 p0), lz, bP_some, bS_some, bT_inl, bT_inr, bJT_inl, bJT_inr, bE_inl, bE_inr, bET_t, bET_inl, bET_inr, cO_t, cO_f, cS_t, cS_f, bE_bS, bE_bP, bE_gd, bET_bT, bET_bS, bET_bP, bET_gd, bJT_bT, bJT_bS, bJT_bP, bJT_gd, bJT_bJT, bP_bS, bP_bP, bP_gd, bT_bT, bT_bS, bT_bP, bT_gd, bS_bS, bS_bP, bS_gd, reduceIte] <;> exact OK2_of rfl rfl (Tr_m ((((K _ _).move z0 ((PT_put z0 z0).mpr p0) _).set_rp0 _).set_rp1 _))
        · rcases hcc with rfl | rfl <;> unfold f_Ma_low f_Ma_moving f_Mo_middle f_Ma_absolute f_Mo_toCvt <;> simp +decide only [need_T q, has_T h q, f_Ma_pop_eq q1 h.top256, f_Mo_pop_eq h q1, f_Ma_pop_eq q2 k.top256, f_Mo_pop_eq k q2, f_Ma_zone_0, c0, gd_pos (isA_zz k2.r_zp0), f_Ma_point_T (k2.many0 z0) p0, within_0 k2.r_cvtM.1, if_pos w, f_Ma_want_1, gd_pos (vp256 k2 w), k2.s_zp0, f_Mo_pointOf_T k2 z0 p0, cvtOf_T k2 w, k2.fail, zz26, if_neg b, k2.placeC z0 p0, k2.placeM z0 p0, f_JM_abs_eq, f_Mo_sizeOf_eq, k2.s_cut, k2.roundC_i, k2.roundM_i, f_Ma_move_eq z0 (k2.vpC z0 p0), f_Mo_move_eq (k2.vpM z0 p0), lz, bP_some, bS_some, bT_inl, bT_inr, bJT_inl, bJT_inr, bE_inl, bE_inr, bET_t, bET_inl, bET_inr, cO_t, cO_f, cS_t, cS_f, bE_bS, bE_bP, bE_gd, bET_bT, bET_bS, bET_bP, bET_gd, bJT_bT, bJT_bS, bJT_bP, bJT_gd, bJT_bJT, bP_bS, bP_bP, bP_gd, bT_bT, bT_bS, bT_bP, bT_gd, bS_bS, bS_bP, bS_gd, reduceIte] <;> exact OK2_of rfl rfl (Tr_m (((k2.move z0 p0 _).set_rp0 _).set_rp1 _))
      · rcases hcc with rfl | rfl <;> unfold f_Ma_low f_Ma_moving f_Mo_middle f_Ma_absolute f_Mo_toCvt <;> simp +decide only [need_T q, has_T h q, f_Ma_pop_eq q1 h.top256, f_Mo_pop_eq h q1, f_Ma_pop_eq q2 k.top256, f_Mo_pop_eq k q2, f_Ma_zone_0, c0, gd_pos (isA_zz k2.r_zp0), f_Ma_point_T (k2.many0 z0) p0, within_0 k2.r_cvtM.1, if_neg w, f_Ma_want_0, k2.s_zp0, f_Mo_pointOf_T k2 z0 p0, cvtOf_F k2 w, failM_F, lz, bP_some, bS_some, bT_inl, bT_inr, bJT_inl, bJT_inr, bE_inl, bE_inr, bET_t, bET_inl, bET_inr, cO_t, cO_f, cS_t, cS_f, bE_bS, bE_bP, bE_gd, bET_bT, bET_bS, bET_bP, bET_gd, bJT_bT, bJT_bS, bJT_bP, bJT_gd, bJT_bJT, bP_bS, bP_bP, bP_gd, bT_bT, bT_bS, bT_bP, bT_gd, bS_bS, bS_bP, bS_gd, reduceIte] <;> exact OK2_of rfl rfl (Tr_f (k2.fails (by decide)))
    · obtain ⟨u, eu⟩ := cvtOf_X k2 (n := tpC hc) (c := 5) (by decide)
      rcases hcc with rfl | rfl <;> unfold f_Ma_low f_Ma_moving f_Mo_middle f_Ma_absolute f_Mo_toCvt <;> simp +decide only [need_T q, has_T h q, f_Ma_pop_eq q1 h.top256, f_Mo_pop_eq h q1, f_Ma_pop_eq q2 k.top256, f_Mo_pop_eq k q2, f_Ma_zone_0, c0, gd_pos (isA_zz k2.r_zp0), f_Ma_point_F (k2.many0 z0) p0, k2.s_zp0, f_Mo_pointOf_F k2 z0 p0, eu, failM_F, lz, bP_some, bS_some, bT_inl, bT_inr, bJT_inl, bJT_inr, bE_inl, bE_inr, bET_t, bET_inl, bET_inr, cO_t, cO_f, cS_t, cS_f, bE_bS, bE_bP, bE_gd, bET_bT, bET_bS, bET_bP, bET_gd, bJT_bT, bJT_bS, bJT_bP, bJT_gd, bJT_bJT, bP_bS, bP_bP, bP_gd, bT_bT, bT_bS, bT_bP, bT_gd, bS_bS, bS_bP, bS_gd, reduceIte] <;> exact OK2_of rfl rfl (Tr_f (k2.fails (by decide)))
  · have q' := le_of_not q
    rcases hcc with rfl | rfl <;> unfold f_Ma_low f_Ma_moving f_Mo_middle f_Mo_toCvt <;> simp +decide only [need_F q', has_F h q', lz, bP_some, bS_some, bT_inl, bT_inr, bJT_inl, bJT_inr, bE_inl, bE_inr, bET_t, bET_inl, bET_inr, cO_t, cO_f, cS_t, cS_f, bE_bS, bE_bP, bE_gd, bET_bT, bET_bS, bET_bP, bET_gd, bJT_bT, bJT_bS, bJT_bP, bJT_gd, bJT_bJT, bP_bS, bP_bP, bP_gd, bT_bT, bT_bS, bT_bP, bT_gd, bS_bS, bS_bP, bS_gd, reduceIte] <;> exact OK2_of rfl rfl (Tr_f (h.fails (by decide)))
