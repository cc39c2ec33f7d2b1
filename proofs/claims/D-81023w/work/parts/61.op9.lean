/-! LAYER 3w: codes 66 to 92, 94, 95 -/
theorem gdT {X : Type} {o : Option X} : gd True o = o := gd_pos True.intro
theorem index_T {i n : Int32} {h : hH} (hn : 0 ≤ n) (w : 0 ≤ i ∧ i < n) : f_Ma_index i n h = some (.inr (i, h)) := by
  unfold f_Ma_index
  rw [within_0 hn, if_pos w]
  rfl
theorem index_F {i n : Int32} {h : hH} (hn : 0 ≤ n) (w : ¬ (0 ≤ i ∧ i < n)) : f_Ma_index i n h = some (.inl (failC 6 h)) := by
  unfold f_Ma_index
  rw [within_0 hn, if_neg w]
  rfl
theorem vp64 {P : hH → hH → Prop} {hc hm : hH} (h : Rm P hc hm) {n : Int32} (w : 0 ≤ n ∧ n < rdI hc 23 3) : vp_in n 64 := by
  have := h.r_stoM
  exact vp_lt (n := 64) (m := 64) w.1 (by grind) rfl
theorem op_66 {P : hH → hH → Prop} {hc hm : hH} (h : Rm P hc hm) : OK2 (f_Ma_middle 66 hc) (f_Mo_middle 66 hm) (Tr P) := by
  by_cases q : 2 ≤ rdI hc 22 15
  · obtain ⟨q1, k, q2, k2⟩ := h.two q
    by_cases w : 0 ≤ tpC (popC hc) ∧ tpC (popC hc) < rdI (popC (popC hc)) 23 3
    · have w' : ¬ (tpC (popC hc) < 0 ∨ ¬ tpC (popC hc) < rdI (popC (popC hc)) 23 3) := by grind
      unfold f_Ma_middle f_Ma_held f_Mo_middle
      simp +decide only [need_T q, has_T h q, f_Ma_pop_eq q1 h.top256, f_Mo_pop_eq h q1, f_Ma_pop_eq q2 k.top256, f_Mo_pop_eq k q2, index_T k2.r_stoM.1 w, k2.s_stoM, if_neg w', gd_pos (vp64 k2 w), lz, bP_some, bS_some, bT_inl, bT_inr, bJT_inl, bJT_inr, bE_inl, bE_inr, bET_t, bET_inl, bET_inr, cO_t, cO_f, cS_t, cS_f, bE_bS, bE_bP, bE_gd, bET_bT, bET_bS, bET_bP, bET_gd, bJT_bT, bJT_bS, bJT_bP, bJT_gd, bJT_bJT, bP_bS, bP_bP, bP_gd, bT_bT, bT_bS, bT_bP, bT_gd, bS_bS, bS_bP, bS_gd, reduceIte]
      exact OK2_of rfl rfl (Tr_m (k2.set_sto _ _))
    · have w' : (tpC (popC hc) < 0 ∨ ¬ tpC (popC hc) < rdI (popC (popC hc)) 23 3) := by grind
      unfold f_Ma_middle f_Ma_held f_Mo_middle
      simp +decide only [need_T q, has_T h q, f_Ma_pop_eq q1 h.top256, f_Mo_pop_eq h q1, f_Ma_pop_eq q2 k.top256, f_Mo_pop_eq k q2, index_F k2.r_stoM.1 w, k2.s_stoM, if_pos w', f_Mo_fail_eq k2.fail, lz, bP_some, bS_some, bT_inl, bT_inr, bJT_inl, bJT_inr, bE_inl, bE_inr, bET_t, bET_inl, bET_inr, cO_t, cO_f, cS_t, cS_f, bE_bS, bE_bP, bE_gd, bET_bT, bET_bS, bET_bP, bET_gd, bJT_bT, bJT_bS, bJT_bP, bJT_gd, bJT_bJT, bP_bS, bP_bP, bP_gd, bT_bT, bT_bS, bT_bP, bT_gd, bS_bS, bS_bP, bS_gd, reduceIte]
      exact OK2_of rfl rfl (Tr_f (k2.fails (by decide)))
  · have q' := le_of_not q
    unfold f_Ma_middle f_Ma_held f_Mo_middle
    simp +decide only [need_F q', has_F h q', lz, bP_some, bS_some, bT_inl, bT_inr, bJT_inl, bJT_inr, bE_inl, bE_inr, bET_t, bET_inl, bET_inr, cO_t, cO_f, cS_t, cS_f, bE_bS, bE_bP, bE_gd, bET_bT, bET_bS, bET_bP, bET_gd, bJT_bT, bJT_bS, bJT_bP, bJT_gd, bJT_bJT, bP_bS, bP_bP, bP_gd, bT_bT, bT_bS, bT_bP, bT_gd, bS_bS, bS_bP, bS_gd, reduceIte]
    exact OK2_of rfl rfl (Tr_f (h.fails (by decide)))
theorem op_67 {P : hH → hH → Prop} {hc hm : hH} (h : Rm P hc hm) : OK2 (f_Ma_middle 67 hc) (f_Mo_middle 67 hm) (Tr P) := by
  by_cases q : 1 ≤ rdI hc 22 15
  · have k := h.pop q
    by_cases w : 0 ≤ tpC hc ∧ tpC hc < rdI (popC hc) 23 3
    · have w' : ¬ (tpC hc < 0 ∨ ¬ tpC hc < rdI (popC hc) 23 3) := by grind
      have x := k.a_sto _ ((xI_lt w.1 k.r_stoM.1).mpr w.2)
      unfold f_Ma_middle f_Ma_held f_Mo_middle
      simp +decide only [need_T q, has_T h q, f_Ma_pop_eq q h.top256, f_Mo_pop_eq h q, index_T k.r_stoM.1 w, k.s_stoM, if_neg w', gd_pos (vp64 k w), x, lz, bP_some, bS_some, bT_inl, bT_inr, bJT_inl, bJT_inr, bE_inl, bE_inr, bET_t, bET_inl, bET_inr, cO_t, cO_f, cS_t, cS_f, bE_bS, bE_bP, bE_gd, bET_bT, bET_bS, bET_bP, bET_gd, bJT_bT, bJT_bS, bJT_bP, bJT_gd, bJT_bJT, bP_bS, bP_bP, bP_gd, bT_bT, bT_bS, bT_bP, bT_gd, bS_bS, bS_bP, bS_gd, reduceIte]
      exact E_push k _
    · have w' : (tpC hc < 0 ∨ ¬ tpC hc < rdI (popC hc) 23 3) := by grind
      unfold f_Ma_middle f_Ma_held f_Mo_middle
      simp +decide only [need_T q, has_T h q, f_Ma_pop_eq q h.top256, f_Mo_pop_eq h q, index_F k.r_stoM.1 w, k.s_stoM, if_pos w', f_Mo_fail_eq k.fail, lz, bP_some, bS_some, bT_inl, bT_inr, bJT_inl, bJT_inr, bE_inl, bE_inr, bET_t, bET_inl, bET_inr, cO_t, cO_f, cS_t, cS_f, bE_bS, bE_bP, bE_gd, bET_bT, bET_bS, bET_bP, bET_gd, bJT_bT, bJT_bS, bJT_bP, bJT_gd, bJT_bJT, bP_bS, bP_bP, bP_gd, bT_bT, bT_bS, bT_bP, bT_gd, bS_bS, bS_bP, bS_gd, reduceIte]
      exact OK2_of rfl rfl (Tr_f (k.fails (by decide)))
  · have q' := le_of_not q
    unfold f_Ma_middle f_Ma_held f_Mo_middle
    simp +decide only [need_F q', has_F h q', lz, bP_some, bS_some, bT_inl, bT_inr, bJT_inl, bJT_inr, bE_inl, bE_inr, bET_t, bET_inl, bET_inr, cO_t, cO_f, cS_t, cS_f, bE_bS, bE_bP, bE_gd, bET_bT, bET_bS, bET_bP, bET_gd, bJT_bT, bJT_bS, bJT_bP, bJT_gd, bJT_bJT, bP_bS, bP_bP, bP_gd, bT_bT, bT_bS, bT_bP, bT_gd, bS_bS, bS_bP, bS_gd, reduceIte]
    exact OK2_of rfl rfl (Tr_f (h.fails (by decide)))
theorem op_68 {P : hH → hH → Prop} {hc hm : hH} (h : Rm P hc hm) : OK2 (f_Ma_middle 68 hc) (f_Mo_middle 68 hm) (Tr P) := by
  by_cases q : 2 ≤ rdI hc 22 15
  · obtain ⟨q1, k, q2, k2⟩ := h.two q
    by_cases w : 0 ≤ tpC (popC hc) ∧ tpC (popC hc) < rdI (popC (popC hc)) 23 1
    · unfold f_Ma_middle f_Ma_held f_Mo_middle f_Mo_setCvt
      simp +decide only [need_T q, has_T h q, f_Ma_pop_eq q1 h.top256, f_Mo_pop_eq h q1, f_Ma_pop_eq q2 k.top256, f_Mo_pop_eq k q2, index_T k2.r_cvtM.1 w, cvtOf_T k2 w, k2.fail, gd_pos (vp256 k2 w), lz, bP_some, bS_some, bT_inl, bT_inr, bJT_inl, bJT_inr, bE_inl, bE_inr, bET_t, bET_inl, bET_inr, cO_t, cO_f, cS_t, cS_f, bE_bS, bE_bP, bE_gd, bET_bT, bET_bS, bET_bP, bET_gd, bJT_bT, bJT_bS, bJT_bP, bJT_gd, bJT_bJT, bP_bS, bP_bP, bP_gd, bT_bT, bT_bS, bT_bP, bT_gd, bS_bS, bS_bP, bS_gd, reduceIte]
      exact OK2_of rfl rfl (Tr_m (k2.set_cvt _ _))
    · unfold f_Ma_middle f_Ma_held f_Mo_middle f_Mo_setCvt
      simp +decide only [need_T q, has_T h q, f_Ma_pop_eq q1 h.top256, f_Mo_pop_eq h q1, f_Ma_pop_eq q2 k.top256, f_Mo_pop_eq k q2, index_F k2.r_cvtM.1 w, cvtOf_F k2 w, failM_F, lz, bP_some, bS_some, bT_inl, bT_inr, bJT_inl, bJT_inr, bE_inl, bE_inr, bET_t, bET_inl, bET_inr, cO_t, cO_f, cS_t, cS_f, bE_bS, bE_bP, bE_gd, bET_bT, bET_bS, bET_bP, bET_gd, bJT_bT, bJT_bS, bJT_bP, bJT_gd, bJT_bJT, bP_bS, bP_bP, bP_gd, bT_bT, bT_bS, bT_bP, bT_gd, bS_bS, bS_bP, bS_gd, reduceIte]
      exact OK2_of rfl rfl (Tr_f (k2.fails (by decide)))
  · have q' := le_of_not q
    unfold f_Ma_middle f_Ma_held f_Mo_middle f_Mo_setCvt
    simp +decide only [need_F q', has_F h q', lz, bP_some, bS_some, bT_inl, bT_inr, bJT_inl, bJT_inr, bE_inl, bE_inr, bET_t, bET_inl, bET_inr, cO_t, cO_f, cS_t, cS_f, bE_bS, bE_bP, bE_gd, bET_bT, bET_bS, bET_bP, bET_gd, bJT_bT, bJT_bS, bJT_bP, bJT_gd, bJT_bJT, bP_bS, bP_bP, bP_gd, bT_bT, bT_bS, bT_bP, bT_gd, bS_bS, bS_bP, bS_gd, reduceIte]
    exact OK2_of rfl rfl (Tr_f (h.fails (by decide)))
theorem op_69 {P : hH → hH → Prop} {hc hm : hH} (h : Rm P hc hm) : OK2 (f_Ma_middle 69 hc) (f_Mo_middle 69 hm) (Tr P) := by
  by_cases q : 1 ≤ rdI hc 22 15
  · have k := h.pop q
    by_cases w : 0 ≤ tpC hc ∧ tpC hc < rdI (popC hc) 23 1
    · unfold f_Ma_middle f_Ma_held f_Mo_middle
      simp +decide only [need_T q, has_T h q, f_Ma_pop_eq q h.top256, f_Mo_pop_eq h q, index_T k.r_cvtM.1 w, cvtOf_T k w, k.fail, gd_pos (vp256 k w), lz, bP_some, bS_some, bT_inl, bT_inr, bJT_inl, bJT_inr, bE_inl, bE_inr, bET_t, bET_inl, bET_inr, cO_t, cO_f, cS_t, cS_f, bE_bS, bE_bP, bE_gd, bET_bT, bET_bS, bET_bP, bET_gd, bJT_bT, bJT_bS, bJT_bP, bJT_gd, bJT_bJT, bP_bS, bP_bP, bP_gd, bT_bT, bT_bS, bT_bP, bT_gd, bS_bS, bS_bP, bS_gd, reduceIte]
      exact E_push k _
    · unfold f_Ma_middle f_Ma_held f_Mo_middle
      simp +decide only [need_T q, has_T h q, f_Ma_pop_eq q h.top256, f_Mo_pop_eq h q, index_F k.r_cvtM.1 w, cvtOf_F k w, failM_F, lz, bP_some, bS_some, bT_inl, bT_inr, bJT_inl, bJT_inr, bE_inl, bE_inr, bET_t, bET_inl, bET_inr, cO_t, cO_f, cS_t, cS_f, bE_bS, bE_bP, bE_gd, bET_bT, bET_bS, bET_bP, bET_gd, bJT_bT, bJT_bS, bJT_bP, bJT_gd, bJT_bJT, bP_bS, bP_bP, bP_gd, bT_bT, bT_bS, bT_bP, bT_gd, bS_bS, bS_bP, bS_gd, reduceIte]
      exact OK2_of rfl rfl (Tr_f (k.fails (by decide)))
  · have q' := le_of_not q
    unfold f_Ma_middle f_Ma_held f_Mo_middle
    simp +decide only [need_F q', has_F h q', lz, bP_some, bS_some, bT_inl, bT_inr, bJT_inl, bJT_inr, bE_inl, bE_inr, bET_t, bET_inl, bET_inr, cO_t, cO_f, cS_t, cS_f, bE_bS, bE_bP, bE_gd, bET_bT, bET_bS, bET_bP, bET_gd, bJT_bT, bJT_bS, bJT_bP, bJT_gd, bJT_bJT, bP_bS, bP_bP, bP_gd, bT_bT, bT_bS, bT_bP, bT_gd, bS_bS, bS_bP, bS_gd, reduceIte]
    exact OK2_of rfl rfl (Tr_f (h.fails (by decide)))
theorem op_70 {P : hH → hH → Prop} {hc hm : hH} (h : Rm P hc hm) {c : Int32} (hcc : c = 70 ∨ c = 71) : OK2 (f_Ma_middle c hc) (f_Mo_middle c hm) (Tr P) := by
  by_cases q : 1 ≤ rdI hc 22 15
  · have k := h.pop q
    have z2 := zz_isZ k.r_zp2
    have m2 : rdI hm 192 74 = rdI (popC hc) 55 2 := h.s_zp2.trans (g1_o (by decide))
    by_cases p : PT (popC hc) (zz (rdI (popC hc) 55 2)) (tpC hc)
    · rcases hcc with rfl | rfl <;> unfold f_Ma_middle f_Ma_held f_Mo_middle <;> simp +decide only [need_T q, has_T h q, f_Ma_pop_eq q h.top256, f_Mo_pop_eq h q, f_Ma_zone_2, m2, gd_pos (isA_zz k.r_zp2), f_Ma_point_T (k.many0 z2) p, f_Mo_pointOf_T k z2 p, k.fail, k.placeC z2 p, k.placeM z2 p, gd_pos (k.vpC z2 p), gd_pos (k.vpM z2 p), f_Ma_along_eq, f_Mo_by_eq, k.zox z2 p, k.zoy z2 p, k.s_dx, k.s_dy, lz, bP_some, bS_some, bT_inl, bT_inr, bJT_inl, bJT_inr, bE_inl, bE_inr, bET_t, bET_inl, bET_inr, cO_t, cO_f, cS_t, cS_f, bE_bS, bE_bP, bE_gd, bET_bT, bET_bS, bET_bP, bET_gd, bJT_bT, bJT_bS, bJT_bP, bJT_gd, bJT_bJT, bP_bS, bP_bP, bP_gd, bT_bT, bT_bS, bT_bP, bT_gd, bS_bS, bS_bP, bS_gd, reduceIte] <;> exact E_push k _
    · rcases hcc with rfl | rfl <;> unfold f_Ma_middle f_Ma_held f_Mo_middle <;> simp +decide only [need_T q, has_T h q, f_Ma_pop_eq q h.top256, f_Mo_pop_eq h q, f_Ma_zone_2, m2, gd_pos (isA_zz k.r_zp2), f_Ma_point_F (k.many0 z2) p, f_Mo_pointOf_F k z2 p, failM_F, lz, bP_some, bS_some, bT_inl, bT_inr, bJT_inl, bJT_inr, bE_inl, bE_inr, bET_t, bET_inl, bET_inr, cO_t, cO_f, cS_t, cS_f, bE_bS, bE_bP, bE_gd, bET_bT, bET_bS, bET_bP, bET_gd, bJT_bT, bJT_bS, bJT_bP, bJT_gd, bJT_bJT, bP_bS, bP_bP, bP_gd, bT_bT, bT_bS, bT_bP, bT_gd, bS_bS, bS_bP, bS_gd, reduceIte] <;> exact OK2_of rfl rfl (Tr_f (k.fails (by decide)))
  · have q' := le_of_not q
    rcases hcc with rfl | rfl <;> unfold f_Ma_middle f_Ma_held f_Mo_middle <;> simp +decide only [need_F q', has_F h q', lz, bP_some, bS_some, bT_inl, bT_inr, bJT_inl, bJT_inr, bE_inl, bE_inr, bET_t, bET_inl, bET_inr, cO_t, cO_f, cS_t, cS_f, bE_bS, bE_bP, bE_gd, bET_bT, bET_bS, bET_bP, bET_gd, bJT_bT, bJT_bS, bJT_bP, bJT_gd, bJT_bJT, bP_bS, bP_bP, bP_gd, bT_bT, bT_bS, bT_bP, bT_gd, bS_bS, bS_bP, bS_gd, reduceIte] <;> exact OK2_of rfl rfl (Tr_f (h.fails (by decide)))
theorem Rm.setOld {P : hH → hH → Prop} {hc hm : hH} (h : Rm P hc hm) {z : Nat} {n p : Int32} (hz : isZ z n) (hp : PT hc z p) : Rm P (wrI (wrI hc (rf z 0) p.toNatClampNeg (rdI hc (rf z 2) p.toNatClampNeg)) (rf z 1) p.toNatClampNeg (rdI (wrI hc (rf z 0) p.toNatClampNeg (rdI hc (rf z 2) p.toNatClampNeg)) (rf z 3) p.toNatClampNeg)) (wrI (wrI hm 212 (102 * n + p).toNatClampNeg (rdI hm 214 (102 * n + p).toNatClampNeg)) 213 (102 * n + p).toNatClampNeg (rdI (wrI hm 212 (102 * n + p).toNatClampNeg (rdI hm 214 (102 * n + p).toNatClampNeg)) 215 (102 * n + p).toNatClampNeg)) := by
  rw [h.zx hz hp]
  have K := h.set_zox hz hp (rdI hc (rf z 2) p.toNatClampNeg)
  have e0 : rf z 0 ≠ 26 ∧ rf z 0 ≠ 34 := by
    rcases hz with ⟨rfl, rfl⟩ | ⟨rfl, rfl⟩
    · show 27 ≠ 26 ∧ 27 ≠ 34; decide
    · show 35 ≠ 26 ∧ 35 ≠ 34; decide
  have hp' := PT_wr (o := rf z 0) (k := p.toNatClampNeg) (v := rdI hc (rf z 2) p.toNatClampNeg) hz ⟨fun q => e0.1 q.1, fun q => e0.2 q.1⟩ hp
  rw [K.zy hz hp']
  exact K.set_zoy hz hp' _
theorem op_72 {P : hH → hH → Prop} {hc hm : hH} (h : Rm P hc hm) : OK2 (f_Ma_middle 72 hc) (f_Mo_middle 72 hm) (Tr P) := by
  by_cases q : 2 ≤ rdI hc 22 15
  · obtain ⟨q1, k, q2, k2⟩ := h.two q
    have z2 := zz_isZ k2.r_zp2
    have m2 : rdI (popM hm) 192 74 = rdI (popC (popC hc)) 55 2 := k.s_zp2.trans (g1_o (by decide))
    by_cases p : PT (popC (popC hc)) (zz (rdI (popC (popC hc)) 55 2)) (tpC (popC hc))
    · have K := fun d => k2.move z2 p d
      have p' := fun d => (PT_move (p := tpC (popC hc)) (d := d) z2 z2).mpr p
      by_cases b : rdI (popC (popC hc)) 55 2 = 0
      · unfold f_Ma_middle f_Ma_held f_Ma_setPlace f_Mo_middle
        simp +decide only [need_T q, has_T h q, f_Ma_pop_eq q1 h.top256, f_Mo_pop_eq h q1, f_Ma_pop_eq q2 k.top256, f_Mo_pop_eq k q2, f_Ma_zone_2, m2, gd_pos (isA_zz k2.r_zp2), f_Ma_point_T (k2.many0 z2) p, f_Mo_pointOf_T k2 z2 p, k2.fail, k2.placeC z2 p, k2.placeM z2 p, f_Ma_move_eq z2 (k2.vpC z2 p), f_Mo_move_eq (k2.vpM z2 p), (fun d => (K d).s_zp2), moveC_o z2 (o := 55) (by decide), zz26, if_pos b, gd_pos (k2.vpC z2 p), gd_pos (k2.vpM z2 p), lz, bP_some, bS_some, bT_inl, bT_inr, bJT_inl, bJT_inr, bE_inl, bE_inr, bET_t, bET_inl, bET_inr, cO_t, cO_f, cS_t, cS_f, bE_bS, bE_bP, bE_gd, bET_bT, bET_bS, bET_bP, bET_gd, bJT_bT, bJT_bS, bJT_bP, bJT_gd, bJT_bJT, bP_bS, bP_bP, bP_gd, bT_bT, bT_bS, bT_bP, bT_gd, bS_bS, bS_bP, bS_gd, reduceIte]
        exact OK2_of rfl rfl (Tr_m ((K _).setOld z2 (p' _)))
      · unfold f_Ma_middle f_Ma_held f_Ma_setPlace f_Mo_middle
        simp +decide only [need_T q, has_T h q, f_Ma_pop_eq q1 h.top256, f_Mo_pop_eq h q1, f_Ma_pop_eq q2 k.top256, f_Mo_pop_eq k q2, f_Ma_zone_2, m2, gd_pos (isA_zz k2.r_zp2), f_Ma_point_T (k2.many0 z2) p, f_Mo_pointOf_T k2 z2 p, k2.fail, k2.placeC z2 p, k2.placeM z2 p, f_Ma_move_eq z2 (k2.vpC z2 p), f_Mo_move_eq (k2.vpM z2 p), (fun d => (K d).s_zp2), moveC_o z2 (o := 55) (by decide), zz26, if_neg b, lz, bP_some, bS_some, bT_inl, bT_inr, bJT_inl, bJT_inr, bE_inl, bE_inr, bET_t, bET_inl, bET_inr, cO_t, cO_f, cS_t, cS_f, bE_bS, bE_bP, bE_gd, bET_bT, bET_bS, bET_bP, bET_gd, bJT_bT, bJT_bS, bJT_bP, bJT_gd, bJT_bJT, bP_bS, bP_bP, bP_gd, bT_bT, bT_bS, bT_bP, bT_gd, bS_bS, bS_bP, bS_gd, reduceIte]
        exact OK2_of rfl rfl (Tr_m (K _))
    · unfold f_Ma_middle f_Ma_held f_Ma_setPlace f_Mo_middle
      simp +decide only [need_T q, has_T h q, f_Ma_pop_eq q1 h.top256, f_Mo_pop_eq h q1, f_Ma_pop_eq q2 k.top256, f_Mo_pop_eq k q2, f_Ma_zone_2, m2, gd_pos (isA_zz k2.r_zp2), f_Ma_point_F (k2.many0 z2) p, f_Mo_pointOf_F k2 z2 p, failM_F, lz, bP_some, bS_some, bT_inl, bT_inr, bJT_inl, bJT_inr, bE_inl, bE_inr, bET_t, bET_inl, bET_inr, cO_t, cO_f, cS_t, cS_f, bE_bS, bE_bP, bE_gd, bET_bT, bET_bS, bET_bP, bET_gd, bJT_bT, bJT_bS, bJT_bP, bJT_gd, bJT_bJT, bP_bS, bP_bP, bP_gd, bT_bT, bT_bS, bT_bP, bT_gd, bS_bS, bS_bP, bS_gd, reduceIte]
      exact OK2_of rfl rfl (Tr_f (k2.fails (by decide)))
  · have q' := le_of_not q
    unfold f_Ma_middle f_Ma_held f_Mo_middle
    simp +decide only [need_F q', has_F h q', lz, bP_some, bS_some, bT_inl, bT_inr, bJT_inl, bJT_inr, bE_inl, bE_inr, bET_t, bET_inl, bET_inr, cO_t, cO_f, cS_t, cS_f, bE_bS, bE_bP, bE_gd, bET_bT, bET_bS, bET_bP, bET_gd, bJT_bT, bJT_bS, bJT_bP, bJT_gd, bJT_bJT, bP_bS, bP_bP, bP_gd, bT_bT, bT_bS, bT_bP, bT_gd, bS_bS, bS_bP, bS_gd, reduceIte]
    exact OK2_of rfl rfl (Tr_f (h.fails (by decide)))
theorem op_73 {P : hH → hH → Prop} {hc hm : hH} (h : Rm P hc hm) {c : Int32} (hcc : c = 73 ∨ c = 74) : OK2 (f_Ma_middle c hc) (f_Mo_middle c hm) (Tr P) := by
  by_cases q : 2 ≤ rdI hc 22 15
  · obtain ⟨q1, k, q2, k2⟩ := h.two q
    have z0 := zz_isZ k2.r_zp0
    have z1 := zz_isZ k2.r_zp1
    have m1 : rdI hm 192 73 = rdI (popC (popC hc)) 55 1 := h.s_zp1.trans (g2_o (by decide))
    have m0 : rdI (popM hm) 192 72 = rdI (popC (popC hc)) 55 0 := k.s_zp0.trans (g1_o (by decide))
    by_cases p1 : PT (popC (popC hc)) (zz (rdI (popC (popC hc)) 55 1)) (tpC hc)
    · by_cases p0 : PT (popC (popC hc)) (zz (rdI (popC (popC hc)) 55 0)) (tpC (popC hc))
      · rcases hcc with rfl | rfl <;> unfold f_Ma_middle f_Ma_held f_Mo_middle <;> simp +decide only [need_T q, has_T h q, f_Ma_pop_eq q1 h.top256, f_Mo_pop_eq h q1, f_Ma_pop_eq q2 k.top256, f_Mo_pop_eq k q2, f_Ma_zone_0, f_Ma_zone_1, m0, m1, gd_pos (isA_zz k2.r_zp0), gd_pos (isA_zz k2.r_zp1), gd_pos (And.intro (isA_zz k2.r_zp0) (isA_zz k2.r_zp1)), f_Ma_point_T (k2.many0 z0) p0, f_Ma_point_T (k2.many0 z1) p1, f_Mo_pointOf_T k z1 (PT_pop.mp p1), f_Mo_pointOf_T k2 z0 p0, k2.fail, k2.distC z0 p0 z1 p1, k2.distM z0 p0 z1 p1, k2.oldC z0 p0 z1 p1, k2.oldM z0 p0 z1 p1, lz, bP_some, bS_some, bT_inl, bT_inr, bJT_inl, bJT_inr, bE_inl, bE_inr, bET_t, bET_inl, bET_inr, cO_t, cO_f, cS_t, cS_f, bE_bS, bE_bP, bE_gd, bET_bT, bET_bS, bET_bP, bET_gd, bJT_bT, bJT_bS, bJT_bP, bJT_gd, bJT_bJT, bP_bS, bP_bP, bP_gd, bT_bT, bT_bS, bT_bP, bT_gd, bS_bS, bS_bP, bS_gd, reduceIte] <;> exact E_push k2 _
      · rcases hcc with rfl | rfl <;> unfold f_Ma_middle f_Ma_held f_Mo_middle <;> simp +decide only [need_T q, has_T h q, f_Ma_pop_eq q1 h.top256, f_Mo_pop_eq h q1, f_Ma_pop_eq q2 k.top256, f_Mo_pop_eq k q2, f_Ma_zone_0, f_Ma_zone_1, m0, m1, gd_pos (isA_zz k2.r_zp0), f_Ma_point_F (k2.many0 z0) p0, f_Mo_pointOf_T k z1 (PT_pop.mp p1), f_Mo_pointOf_F k2 z0 p0, failM_F, lz, bP_some, bS_some, bT_inl, bT_inr, bJT_inl, bJT_inr, bE_inl, bE_inr, bET_t, bET_inl, bET_inr, cO_t, cO_f, cS_t, cS_f, bE_bS, bE_bP, bE_gd, bET_bT, bET_bS, bET_bP, bET_gd, bJT_bT, bJT_bS, bJT_bP, bJT_gd, bJT_bJT, bP_bS, bP_bP, bP_gd, bT_bT, bT_bS, bT_bP, bT_gd, bS_bS, bS_bP, bS_gd, reduceIte] <;> exact OK2_of rfl rfl (Tr_f (k2.fails (by decide)))
    · obtain ⟨v, ev⟩ := f_Mo_pop_X k (c := 5) q2
      obtain ⟨u, eu⟩ := f_Mo_pointOf_X (hm := failM 5 (popM (popM hm))) (n := rdI (failM 5 (popM hm)) 192 72) (p := v) (by rw [failM_F]; decide)
      by_cases p0 : PT (popC (popC hc)) (zz (rdI (popC (popC hc)) 55 0)) (tpC (popC hc))
      · rcases hcc with rfl | rfl <;> unfold f_Ma_middle f_Ma_held f_Mo_middle <;> simp +decide only [need_T q, has_T h q, f_Ma_pop_eq q1 h.top256, f_Mo_pop_eq h q1, f_Ma_pop_eq q2 k.top256, f_Ma_zone_0, f_Ma_zone_1, m1, gd_pos (isA_zz k2.r_zp0), gd_pos (isA_zz k2.r_zp1), f_Ma_point_T (k2.many0 z0) p0, f_Ma_point_F (k2.many0 z1) p1, f_Mo_pointOf_F k z1 (fun w => p1 (PT_pop.mpr w)), ev, eu, failM_F, lz, bP_some, bS_some, bT_inl, bT_inr, bJT_inl, bJT_inr, bE_inl, bE_inr, bET_t, bET_inl, bET_inr, cO_t, cO_f, cS_t, cS_f, bE_bS, bE_bP, bE_gd, bET_bT, bET_bS, bET_bP, bET_gd, bJT_bT, bJT_bS, bJT_bP, bJT_gd, bJT_bJT, bP_bS, bP_bP, bP_gd, bT_bT, bT_bS, bT_bP, bT_gd, bS_bS, bS_bP, bS_gd, reduceIte] <;> exact OK2_of rfl rfl (Tr_f (k2.fails (by decide)))
      · rcases hcc with rfl | rfl <;> unfold f_Ma_middle f_Ma_held f_Mo_middle <;> simp +decide only [need_T q, has_T h q, f_Ma_pop_eq q1 h.top256, f_Mo_pop_eq h q1, f_Ma_pop_eq q2 k.top256, f_Ma_zone_0, f_Ma_zone_1, m1, gd_pos (isA_zz k2.r_zp0), f_Ma_point_F (k2.many0 z0) p0, f_Mo_pointOf_F k z1 (fun w => p1 (PT_pop.mpr w)), ev, eu, failM_F, lz, bP_some, bS_some, bT_inl, bT_inr, bJT_inl, bJT_inr, bE_inl, bE_inr, bET_t, bET_inl, bET_inr, cO_t, cO_f, cS_t, cS_f, bE_bS, bE_bP, bE_gd, bET_bT, bET_bS, bET_bP, bET_gd, bJT_bT, bJT_bS, bJT_bP, bJT_gd, bJT_bJT, bP_bS, bP_bP, bP_gd, bT_bT, bT_bS, bT_bP, bT_gd, bS_bS, bS_bP, bS_gd, reduceIte] <;> exact OK2_of rfl rfl (Tr_f (k2.fails (by decide)))
  · have q' := le_of_not q
    rcases hcc with rfl | rfl <;> unfold f_Ma_middle f_Ma_held f_Mo_middle <;> simp +decide only [need_F q', has_F h q', lz, bP_some, bS_some, bT_inl, bT_inr, bJT_inl, bJT_inr, bE_inl, bE_inr, bET_t, bET_inl, bET_inr, cO_t, cO_f, cS_t, cS_f, bE_bS, bE_bP, bE_gd, bET_bT, bET_bS, bET_bP, bET_gd, bJT_bT, bJT_bS, bJT_bP, bJT_gd, bJT_bJT, bP_bS, bP_bP, bP_gd, bT_bT, bT_bS, bT_bP, bT_gd, bS_bS, bS_bP, bS_gd, reduceIte] <;> exact OK2_of rfl rfl (Tr_f (h.fails (by decide)))
theorem op_75 {P : hH → hH → Prop} {hc hm : hH} (h : Rm P hc hm) {c : Int32} (hcc : c = 75 ∨ c = 76) : OK2 (f_Ma_middle c hc) (f_Mo_middle c hm) (Tr P) := by
  rcases hcc with rfl | rfl <;> unfold f_Ma_middle f_Mo_middle <;> simp +decide only [h.s_ppem, lz, bP_some, bS_some, bT_inl, bT_inr, bJT_inl, bJT_inr, bE_inl, bE_inr, bET_t, bET_inl, bET_inr, cO_t, cO_f, cS_t, cS_f, bE_bS, bE_bP, bE_gd, bET_bT, bET_bS, bET_bP, bET_gd, bJT_bT, bJT_bS, bJT_bP, bJT_gd, bJT_bJT, bP_bS, bP_bP, bP_gd, bT_bT, bT_bS, bT_bP, bT_gd, bS_bS, bS_bP, bS_gd, reduceIte] <;> exact E_push h _
theorem op_77 {P : hH → hH → Prop} {hc hm : hH} (h : Rm P hc hm) {c : Int32} (hcc : c = 77 ∨ c = 78) : OK2 (f_Ma_middle c hc) (f_Mo_middle c hm) (Tr P) := by
  rcases hcc with rfl | rfl <;> unfold f_Ma_middle f_Mo_middle <;> simp +decide only [gdT, lz, bP_some, bS_some, bT_inl, bT_inr, bJT_inl, bJT_inr, bE_inl, bE_inr, bET_t, bET_inl, bET_inr, cO_t, cO_f, cS_t, cS_f, bE_bS, bE_bP, bE_gd, bET_bT, bET_bS, bET_bP, bET_gd, bJT_bT, bJT_bS, bJT_bP, bJT_gd, bJT_bJT, bP_bS, bP_bP, bP_gd, bT_bT, bT_bS, bT_bP, bT_gd, bS_bS, bS_bP, bS_gd, reduceIte]
  · exact OK2_of rfl rfl (Tr_m (h.set_flip (Or.inr rfl)))
  · exact OK2_of rfl rfl (Tr_m (h.set_flip (Or.inl rfl)))
theorem op_79 {P : hH → hH → Prop} {hc hm : hH} (h : Rm P hc hm) : OK2 (f_Ma_middle 79 hc) (f_Mo_middle 79 hm) (Tr P) := by
  unfold f_Ma_middle f_Ma_compare f_Mo_middle f_Mo_tests
  simp +decide only [lz, bP_some, bS_some, bT_inl, bT_inr, bJT_inl, bJT_inr, bE_inl, bE_inr, bET_t, bET_inl, bET_inr, cO_t, cO_f, cS_t, cS_f, bE_bS, bE_bP, bE_gd, bET_bT, bET_bS, bET_bP, bET_gd, bJT_bT, bJT_bS, bJT_bP, bJT_gd, bJT_bJT, bP_bS, bP_bP, bP_gd, bT_bT, bT_bS, bT_bP, bT_gd, bS_bS, bS_bP, bS_gd, reduceIte]
  exact E_T (hc := hc) (hm := hm) (L_unknown h (by decide) (by decide))
theorem one_eq (p : Int32) : f_Mo_one p = some (if p = 0 then 0 else 1) := by
  unfold f_Mo_one
  split <;> rfl
theorem oneL {c : Prop} {ic : Decidable c} : Int32.toInt64 (@ite _ c ic 0 1) = @ite _ c ic 0 1 := by split <;> rfl
theorem op_80 {P : hH → hH → Prop} {hc hm : hH} (h : Rm P hc hm) {c : Int32} (hcc : c = 80 ∨ c = 81 ∨ c = 82 ∨ c = 83 ∨ c = 84 ∨ c = 85 ∨ c = 90 ∨ c = 91) : OK2 (f_Ma_middle c hc) (f_Mo_middle c hm) (Tr P) := by
  by_cases q : 2 ≤ rdI hc 22 15
  · obtain ⟨q1, k, q2, k2⟩ := h.two q
    rcases hcc with rfl | rfl | rfl | rfl | rfl | rfl | rfl | rfl <;> unfold f_Ma_middle f_Ma_compare f_Ma_pushTruth f_Mo_middle f_Mo_tests <;> simp +decide only [need_T q, has_T h q, f_Ma_pop_eq q1 h.top256, f_Mo_pop_eq h q1, f_Ma_pop_eq q2 k.top256, f_Mo_pop_eq k q2, one_eq, oneL, lz, bP_some, bS_some, bT_inl, bT_inr, bJT_inl, bJT_inr, bE_inl, bE_inr, bET_t, bET_inl, bET_inr, cO_t, cO_f, cS_t, cS_f, bE_bS, bE_bP, bE_gd, bET_bT, bET_bS, bET_bP, bET_gd, bJT_bT, bJT_bS, bJT_bP, bJT_gd, bJT_bJT, bP_bS, bP_bP, bP_gd, bT_bT, bT_bS, bT_bP, bT_gd, bS_bS, bS_bP, bS_gd, reduceIte] <;> exact E_push k2 _
  · have q' := le_of_not q
    rcases hcc with rfl | rfl | rfl | rfl | rfl | rfl | rfl | rfl <;> unfold f_Ma_middle f_Ma_compare f_Mo_middle f_Mo_tests <;> simp +decide only [need_F q', has_F h q', lz, bP_some, bS_some, bT_inl, bT_inr, bJT_inl, bJT_inr, bE_inl, bE_inr, bET_t, bET_inl, bET_inr, cO_t, cO_f, cS_t, cS_f, bE_bS, bE_bP, bE_gd, bET_bT, bET_bS, bET_bP, bET_gd, bJT_bT, bJT_bS, bJT_bP, bJT_gd, bJT_bJT, bP_bS, bP_bP, bP_gd, bT_bT, bT_bS, bT_bP, bT_gd, bS_bS, bS_bP, bS_gd, reduceIte] <;> exact OK2_of rfl rfl (Tr_f (h.fails (by decide)))
theorem op_86 {P : hH → hH → Prop} {hc hm : hH} (h : Rm P hc hm) {c : Int32} (hcc : c = 86 ∨ c = 87 ∨ c = 92) : OK2 (f_Ma_middle c hc) (f_Mo_middle c hm) (Tr P) := by
  by_cases q : 1 ≤ rdI hc 22 15
  · have k := h.pop q
    rcases hcc with rfl | rfl | rfl <;> unfold f_Ma_middle f_Ma_compare f_Ma_pushTruth f_Mo_middle f_Mo_tests <;> simp +decide only [need_T q, has_T h q, f_Ma_pop_eq q h.top256, f_Mo_pop_eq h q, k.roundC (toL_lo _), k.roundM (toL_lo _), one_eq, oneL, lz, bP_some, bS_some, bT_inl, bT_inr, bJT_inl, bJT_inr, bE_inl, bE_inr, bET_t, bET_inl, bET_inr, cO_t, cO_f, cS_t, cS_f, bE_bS, bE_bP, bE_gd, bET_bT, bET_bS, bET_bP, bET_gd, bJT_bT, bJT_bS, bJT_bP, bJT_gd, bJT_bJT, bP_bS, bP_bP, bP_gd, bT_bT, bT_bS, bT_bP, bT_gd, bS_bS, bS_bP, bS_gd, reduceIte] <;> exact E_push k _
  · have q' := le_of_not q
    rcases hcc with rfl | rfl | rfl <;> unfold f_Ma_middle f_Ma_compare f_Mo_middle f_Mo_tests <;> simp +decide only [need_F q', has_F h q', lz, bP_some, bS_some, bT_inl, bT_inr, bJT_inl, bJT_inr, bE_inl, bE_inr, bET_t, bET_inl, bET_inr, cO_t, cO_f, cS_t, cS_f, bE_bS, bE_bP, bE_gd, bET_bT, bET_bS, bET_bP, bET_gd, bJT_bT, bJT_bS, bJT_bP, bJT_gd, bJT_bJT, bP_bS, bP_bP, bP_gd, bT_bT, bT_bS, bT_bP, bT_gd, bS_bS, bS_bP, bS_gd, reduceIte] <;> exact OK2_of rfl rfl (Tr_f (h.fails (by decide)))
theorem op_88 {P : hH → hH → Prop} {hc hm : hH} (h : Rm P hc hm) : OK2 (f_Ma_middle 88 hc) (f_Mo_middle 88 hm) (Tr P) := by
  unfold f_Ma_middle f_Mo_middle f_Mo_tests
  by_cases q : 1 ≤ rdI hc 22 15
  · have k := h.pop q
    by_cases b : tpC hc = 0
    · obtain ⟨y, z, e1, e2, w⟩ := L_passIf k (e := 1) (one := 27) (Or.inr ⟨rfl, rfl⟩)
      simp +decide only [need_T q, has_T h q, f_Ma_pop_eq q h.top256, f_Mo_pop_eq h q, if_pos b, e1, e2, lz, bP_some, bS_some, bT_inl, bT_inr, bJT_inl, bJT_inr, bE_inl, bE_inr, bET_t, bET_inl, bET_inr, cO_t, cO_f, cS_t, cS_f, bE_bS, bE_bP, bE_gd, bET_bT, bET_bS, bET_bP, bET_gd, bJT_bT, bJT_bS, bJT_bP, bJT_gd, bJT_bJT, bP_bS, bP_bP, bP_gd, bT_bT, bT_bS, bT_bP, bT_gd, bS_bS, bS_bP, bS_gd, reduceIte]
      rcases y with g | g
      · exact OK2_of rfl rfl (Tr_f w)
      · exact OK2_of rfl rfl (Tr_m w)
    · simp +decide only [need_T q, has_T h q, f_Ma_pop_eq q h.top256, f_Mo_pop_eq h q, if_neg b, lz, bP_some, bS_some, bT_inl, bT_inr, bJT_inl, bJT_inr, bE_inl, bE_inr, bET_t, bET_inl, bET_inr, cO_t, cO_f, cS_t, cS_f, bE_bS, bE_bP, bE_gd, bET_bT, bET_bS, bET_bP, bET_gd, bJT_bT, bJT_bS, bJT_bP, bJT_gd, bJT_bJT, bP_bS, bP_bP, bP_gd, bT_bT, bT_bS, bT_bP, bT_gd, bS_bS, bS_bP, bS_gd, reduceIte]
      exact OK2_of rfl rfl (Tr_m k)
  · have q' := le_of_not q
    simp +decide only [need_F q', has_F h q', lz, bP_some, bS_some, bT_inl, bT_inr, bJT_inl, bJT_inr, bE_inl, bE_inr, bET_t, bET_inl, bET_inr, cO_t, cO_f, cS_t, cS_f, bE_bS, bE_bP, bE_gd, bET_bT, bET_bS, bET_bP, bET_gd, bJT_bT, bJT_bS, bJT_bP, bJT_gd, bJT_bJT, bP_bS, bP_bP, bP_gd, bT_bT, bT_bS, bT_bP, bT_gd, bS_bS, bS_bP, bS_gd, reduceIte]
    exact OK2_of rfl rfl (Tr_f (h.fails (by decide)))
theorem op_89 {P : hH → hH → Prop} {hc hm : hH} (h : Rm P hc hm) : OK2 (f_Ma_middle 89 hc) (f_Mo_middle 89 hm) (Tr P) := by
  unfold f_Ma_middle f_Mo_middle f_Mo_tests
  simp +decide only [lz, bP_some, bS_some, bT_inl, bT_inr, bJT_inl, bJT_inr, bE_inl, bE_inr, bET_t, bET_inl, bET_inr, cO_t, cO_f, cS_t, cS_f, bE_bS, bE_bP, bE_gd, bET_bT, bET_bS, bET_bP, bET_gd, bJT_bT, bJT_bS, bJT_bP, bJT_gd, bJT_bJT, bP_bS, bP_bP, bP_gd, bT_bT, bT_bS, bT_bP, bT_gd, bS_bS, bS_bP, bS_gd, reduceIte]
  exact OK2_of rfl rfl (Tr_m h)
theorem op_94 {P : hH → hH → Prop} {hc hm : hH} (h : Rm P hc hm) : OK2 (f_Ma_middle 94 hc) (f_Mo_middle 94 hm) (Tr P) := by
  unfold f_Ma_middle f_Ma_compare f_Mo_middle f_Mo_tests
  by_cases q : 1 ≤ rdI hc 22 15
  · simp +decide only [need_T q, has_T h q, f_Ma_pop_eq q h.top256, f_Mo_pop_eq h q, lz, bP_some, bS_some, bT_inl, bT_inr, bJT_inl, bJT_inr, bE_inl, bE_inr, bET_t, bET_inl, bET_inr, cO_t, cO_f, cS_t, cS_f, bE_bS, bE_bP, bE_gd, bET_bT, bET_bS, bET_bP, bET_gd, bJT_bT, bJT_bS, bJT_bP, bJT_gd, bJT_bJT, bP_bS, bP_bP, bP_gd, bT_bT, bT_bS, bT_bP, bT_gd, bS_bS, bS_bP, bS_gd, reduceIte]
    exact OK2_of rfl rfl (Tr_m ((h.pop q).set_base _))
  · have q' := le_of_not q
    simp +decide only [need_F q', has_F h q', lz, bP_some, bS_some, bT_inl, bT_inr, bJT_inl, bJT_inr, bE_inl, bE_inr, bET_t, bET_inl, bET_inr, cO_t, cO_f, cS_t, cS_f, bE_bS, bE_bP, bE_gd, bET_bT, bET_bS, bET_bP, bET_gd, bJT_bT, bJT_bS, bJT_bP, bJT_gd, bJT_bJT, bP_bS, bP_bP, bP_gd, bT_bT, bT_bS, bT_bP, bT_gd, bS_bS, bS_bP, bS_gd, reduceIte]
    exact OK2_of rfl rfl (Tr_f ((h.fails (by decide)).mw _ rfl (by decide)))
theorem op_95 {P : hH → hH → Prop} {hc hm : hH} (h : Rm P hc hm) : OK2 (f_Ma_middle 95 hc) (f_Mo_middle 95 hm) (Tr P) := by
  unfold f_Ma_middle f_Ma_compare f_Mo_middle f_Mo_tests
  by_cases q : 1 ≤ rdI hc 22 15
  · have k := h.pop q
    by_cases w : (0 : Int64) ≤ (tpC hc).toInt64 ∧ (tpC hc).toInt64 ≤ 6
    · have w1 : 0 ≤ tpC hc ∧ tpC hc ≤ 6 := ⟨w0.mp w.1, toL_le.mp w.2⟩
      simp +decide only [need_T q, has_T h q, f_Ma_pop_eq q h.top256, f_Mo_pop_eq h q, f_HH_within_eq, f_Mo_in_eq, if_pos w, f_Ma_want_1, lz, bP_some, bS_some, bT_inl, bT_inr, bJT_inl, bJT_inr, bE_inl, bE_inr, bET_t, bET_inl, bET_inr, cO_t, cO_f, cS_t, cS_f, bE_bS, bE_bP, bE_gd, bET_bT, bET_bS, bET_bP, bET_gd, bJT_bT, bJT_bS, bJT_bP, bJT_gd, bJT_bJT, bP_bS, bP_bP, bP_gd, bT_bT, bT_bS, bT_bP, bT_gd, bS_bS, bS_bP, bS_gd, reduceIte]
      exact OK2_of rfl rfl (Tr_m (k.set_shift w1))
    · simp +decide only [need_T q, has_T h q, f_Ma_pop_eq q h.top256, f_Mo_pop_eq h q, f_HH_within_eq, f_Mo_in_eq, if_neg w, f_Ma_want_0, f_Mo_fail_eq k.fail, lz, bP_some, bS_some, bT_inl, bT_inr, bJT_inl, bJT_inr, bE_inl, bE_inr, bET_t, bET_inl, bET_inr, cO_t, cO_f, cS_t, cS_f, bE_bS, bE_bP, bE_gd, bET_bT, bET_bS, bET_bP, bET_gd, bJT_bT, bJT_bS, bJT_bP, bJT_gd, bJT_bJT, bP_bS, bP_bP, bP_gd, bT_bT, bT_bS, bT_bP, bT_gd, bS_bS, bS_bP, bS_gd, reduceIte]
      exact OK2_of rfl rfl (Tr_f ((k.fails (by decide)).mw _ rfl (by decide)))
  · have q' := le_of_not q
    simp +decide only [need_F q', has_F h q', lz, bP_some, bS_some, bT_inl, bT_inr, bJT_inl, bJT_inr, bE_inl, bE_inr, bET_t, bET_inl, bET_inr, cO_t, cO_f, cS_t, cS_f, bE_bS, bE_bP, bE_gd, bET_bT, bET_bS, bET_bP, bET_gd, bJT_bT, bJT_bS, bJT_bP, bJT_gd, bJT_bJT, bP_bS, bP_bP, bP_gd, bT_bT, bT_bS, bT_bP, bT_gd, bS_bS, bS_bP, bS_gd, reduceIte]
    exact OK2_of rfl rfl (Tr_f (h.fails (by decide)))
