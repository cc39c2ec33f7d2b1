/-! LAYER 3u: codes 39, 41, 46, 47, 61 -/
theorem toL_lo (x : Int32) : -(2 ^ 62) ≤ x.toInt64.toInt := by
  rw [Int32.toInt_toInt64]
  have := i32_rng x
  omega
theorem floorDiv_some {a b : Int64} (hb : ¬ b = 0) : ∃ y, f_JM_floorDiv a b = some y := by
  unfold f_JM_floorDiv
  rw [gd_pos hb]
  simp only [lz]
  repeat (first | exact ⟨_, rfl⟩ | split)
noncomputable def rnV (v : Int64) (h : hH) : Int64 := (f_Ma_rounded 2 v h).getD 0
theorem Rm.round {P : hH → hH → Prop} {hc hm : hH} (h : Rm P hc hm) {v : Int64} (hv : -(2 ^ 62) ≤ v.toInt) : ∃ r, f_Ma_rounded 2 v hc = some r ∧ f_Mo_rounded v hm = some r := by
  have hpn : ¬ (rdI hc 22 40).toInt64 = 0 := toL_ne h.r_period.1
  have hr := h.rnd
  show ∃ r, fb_Ma_rounded (fb_Ma_rounded (f_Ma_rounded 0)) v hc = some r ∧ _
  unfold f_Mo_rounded
  simp only [fb_Ma_rounded]
  rw [hr, h.s_period, h.s_phase, h.s_thr]
  by_cases q : rdI hm 192 76 = 122
  · simp only [if_pos q, reduceIte]
    exact ⟨_, rfl, rfl⟩
  · simp only [if_neg q, show ¬ ((1 : Int32) = 0) by decide, reduceIte, lz]
    by_cases s : 0 ≤ v
    · obtain ⟨y, e⟩ := floorDiv_some (a := v - (rdI hc 22 41).toInt64 + (rdI hc 22 42).toInt64) hpn
      simp only [if_pos s, e, bP_some]
      by_cases w : 0 ≤ y * (rdI hc 22 40).toInt64 + (rdI hc 22 41).toInt64
      · simp only [if_pos w]; exact ⟨_, rfl, rfl⟩
      · simp only [if_neg w]; exact ⟨_, rfl, rfl⟩
    · have s' : 0 ≤ -v := by
        have e0 : (0 : Int64).toInt = 0 := rfl
        rw [Int64.le_iff_toInt_le] at s ⊢
        rw [i64_neg (by omega)]
        omega
      obtain ⟨y, e⟩ := floorDiv_some (a := -v - (rdI hc 22 41).toInt64 + (rdI hc 22 42).toInt64) hpn
      simp only [if_neg s, if_pos s', e, bP_some]
      by_cases w : 0 ≤ y * (rdI hc 22 40).toInt64 + (rdI hc 22 41).toInt64
      · simp only [if_pos w, bP_some]; exact ⟨_, rfl, rfl⟩
      · simp only [if_neg w, bP_some]; exact ⟨_, rfl, rfl⟩
theorem Rm.roundC {P : hH → hH → Prop} {hc hm : hH} (h : Rm P hc hm) {v : Int64} (hv : -(2 ^ 62) ≤ v.toInt) : f_Ma_rounded 2 v hc = some (rnV v hc) := by
  obtain ⟨r, e, _⟩ := h.round hv
  unfold rnV
  rw [e]
  rfl
theorem Rm.roundM {P : hH → hH → Prop} {hc hm : hH} (h : Rm P hc hm) {v : Int64} (hv : -(2 ^ 62) ≤ v.toInt) : f_Mo_rounded v hm = some (rnV v hc) := by
  obtain ⟨r, e, e'⟩ := h.round hv
  unfold rnV
  rw [e, e']
  rfl
theorem Rm.two {P : hH → hH → Prop} {hc hm : hH} (h : Rm P hc hm) (q : 2 ≤ rdI hc 22 15) : 1 ≤ rdI hc 22 15 ∧ Rm P (popC hc) (popM hm) ∧ 1 ≤ rdI (popC hc) 22 15 ∧ Rm P (popC (popC hc)) (popM (popM hm)) := by
  have q1 : 1 ≤ rdI hc 22 15 := by grind
  have k := h.pop q1
  have q2 : 1 ≤ rdI (popC hc) 22 15 := by rw [popC_top]; have := h.top256; grind
  exact ⟨q1, k, q2, k.pop q2⟩
theorem g1_o {h : hH} {o k : Nat} (q : o ≠ 22) : rdI h o k = rdI (popC h) o k := (popC_o (fun w => q w.1)).symm
theorem g2_o {h : hH} {o k : Nat} (q : o ≠ 22) : rdI h o k = rdI (popC (popC h)) o k := (g1_o q).trans (g1_o q)
theorem Rm.fails1 {P : hH → hH → Prop} {hc hm : hH} (h : Rm P hc hm) {c : Int32} (hc0 : 0 < c ∧ c ≤ 100) : Rf P (failC c hc) (failM c (popM hm)) := by
  rw [← popM_failM]
  exact (h.fails hc0).mw _ rfl (by decide)
theorem Rm.fails2 {P : hH → hH → Prop} {hc hm : hH} (h : Rm P hc hm) {c : Int32} (hc0 : 0 < c ∧ c ≤ 100) : Rf P (failC c hc) (failM c (popM (popM hm))) := by
  rw [← popM_failM]
  exact (h.fails1 hc0).mw _ rfl (by decide)
theorem popC2 {h : hH} : wrI h 22 15 (rdI h 22 15 - 2) = popC (popC h) := by
  rw [show rdI h 22 15 - 2 = rdI h 22 15 - 1 - 1 by grind]
  unfold popC
  simp only [rdI_wrI, rdP_wrI, rdL_wrI, Nat.reduceEqDiff, false_and, and_false, true_and, and_true, eq_self, reduceIte, ite_self]
  rw [wrI_wrI]
theorem rz {z : Nat} {n : Int32} (hz : isZ z n) {j : Nat} (hj : j < 6) {h : hH} {o k k' : Nat} {v : Int32} (ho : o = 22 ∨ o = 54 ∨ o = 55 ∨ o = 23 ∨ o = 24 ∨ o = 33) : rdI (wrI h (rf z j) k v) o k' = rdI h o k' := by
  have hj' : j = 0 ∨ j = 1 ∨ j = 2 ∨ j = 3 ∨ j = 4 ∨ j = 5 := by omega
  refine rdI_o ?_
  intro e
  rw [e] at ho
  revert ho
  rcases hz with ⟨rfl, _⟩ | ⟨rfl, _⟩ <;> rcases hj' with rfl | rfl | rfl | rfl | rfl | rfl <;> decide
theorem rz45 {z : Nat} {n : Int32} (hz : isZ z n) {h : hH} {k k' : Nat} {v : Int32} : rdI (wrI h (rf z 4) k v) (rf z 5) k' = rdI h (rf z 5) k' := by
  refine rdI_o ?_
  rcases hz with ⟨rfl, _⟩ | ⟨rfl, _⟩ <;> decide
theorem rz23 {z : Nat} {n : Int32} (hz : isZ z n) {h : hH} {k k' : Nat} {v : Int32} : rdI (wrI h (rf z 2) k v) (rf z 3) k' = rdI h (rf z 3) k' := by
  refine rdI_o ?_
  rcases hz with ⟨rfl, _⟩ | ⟨rfl, _⟩ <;> decide
theorem T4_un {x y t a b : Int32} (h : T4 x y t) : T4 (x &&& (if a = 0 then 1 else 0) &&& 1) (y &&& (if b = 0 then 1 else 0) &&& 1) (t &&& (((if a = 0 then 0 else 1) ||| (if b = 0 then 0 else 2)) ^^^ -1)) := by
  by_cases ha : a = 0 <;> by_cases hb : b = 0 <;> simp only [ha, hb, reduceIte] <;> rcases h with ⟨rfl, rfl, rfl⟩ | ⟨rfl, rfl, rfl⟩ | ⟨rfl, rfl, rfl⟩ | ⟨rfl, rfl, rfl⟩ <;> unfold T4 <;> decide
theorem op_41 {P : hH → hH → Prop} {hc hm : hH} (h : Rm P hc hm) : OK2 (f_Ma_low 41 hc) (f_Mo_stacks 41 hm) (Tr P) := by
  by_cases q : 1 ≤ rdI hc 22 15
  · have k := h.pop q
    have z0 := zz_isZ k.r_zp0
    have c0 : rdI hc 55 0 = rdI (popC hc) 55 0 := g1_o (by decide)
    have m0 : rdI hm 192 72 = rdI (popC hc) 55 0 := h.s_zp0.trans c0
    by_cases p : PT (popC hc) (zz (rdI (popC hc) 55 0)) (tpC hc)
    · unfold f_Ma_low f_Ma_moving f_Mo_stacks
      simp +decide only [need_T q, has_T h q, f_Ma_pop_eq q h.top256, f_Mo_pop_eq h q, f_Ma_zone_0, c0, m0, gd_pos (isA_zz k.r_zp0), f_Ma_point_T (k.many0 z0) p, f_Mo_pointOf_T k z0 p, k.fail, gd_pos (And.intro (isA_zz k.r_zp0) (k.vpC z0 p)), gd_pos (k.vpC z0 p), gd_pos (k.vpM z0 p), rz z0 (j := 4) (by decide) (o := 55) (by decide), rz z0 (j := 4) (by decide) (o := 22) (by decide), rz45 z0, k.s_fx, k.s_fy, lz, bP_some, bS_some, bT_inl, bT_inr, bJT_inl, bJT_inr, bE_inl, bE_inr, bET_t, bET_inl, bET_inr, cO_t, cO_f, cS_t, cS_f, bE_bS, bE_bP, bE_gd, bET_bT, bET_bS, bET_bP, bET_gd, bJT_bT, bJT_bS, bJT_bP, bJT_gd, bJT_bJT, bP_bS, bP_bP, bP_gd, bT_bT, bT_bS, bT_bP, bT_gd, bS_bS, bS_bP, bS_gd, reduceIte]
      exact OK2_of rfl rfl (Tr_m (k.set_zt z0 p (T4_un (k.zt z0 p))))
    · unfold f_Ma_low f_Ma_moving f_Mo_stacks
      simp +decide only [need_T q, has_T h q, f_Ma_pop_eq q h.top256, f_Mo_pop_eq h q, f_Ma_zone_0, c0, m0, gd_pos (isA_zz k.r_zp0), f_Ma_point_F (k.many0 z0) p, f_Mo_pointOf_F k z0 p, failM_F, lz, bP_some, bS_some, bT_inl, bT_inr, bJT_inl, bJT_inr, bE_inl, bE_inr, bET_t, bET_inl, bET_inr, cO_t, cO_f, cS_t, cS_f, bE_bS, bE_bP, bE_gd, bET_bT, bET_bS, bET_bP, bET_gd, bJT_bT, bJT_bS, bJT_bP, bJT_gd, bJT_bJT, bP_bS, bP_bP, bP_gd, bT_bT, bT_bS, bT_bP, bT_gd, bS_bS, bS_bP, bS_gd, reduceIte]
      exact OK2_of rfl rfl (Tr_f (k.fails (by decide)))
  · have q' := le_of_not q
    unfold f_Ma_low f_Ma_moving f_Mo_stacks
    simp +decide only [need_F q', has_F h q', lz, bP_some, bS_some, bT_inl, bT_inr, bJT_inl, bJT_inr, bE_inl, bE_inr, bET_t, bET_inl, bET_inr, cO_t, cO_f, cS_t, cS_f, bE_bS, bE_bP, bE_gd, bET_bT, bET_bS, bET_bP, bET_gd, bJT_bT, bJT_bS, bJT_bP, bJT_gd, bJT_bJT, bP_bS, bP_bP, bP_gd, bT_bT, bT_bS, bT_bP, bT_gd, bS_bS, bS_bP, bS_gd, reduceIte]
    exact OK2_of rfl rfl (Tr_f (h.fails (by decide)))
theorem op_46 {P : hH → hH → Prop} {hc hm : hH} (h : Rm P hc hm) {c : Int32} (hcc : c = 46 ∨ c = 47) : OK2 (f_Ma_low c hc) (f_Mo_stacks c hm) (Tr P) := by
  by_cases q : 1 ≤ rdI hc 22 15
  · have k := h.pop q
    have z0 := zz_isZ k.r_zp0
    have c0 : rdI hc 55 0 = rdI (popC hc) 55 0 := g1_o (by decide)
    by_cases p : PT (popC hc) (zz (rdI (popC hc) 55 0)) (tpC hc)
    · rcases hcc with rfl | rfl <;> unfold f_Ma_low f_Ma_moving f_Mo_stacks <;> simp +decide only [need_T q, has_T h q, f_Ma_pop_eq q h.top256, f_Mo_pop_eq h q, f_Ma_zone_0, c0, k.s_zp0, gd_pos (isA_zz k.r_zp0), f_Ma_point_T (k.many0 z0) p, f_Mo_pointOf_T k z0 p, k.fail, k.placeC z0 p, k.placeM z0 p, k.roundC (toL_lo _), k.roundM (toL_lo _), f_Ma_move_eq z0 (k.vpC z0 p), f_Mo_move_eq (k.vpM z0 p), lz, bP_some, bS_some, bT_inl, bT_inr, bJT_inl, bJT_inr, bE_inl, bE_inr, bET_t, bET_inl, bET_inr, cO_t, cO_f, cS_t, cS_f, bE_bS, bE_bP, bE_gd, bET_bT, bET_bS, bET_bP, bET_gd, bJT_bT, bJT_bS, bJT_bP, bJT_gd, bJT_bJT, bP_bS, bP_bP, bP_gd, bT_bT, bT_bS, bT_bP, bT_gd, bS_bS, bS_bP, bS_gd, reduceIte] <;> exact OK2_of rfl rfl (Tr_m (((k.move z0 p _).set_rp0 _).set_rp1 _))
    · rcases hcc with rfl | rfl <;> unfold f_Ma_low f_Ma_moving f_Mo_stacks <;> simp +decide only [need_T q, has_T h q, f_Ma_pop_eq q h.top256, f_Mo_pop_eq h q, f_Ma_zone_0, c0, k.s_zp0, gd_pos (isA_zz k.r_zp0), f_Ma_point_F (k.many0 z0) p, f_Mo_pointOf_F k z0 p, failM_F, lz, bP_some, bS_some, bT_inl, bT_inr, bJT_inl, bJT_inr, bE_inl, bE_inr, bET_t, bET_inl, bET_inr, cO_t, cO_f, cS_t, cS_f, bE_bS, bE_bP, bE_gd, bET_bT, bET_bS, bET_bP, bET_gd, bJT_bT, bJT_bS, bJT_bP, bJT_gd, bJT_bJT, bP_bS, bP_bP, bP_gd, bT_bT, bT_bS, bT_bP, bT_gd, bS_bS, bS_bP, bS_gd, reduceIte] <;> exact OK2_of rfl rfl (Tr_f (k.fails (by decide)))
  · have q' := le_of_not q
    rcases hcc with rfl | rfl <;> unfold f_Ma_low f_Ma_moving f_Mo_stacks <;> simp +decide only [need_F q', has_F h q', lz, bP_some, bS_some, bT_inl, bT_inr, bJT_inl, bJT_inr, bE_inl, bE_inr, bET_t, bET_inl, bET_inr, cO_t, cO_f, cS_t, cS_f, bE_bS, bE_bP, bE_gd, bET_bT, bET_bS, bET_bP, bET_gd, bJT_bT, bJT_bS, bJT_bP, bJT_gd, bJT_bJT, bP_bS, bP_bP, bP_gd, bT_bT, bT_bS, bT_bP, bT_gd, bS_bS, bS_bP, bS_gd, reduceIte] <;> exact OK2_of rfl rfl (Tr_f (h.fails (by decide)))
theorem neg_half (a : Int32) : (-(a / 2)).toInt64 = -((a / 2).toInt64) := by
  apply Int64.toInt_inj.mp
  have r := i32_rng a
  have e : (a / 2).toInt = a.toInt.tdiv 2 := by
    rw [Int32.toInt_div]
    have e4 : (a.toInt.tdiv 2).natAbs = a.toInt.natAbs / 2 := Int.natAbs_tdiv a.toInt 2
    exact i32_bm (by show -(2 ^ 31) ≤ a.toInt.tdiv 2; omega) (by show a.toInt.tdiv 2 < 2 ^ 31; omega)
  have e4 : (a.toInt.tdiv 2).natAbs = a.toInt.natAbs / 2 := Int.natAbs_tdiv a.toInt 2
  rw [Int32.toInt_toInt64, i64_neg (by rw [Int32.toInt_toInt64]; have := i32_rng (a / 2); omega), Int32.toInt_toInt64, Int32.toInt_neg, e]
  exact i32_bm (by omega) (by omega)
theorem op_39 {P : hH → hH → Prop} {hc hm : hH} (h : Rm P hc hm) : OK2 (f_Ma_low 39 hc) (f_Mo_stacks 39 hm) (Tr P) := by
  by_cases q : 2 ≤ rdI hc 22 15
  · obtain ⟨q1, k, q2, k2⟩ := h.two q
    have t := h.top256
    have z0 := zz_isZ k2.r_zp0
    have z1 := zz_isZ k2.r_zp1
    have c0 : rdI hc 55 0 = rdI (popC (popC hc)) 55 0 := g2_o (by decide)
    have c1 : rdI hc 55 1 = rdI (popC (popC hc)) 55 1 := g2_o (by decide)
    have m0 : rdI hm 192 72 = rdI (popC (popC hc)) 55 0 := h.s_zp0.trans c0
    have m1 : rdI (popM hm) 192 73 = rdI (popC (popC hc)) 55 1 := k.s_zp1.trans (g1_o (by decide))
    have e1 : rdI hc 43 (rdI hc 22 15 - 1).toNatClampNeg = tpC hc := rfl
    have e2 : rdI hc 43 (rdI hc 22 15 - 2).toNatClampNeg = tpC (popC hc) := by
      unfold tpC
      rw [popC_top, popC_o (by omega), show rdI hc 22 15 - 1 - 1 = rdI hc 22 15 - 2 by grind]
    have v1 : vp_in (rdI hc 22 15 - 1) 256 := vp_lt (n := 256) (m := 256) (by grind) (by grind) rfl
    have v2 : vp_in (rdI hc 22 15 - 2) 256 := vp_lt (n := 256) (m := 256) (by grind) (by grind) rfl
    by_cases p0 : PT (popC (popC hc)) (zz (rdI (popC (popC hc)) 55 0)) (tpC hc)
    · by_cases p1 : PT (popC (popC hc)) (zz (rdI (popC (popC hc)) 55 1)) (tpC (popC hc))
      · unfold f_Ma_low f_Ma_moving f_Mo_stacks
        simp +decide only [need_T q, has_T h q, f_Mo_pop_eq h q1, f_Mo_pop_eq k q2, f_Ma_zone_0, f_Ma_zone_1, c0, c1, m0, m1, e1, e2, gd_pos v1, gd_pos v2, gd_pos (isA_zz k2.r_zp0), gd_pos (isA_zz k2.r_zp1), gd_pos (And.intro (isA_zz k2.r_zp0) (isA_zz k2.r_zp1)), f_Ma_point_T (h.many0 z0) (PT_pop.mp (PT_pop.mp p0)), f_Ma_point_T (h.many0 z1) (PT_pop.mp (PT_pop.mp p1)), f_Mo_pointOf_T k z0 (PT_pop.mp p0), f_Mo_pointOf_T k2 z1 p1, k2.fail, popC2, k2.distC z0 p0 z1 p1, k2.distM z0 p0 z1 p1, f_Ma_move_eq z1 (k2.vpC z1 p1), f_Ma_move_eq z0 (k2.vpC z0 p0), f_Mo_move_eq (k2.vpM z0 p0), f_Mo_move_eq (k2.vpM z1 p1), moveC_o z1 (o := 55) (by decide), neg_half, lz, bP_some, bS_some, bT_inl, bT_inr, bJT_inl, bJT_inr, bE_inl, bE_inr, bET_t, bET_inl, bET_inr, cO_t, cO_f, cS_t, cS_f, bE_bS, bE_bP, bE_gd, bET_bT, bET_bS, bET_bP, bET_gd, bJT_bT, bJT_bS, bJT_bP, bJT_gd, bJT_bJT, bP_bS, bP_bP, bP_gd, bT_bT, bT_bS, bT_bP, bT_gd, bS_bS, bS_bP, bS_gd, reduceIte]
        exact OK2_of rfl rfl (Tr_m ((k2.move z1 p1 _).move z0 ((PT_move z1 z0).mpr p0) _))
      · unfold f_Ma_low f_Ma_moving f_Mo_stacks
        simp +decide only [need_T q, has_T h q, f_Mo_pop_eq h q1, f_Mo_pop_eq k q2, f_Ma_zone_0, f_Ma_zone_1, c0, c1, m0, m1, e1, e2, gd_pos v1, gd_pos v2, gd_pos (isA_zz k2.r_zp0), gd_pos (isA_zz k2.r_zp1), f_Ma_point_T (h.many0 z0) (PT_pop.mp (PT_pop.mp p0)), f_Ma_point_F (h.many0 z1) (fun w => p1 (PT_pop.mpr (PT_pop.mpr w))), f_Mo_pointOf_T k z0 (PT_pop.mp p0), f_Mo_pointOf_F k2 z1 p1, failM_F, lz, bP_some, bS_some, bT_inl, bT_inr, bJT_inl, bJT_inr, bE_inl, bE_inr, bET_t, bET_inl, bET_inr, cO_t, cO_f, cS_t, cS_f, bE_bS, bE_bP, bE_gd, bET_bT, bET_bS, bET_bP, bET_gd, bJT_bT, bJT_bS, bJT_bP, bJT_gd, bJT_bJT, bP_bS, bP_bP, bP_gd, bT_bT, bT_bS, bT_bP, bT_gd, bS_bS, bS_bP, bS_gd, reduceIte]
        exact OK2_of rfl rfl (Tr_f (h.fails2 (by decide)))
    · obtain ⟨v, ev⟩ := f_Mo_pop_X k (c := 5) q2
      obtain ⟨u, eu⟩ := f_Mo_pointOf_X (hm := failM 5 (popM (popM hm))) (n := rdI (failM 5 (popM hm)) 192 73) (p := v) (by rw [failM_F]; decide)
      unfold f_Ma_low f_Ma_moving f_Mo_stacks
      simp +decide only [need_T q, has_T h q, f_Mo_pop_eq h q1, f_Ma_zone_0, f_Ma_zone_1, c0, m0, e1, gd_pos v1, gd_pos (isA_zz k2.r_zp0), f_Ma_point_F (h.many0 z0) (fun w => p0 (PT_pop.mpr (PT_pop.mpr w))), f_Mo_pointOf_F k z0 (fun w => p0 (PT_pop.mpr w)), ev, eu, failM_F, lz, bP_some, bS_some, bT_inl, bT_inr, bJT_inl, bJT_inr, bE_inl, bE_inr, bET_t, bET_inl, bET_inr, cO_t, cO_f, cS_t, cS_f, bE_bS, bE_bP, bE_gd, bET_bT, bET_bS, bET_bP, bET_gd, bJT_bT, bJT_bS, bJT_bP, bJT_gd, bJT_bJT, bP_bS, bP_bP, bP_gd, bT_bT, bT_bS, bT_bP, bT_gd, bS_bS, bS_bP, bS_gd, reduceIte]
      exact OK2_of rfl rfl (Tr_f (h.fails2 (by decide)))
  · have q' := le_of_not q
    unfold f_Ma_low f_Ma_moving f_Mo_stacks
    simp +decide only [need_F q', has_F h q', lz, bP_some, bS_some, bT_inl, bT_inr, bJT_inl, bJT_inr, bE_inl, bE_inr, bET_t, bET_inl, bET_inr, cO_t, cO_f, cS_t, cS_f, bE_bS, bE_bP, bE_gd, bET_bT, bET_bS, bET_bP, bET_gd, bJT_bT, bJT_bS, bJT_bP, bJT_gd, bJT_bJT, bP_bS, bP_bP, bP_gd, bT_bT, bT_bS, bT_bP, bT_gd, bS_bS, bS_bP, bS_gd, reduceIte]
    exact OK2_of rfl rfl (Tr_f (h.fails (by decide)))
theorem op_61 {P : hH → hH → Prop} {hc hm : hH} (h : Rm P hc hm) : OK2 (f_Ma_low 61 hc) (f_Mo_middle 61 hm) (Tr P) := by
  unfold f_Ma_low f_Mo_middle
  simp +decide only [lz, bP_some, bS_some, bT_inl, bT_inr, bJT_inl, bJT_inr, bE_inl, bE_inr, bET_t, bET_inl, bET_inr, cO_t, cO_f, cS_t, cS_f, bE_bS, bE_bP, bE_gd, bET_bT, bET_bS, bET_bP, bET_gd, bJT_bT, bJT_bS, bJT_bP, bJT_gd, bJT_bJT, bP_bS, bP_bP, bP_gd, bT_bT, bT_bS, bT_bP, bT_gd, bS_bS, bS_bP, bS_gd, reduceIte]
  obtain ⟨x, y, e, e', q⟩ := h.rounding (w := 61) (a := 32) (b := 0) (c := 16) (by decide) (by decide)
  rw [e, e']
  exact OK2_of rfl rfl (Tr_m q)
