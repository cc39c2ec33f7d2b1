/-! LAYER 3g: codes 0 to 31 -/
def Tr (P : hH → hH → Prop) (y : hH ⊕ (Unit × hH)) (z : Unit × hH) : Prop := TT (fun g => Rf P g z.2) (fun q => Rm P q.2 z.2) y
theorem Tr_m {P : hH → hH → Prop} {g hm : hH} (h : Rm P g hm) : Tr P (.inr ((), g)) ((), hm) := h
theorem Tr_f {P : hH → hH → Prop} {g hm : hH} (h : Rf P g hm) : Tr P (.inl g) ((), hm) := h
theorem le_of_not {a b : Int32} (h : ¬ a ≤ b) : b < a := Int32.not_le.mp h
theorem wrI_comm {h : hH} {o k o' k' : Nat} {v w : Int32} (q : ¬ (o = o' ∧ k = k')) : wrI (wrI h o k v) o' k' w = wrI (wrI h o' k' w) o k v := by
  unfold wrI up2
  refine Prod.ext ?_ rfl
  funext a b
  dsimp only
  by_cases q1 : a = o' ∧ b = k'
  · rw [if_pos q1, if_neg (fun q2 => q ⟨q2.1.symm.trans q1.1, q2.2.symm.trans q1.2⟩), if_pos q1]
  · rw [if_neg q1]
    by_cases q2 : a = o ∧ b = k
    · rw [if_pos q2, if_pos q2]
    · rw [if_neg q2, if_neg q2, if_neg q1]
theorem popM_failM {c : Int32} {h : hH} : popM (failM c h) = failM c (popM h) := by
  unfold popM failM
  simp only [rdI_wrI, rdP_wrI, rdL_wrI, Nat.reduceEqDiff, false_and, and_false, true_and, and_true, eq_self, reduceIte, ite_self]
  rw [wrI_comm (o := 192) (k := 60) (o' := 192) (k' := 56) (by decide), wrI_comm (o := 192) (k := 59) (o' := 192) (k' := 56) (by decide)]
/-- a pop of a model that failed -/
theorem f_Mo_pop_X {P : hH → hH → Prop} {hc hm : hH} (h : Rm P hc hm) {c : Int32} (h1 : 1 ≤ rdI hc 22 15) : ∃ v, f_Mo_pop (failM c hm) = some (v, failM c (popM hm)) := by
  have h2 := h.top256
  refine ⟨rdI (failM c hm) 219 (rdI hc 22 15 - 1).toNatClampNeg, ?_⟩
  rw [← popM_failM]
  unfold f_Mo_pop popM
  have e : rdI (failM c hm) 192 56 = rdI hc 22 15 := by
    unfold failM
    simp only [rdI_wrI, rdP_wrI, rdL_wrI, Nat.reduceEqDiff, false_and, and_false, true_and, and_true, eq_self, reduceIte, ite_self]
    exact h.s_top
  simp only [lz, bP_some, bS_some, bT_inl, bT_inr, bJT_inl, bJT_inr, bE_inl, bE_inr, bET_t, bET_inl, bET_inr, cO_t, cO_f, cS_t, cS_f, bE_bS, bE_bP, bE_gd, bET_bT, bET_bS, bET_bP, bET_gd, bJT_bT, bJT_bS, bJT_bP, bJT_gd, bJT_bJT, bP_bS, bP_bP, bP_gd, bT_bT, bT_bS, bT_bP, bT_gd, bS_bS, bS_bP, bS_gd, reduceIte]
  simp only [rdI_wrI, rdP_wrI, rdL_wrI, Nat.reduceEqDiff, false_and, and_false, true_and, and_true, eq_self, reduceIte, ite_self]
  rw [e, gd_pos (vp_lt (n := 256) (m := 256) (by grind) (by grind) rfl)]
theorem set_all {P : hH → hH → Prop} {hc hm : hH} (h : Rm P hc hm) (x y : Int32) : OK2 (f_Ma_setVectors x y 1 0 hc) (f_Mo_setVectors x y 1 1 hm) (fun a b => Rm P a.2 b.2) := by
  unfold f_Ma_setVectors f_Mo_setVectors
  simp +decide only [lz, bP_some, bS_some, bT_inl, bT_inr, bJT_inl, bJT_inr, bE_inl, bE_inr, bET_t, bET_inl, bET_inr, cO_t, cO_f, cS_t, cS_f, bE_bS, bE_bP, bE_gd, bET_bT, bET_bS, bET_bP, bET_gd, bJT_bT, bJT_bS, bJT_bP, bJT_gd, bJT_bJT, bP_bS, bP_bP, bP_gd, bT_bT, bT_bS, bT_bP, bT_gd, bS_bS, bS_bP, bS_gd, reduceIte]
  refine OK2_of rfl rfl ?_
  show Rm P (wrI (wrI (wrI (wrI (wrI (wrI hc 22 30 x) 22 31 y) 22 32 x) 22 33 y) 22 28 x) 22 29 y) (wrI (wrI (wrI (wrI (wrI (wrI hm 192 63 x) 192 64 y) 192 65 x) 192 66 y) 192 67 x) 192 68 y)
  have k := (((((h.set_px x).set_py y).set_dx x).set_dy y).set_fx x).set_fy y
  rw [wrI_comm (o := 192) (k := 68) (k' := 63) (by decide), wrI_comm (o := 192) (k := 67) (k' := 63) (by decide), wrI_comm (o := 192) (k := 66) (k' := 63) (by decide), wrI_comm (o := 192) (k := 65) (k' := 63) (by decide)] at k
  rw [wrI_comm (o := 192) (k := 68) (k' := 64) (by decide), wrI_comm (o := 192) (k := 67) (k' := 64) (by decide), wrI_comm (o := 192) (k := 66) (k' := 64) (by decide), wrI_comm (o := 192) (k := 65) (k' := 64) (by decide)] at k
  exact k
theorem set_proj {P : hH → hH → Prop} {hc hm : hH} (h : Rm P hc hm) (x y : Int32) : OK2 (f_Ma_setVectors x y 0 0 hc) (f_Mo_setVectors x y 0 1 hm) (fun a b => Rm P a.2 b.2) := by
  unfold f_Ma_setVectors f_Mo_setVectors
  simp +decide only [lz, bP_some, bS_some, bT_inl, bT_inr, bJT_inl, bJT_inr, bE_inl, bE_inr, bET_t, bET_inl, bET_inr, cO_t, cO_f, cS_t, cS_f, bE_bS, bE_bP, bE_gd, bET_bT, bET_bS, bET_bP, bET_gd, bJT_bT, bJT_bS, bJT_bP, bJT_gd, bJT_bJT, bP_bS, bP_bP, bP_gd, bT_bT, bT_bS, bT_bP, bT_gd, bS_bS, bS_bP, bS_gd, reduceIte]
  exact OK2_of rfl rfl ((((h.set_px x).set_py y).set_dx x).set_dy y)
theorem set_free {P : hH → hH → Prop} {hc hm : hH} (h : Rm P hc hm) (x y : Int32) : OK2 (f_Ma_setVectors x y 0 1 hc) (f_Mo_setVectors x y 1 0 hm) (fun a b => Rm P a.2 b.2) := by
  unfold f_Ma_setVectors f_Mo_setVectors
  simp +decide only [lz, bP_some, bS_some, bT_inl, bT_inr, bJT_inl, bJT_inr, bE_inl, bE_inr, bET_t, bET_inl, bET_inr, cO_t, cO_f, cS_t, cS_f, bE_bS, bE_bP, bE_gd, bET_bT, bET_bS, bET_bP, bET_gd, bJT_bT, bJT_bS, bJT_bP, bJT_gd, bJT_bJT, bP_bS, bP_bP, bP_gd, bT_bT, bT_bS, bT_bP, bT_gd, bS_bS, bS_bP, bS_gd, reduceIte]
  exact OK2_of rfl rfl ((h.set_fx x).set_fy y)
theorem f_Ma_setVectors_10 {x y : Int32} {h : hH} : f_Ma_setVectors x y 1 1 h = f_Ma_setVectors x y 1 0 h := by
  unfold f_Ma_setVectors
  simp +decide only [lz, bP_some, bS_some, bT_inl, bT_inr, bJT_inl, bJT_inr, bE_inl, bE_inr, bET_t, bET_inl, bET_inr, cO_t, cO_f, cS_t, cS_f, bE_bS, bE_bP, bE_gd, bET_bT, bET_bS, bET_bP, bET_gd, bJT_bT, bJT_bS, bJT_bP, bJT_gd, bJT_bJT, bP_bS, bP_bP, bP_gd, bT_bT, bT_bS, bT_bP, bT_gd, bS_bS, bS_bP, bS_gd, reduceIte]
theorem op_setAll {P : hH → hH → Prop} {hc hm : hH} (h : Rm P hc hm) {c : Int32} (hcc : c = 0 ∨ c = 1) : OK2 (f_Ma_settings c hc) (f_Mo_low c hm) (Tr P) := by
  rcases hcc with rfl | rfl <;> unfold f_Ma_settings f_Mo_low <;> simp +decide only [lz, bP_some, bS_some, bT_inl, bT_inr, bJT_inl, bJT_inr, bE_inl, bE_inr, bET_t, bET_inl, bET_inr, cO_t, cO_f, cS_t, cS_f, bE_bS, bE_bP, bE_gd, bET_bT, bET_bS, bET_bP, bET_gd, bJT_bT, bJT_bS, bJT_bP, bJT_gd, bJT_bJT, bP_bS, bP_bP, bP_gd, bT_bT, bT_bS, bT_bP, bT_gd, bS_bS, bS_bP, bS_gd, reduceIte] <;> refine OK2_bS (OK2_mono (set_all h _ _) ?_) <;> exact fun a b q => OK2_of rfl rfl (Tr_m q)
theorem op_setProj {P : hH → hH → Prop} {hc hm : hH} (h : Rm P hc hm) {c : Int32} (hcc : c = 2 ∨ c = 3) : OK2 (f_Ma_settings c hc) (f_Mo_low c hm) (Tr P) := by
  rcases hcc with rfl | rfl <;> unfold f_Ma_settings f_Mo_low <;> simp +decide only [lz, bP_some, bS_some, bT_inl, bT_inr, bJT_inl, bJT_inr, bE_inl, bE_inr, bET_t, bET_inl, bET_inr, cO_t, cO_f, cS_t, cS_f, bE_bS, bE_bP, bE_gd, bET_bT, bET_bS, bET_bP, bET_gd, bJT_bT, bJT_bS, bJT_bP, bJT_gd, bJT_bJT, bP_bS, bP_bP, bP_gd, bT_bT, bT_bS, bT_bP, bT_gd, bS_bS, bS_bP, bS_gd, reduceIte] <;> refine OK2_bS (OK2_mono (set_proj h _ _) ?_) <;> exact fun a b q => OK2_of rfl rfl (Tr_m q)
theorem op_setFree {P : hH → hH → Prop} {hc hm : hH} (h : Rm P hc hm) {c : Int32} (hcc : c = 4 ∨ c = 5) : OK2 (f_Ma_settings c hc) (f_Mo_low c hm) (Tr P) := by
  rcases hcc with rfl | rfl <;> unfold f_Ma_settings f_Mo_low <;> simp +decide only [lz, bP_some, bS_some, bT_inl, bT_inr, bJT_inl, bJT_inr, bE_inl, bE_inr, bET_t, bET_inl, bET_inr, cO_t, cO_f, cS_t, cS_f, bE_bS, bE_bP, bE_gd, bET_bT, bET_bS, bET_bP, bET_gd, bJT_bT, bJT_bS, bJT_bP, bJT_gd, bJT_bJT, bP_bS, bP_bP, bP_gd, bT_bT, bT_bS, bT_bP, bT_gd, bS_bS, bS_bP, bS_gd, reduceIte] <;> refine OK2_bS (OK2_mono (set_free h _ _) ?_) <;> exact fun a b q => OK2_of rfl rfl (Tr_m q)
theorem op_14 {P : hH → hH → Prop} {hc hm : hH} (h : Rm P hc hm) : OK2 (f_Ma_settings 14 hc) (f_Mo_low 14 hm) (Tr P) := by
  unfold f_Ma_settings f_Ma_vectors f_Mo_low
  simp +decide only [lz, bP_some, bS_some, bT_inl, bT_inr, bJT_inl, bJT_inr, bE_inl, bE_inr, bET_t, bET_inl, bET_inr, cO_t, cO_f, cS_t, cS_f, bE_bS, bE_bP, bE_gd, bET_bT, bET_bS, bET_bP, bET_gd, bJT_bT, bJT_bS, bJT_bP, bJT_gd, bJT_bJT, bP_bS, bP_bP, bP_gd, bT_bT, bT_bS, bT_bP, bT_gd, bS_bS, bS_bP, bS_gd, reduceIte]
  refine OK2_of rfl rfl (Tr_m ?_)
  simp only [rdI_wrI, rdP_wrI, rdL_wrI, Nat.reduceEqDiff, false_and, and_false, true_and, and_true, eq_self, reduceIte, ite_self]
  rw [h.s_px, h.s_py]
  exact (h.set_fx _).set_fy _
theorem op_23 {P : hH → hH → Prop} {hc hm : hH} (h : Rm P hc hm) : OK2 (f_Ma_settings 23 hc) (f_Mo_low 23 hm) (Tr P) := by
  unfold f_Ma_settings f_Ma_kept f_Mo_low
  simp +decide only [lz, bP_some, bS_some, bT_inl, bT_inr, bJT_inl, bJT_inr, bE_inl, bE_inr, bET_t, bET_inl, bET_inr, cO_t, cO_f, cS_t, cS_f, bE_bS, bE_bP, bE_gd, bET_bT, bET_bS, bET_bP, bET_gd, bJT_bT, bJT_bS, bJT_bP, bJT_gd, bJT_bJT, bP_bS, bP_bP, bP_gd, bT_bT, bT_bS, bT_bP, bT_gd, bS_bS, bS_bP, bS_gd, reduceIte]
  by_cases q : 1 ≤ rdI hc 22 15
  · simp +decide only [need_T q, has_T h q, f_Ma_pop_eq q h.top256, f_Mo_pop_eq h q, f_HH_within_eq, f_Mo_in_eq, lz, bP_some, bS_some, bT_inl, bT_inr, bJT_inl, bJT_inr, bE_inl, bE_inr, bET_t, bET_inl, bET_inr, cO_t, cO_f, cS_t, cS_f, bE_bS, bE_bP, bE_gd, bET_bT, bET_bS, bET_bP, bET_gd, bJT_bT, bJT_bS, bJT_bP, bJT_gd, bJT_bJT, bP_bS, bP_bP, bP_gd, bT_bT, bT_bS, bT_bP, bT_gd, bS_bS, bS_bP, bS_gd, reduceIte]
    have k := h.pop q
    by_cases w : (1 : Int64) ≤ (tpC hc).toInt64 ∧ (tpC hc).toInt64 ≤ 65535
    · simp +decide only [if_pos w, f_Ma_want_1, lz, bP_some, bS_some, bT_inl, bT_inr, bJT_inl, bJT_inr, bE_inl, bE_inr, bET_t, bET_inl, bET_inr, cO_t, cO_f, cS_t, cS_f, bE_bS, bE_bP, bE_gd, bET_bT, bET_bS, bET_bP, bET_gd, bJT_bT, bJT_bS, bJT_bP, bJT_gd, bJT_bJT, bP_bS, bP_bP, bP_gd, bT_bT, bT_bS, bT_bP, bT_gd, bS_bS, bS_bP, bS_gd, reduceIte]
      refine OK2_of rfl rfl (Tr_m (k.set_loop ?_))
      rw [Int64.le_iff_toInt_le, Int64.le_iff_toInt_le, Int32.toInt_toInt64] at w
      rw [Int32.le_iff_toInt_le, Int32.le_iff_toInt_le]
      exact w
    · simp +decide only [if_neg w, f_Ma_want_0, f_Mo_fail_eq k.fail, lz, bP_some, bS_some, bT_inl, bT_inr, bJT_inl, bJT_inr, bE_inl, bE_inr, bET_t, bET_inl, bET_inr, cO_t, cO_f, cS_t, cS_f, bE_bS, bE_bP, bE_gd, bET_bT, bET_bS, bET_bP, bET_gd, bJT_bT, bJT_bS, bJT_bP, bJT_gd, bJT_bJT, bP_bS, bP_bP, bP_gd, bT_bT, bT_bS, bT_bP, bT_gd, bS_bS, bS_bP, bS_gd, reduceIte]
      exact OK2_of rfl rfl (Tr_f ((k.fails (by decide)).mw _ rfl (by decide)))
  · have q' := le_of_not q
    simp +decide only [need_F q', has_F h q', lz, bP_some, bS_some, bT_inl, bT_inr, bJT_inl, bJT_inr, bE_inl, bE_inr, bET_t, bET_inl, bET_inr, cO_t, cO_f, cS_t, cS_f, bE_bS, bE_bP, bE_gd, bET_bT, bET_bS, bET_bP, bET_gd, bJT_bT, bJT_bS, bJT_bP, bJT_gd, bJT_bJT, bP_bS, bP_bP, bP_gd, bT_bT, bT_bS, bT_bP, bT_gd, bS_bS, bS_bP, bS_gd, reduceIte]
    exact OK2_of rfl rfl (Tr_f (h.fails (by decide)))
theorem Rm.rounding {P : hH → hH → Prop} {hc hm : hH} (h : Rm P hc hm) {w a b c : Int32} (hw : ¬ w = 122) (ha : 1 ≤ a ∧ a ≤ 128) : OK2 (f_Ma_rounding a b c hc) (f_Mo_setRounding w a b c hm) (fun x y => Rm P x.2 y.2) := by
  unfold f_Ma_rounding f_Mo_setRounding
  simp only [lz]
  exact OK2_of rfl rfl ((((h.set_rounds (w := w) (v := 1) (by rw [if_neg hw])).set_period ha).set_phase b).set_thr c)
theorem op_24 {P : hH → hH → Prop} {hc hm : hH} (h : Rm P hc hm) {c : Int32} (hcc : c = 24 ∨ c = 25) : OK2 (f_Ma_settings c hc) (f_Mo_low c hm) (Tr P) := by
  rcases hcc with rfl | rfl <;> unfold f_Ma_settings f_Ma_kept f_Mo_low <;> simp +decide only [lz, bP_some, bS_some, bT_inl, bT_inr, bJT_inl, bJT_inr, bE_inl, bE_inr, bET_t, bET_inl, bET_inr, cO_t, cO_f, cS_t, cS_f, bE_bS, bE_bP, bE_gd, bET_bT, bET_bS, bET_bP, bET_gd, bJT_bT, bJT_bS, bJT_bP, bJT_gd, bJT_bJT, bP_bS, bP_bP, bP_gd, bT_bT, bT_bS, bT_bP, bT_gd, bS_bS, bS_bP, bS_gd, reduceIte]
  · obtain ⟨x, y, e, e', q⟩ := h.rounding (w := 24) (a := 64) (b := 0) (c := 32) (by decide) (by decide)
    rw [e, e']
    exact OK2_of rfl rfl (Tr_m q)
  · obtain ⟨x, y, e, e', q⟩ := h.rounding (w := 25) (a := 64) (b := 32) (c := 32) (by decide) (by decide)
    rw [e, e']
    exact OK2_of rfl rfl (Tr_m q)
theorem op_26 {P : hH → hH → Prop} {hc hm : hH} (h : Rm P hc hm) : OK2 (f_Ma_settings 26 hc) (f_Mo_low 26 hm) (Tr P) := by
  unfold f_Ma_settings f_Ma_kept f_Mo_low
  simp +decide only [lz, bP_some, bS_some, bT_inl, bT_inr, bJT_inl, bJT_inr, bE_inl, bE_inr, bET_t, bET_inl, bET_inr, cO_t, cO_f, cS_t, cS_f, bE_bS, bE_bP, bE_gd, bET_bT, bET_bS, bET_bP, bET_gd, bJT_bT, bJT_bS, bJT_bP, bJT_gd, bJT_bJT, bP_bS, bP_bP, bP_gd, bT_bT, bT_bS, bT_bP, bT_gd, bS_bS, bS_bP, bS_gd, reduceIte]
  by_cases q : 1 ≤ rdI hc 22 15
  · simp +decide only [need_T q, has_T h q, f_Ma_pop_eq q h.top256, f_Mo_pop_eq h q, lz, bP_some, bS_some, bT_inl, bT_inr, bJT_inl, bJT_inr, bE_inl, bE_inr, bET_t, bET_inl, bET_inr, cO_t, cO_f, cS_t, cS_f, bE_bS, bE_bP, bE_gd, bET_bT, bET_bS, bET_bP, bET_gd, bJT_bT, bJT_bS, bJT_bP, bJT_gd, bJT_bJT, bP_bS, bP_bP, bP_gd, bT_bT, bT_bS, bT_bP, bT_gd, bS_bS, bS_bP, bS_gd, reduceIte]
    exact OK2_of rfl rfl (Tr_m ((h.pop q).set_least _))
  · have q' := le_of_not q
    simp +decide only [need_F q', has_F h q', lz, bP_some, bS_some, bT_inl, bT_inr, bJT_inl, bJT_inr, bE_inl, bE_inr, bET_t, bET_inl, bET_inr, cO_t, cO_f, cS_t, cS_f, bE_bS, bE_bP, bE_gd, bET_bT, bET_bS, bET_bP, bET_gd, bJT_bT, bJT_bS, bJT_bP, bJT_gd, bJT_bJT, bP_bS, bP_bP, bP_gd, bT_bT, bT_bS, bT_bP, bT_gd, bS_bS, bS_bP, bS_gd, reduceIte]
    exact OK2_of rfl rfl (Tr_f ((h.fails (by decide)).mw _ rfl (by decide)))
theorem op_29 {P : hH → hH → Prop} {hc hm : hH} (h : Rm P hc hm) : OK2 (f_Ma_settings 29 hc) (f_Mo_low 29 hm) (Tr P) := by
  unfold f_Ma_settings f_Ma_kept f_Mo_low
  simp +decide only [lz, bP_some, bS_some, bT_inl, bT_inr, bJT_inl, bJT_inr, bE_inl, bE_inr, bET_t, bET_inl, bET_inr, cO_t, cO_f, cS_t, cS_f, bE_bS, bE_bP, bE_gd, bET_bT, bET_bS, bET_bP, bET_gd, bJT_bT, bJT_bS, bJT_bP, bJT_gd, bJT_bJT, bP_bS, bP_bP, bP_gd, bT_bT, bT_bS, bT_bP, bT_gd, bS_bS, bS_bP, bS_gd, reduceIte]
  by_cases q : 1 ≤ rdI hc 22 15
  · simp +decide only [need_T q, has_T h q, f_Ma_pop_eq q h.top256, f_Mo_pop_eq h q, lz, bP_some, bS_some, bT_inl, bT_inr, bJT_inl, bJT_inr, bE_inl, bE_inr, bET_t, bET_inl, bET_inr, cO_t, cO_f, cS_t, cS_f, bE_bS, bE_bP, bE_gd, bET_bT, bET_bS, bET_bP, bET_gd, bJT_bT, bJT_bS, bJT_bP, bJT_gd, bJT_bJT, bP_bS, bP_bP, bP_gd, bT_bT, bT_bS, bT_bP, bT_gd, bS_bS, bS_bP, bS_gd, reduceIte]
    exact OK2_of rfl rfl (Tr_m ((h.pop q).set_cut _))
  · have q' := le_of_not q
    simp +decide only [need_F q', has_F h q', lz, bP_some, bS_some, bT_inl, bT_inr, bJT_inl, bJT_inr, bE_inl, bE_inr, bET_t, bET_inl, bET_inr, cO_t, cO_f, cS_t, cS_f, bE_bS, bE_bP, bE_gd, bET_bT, bET_bS, bET_bP, bET_gd, bJT_bT, bJT_bS, bJT_bP, bJT_gd, bJT_bJT, bP_bS, bP_bP, bP_gd, bT_bT, bT_bS, bT_bP, bT_gd, bS_bS, bS_bP, bS_gd, reduceIte]
    exact OK2_of rfl rfl (Tr_f ((h.fails (by decide)).mw _ rfl (by decide)))
theorem op_30 {P : hH → hH → Prop} {hc hm : hH} (h : Rm P hc hm) : OK2 (f_Ma_settings 30 hc) (f_Mo_low 30 hm) (Tr P) := by
  unfold f_Ma_settings f_Ma_kept f_Mo_low
  simp +decide only [lz, bP_some, bS_some, bT_inl, bT_inr, bJT_inl, bJT_inr, bE_inl, bE_inr, bET_t, bET_inl, bET_inr, cO_t, cO_f, cS_t, cS_f, bE_bS, bE_bP, bE_gd, bET_bT, bET_bS, bET_bP, bET_gd, bJT_bT, bJT_bS, bJT_bP, bJT_gd, bJT_bJT, bP_bS, bP_bP, bP_gd, bT_bT, bT_bS, bT_bP, bT_gd, bS_bS, bS_bP, bS_gd, reduceIte]
  by_cases q : 1 ≤ rdI hc 22 15
  · simp +decide only [need_T q, has_T h q, f_Ma_pop_eq q h.top256, f_Mo_pop_eq h q, lz, bP_some, bS_some, bT_inl, bT_inr, bJT_inl, bJT_inr, bE_inl, bE_inr, bET_t, bET_inl, bET_inr, cO_t, cO_f, cS_t, cS_f, bE_bS, bE_bP, bE_gd, bET_bT, bET_bS, bET_bP, bET_gd, bJT_bT, bJT_bS, bJT_bP, bJT_gd, bJT_bJT, bP_bS, bP_bP, bP_gd, bT_bT, bT_bS, bT_bP, bT_gd, bS_bS, bS_bP, bS_gd, reduceIte]
    exact OK2_of rfl rfl (Tr_m ((h.pop q).set_scut _))
  · have q' := le_of_not q
    simp +decide only [need_F q', has_F h q', lz, bP_some, bS_some, bT_inl, bT_inr, bJT_inl, bJT_inr, bE_inl, bE_inr, bET_t, bET_inl, bET_inr, cO_t, cO_f, cS_t, cS_f, bE_bS, bE_bP, bE_gd, bET_bT, bET_bS, bET_bP, bET_gd, bJT_bT, bJT_bS, bJT_bP, bJT_gd, bJT_bJT, bP_bS, bP_bP, bP_gd, bT_bT, bT_bS, bT_bP, bT_gd, bS_bS, bS_bP, bS_gd, reduceIte]
    exact OK2_of rfl rfl (Tr_f ((h.fails (by decide)).mw _ rfl (by decide)))
theorem op_16 {P : hH → hH → Prop} {hc hm : hH} (h : Rm P hc hm) : OK2 (f_Ma_settings 16 hc) (f_Mo_low 16 hm) (Tr P) := by
  unfold f_Ma_settings f_Ma_pointers f_Mo_low
  simp +decide only [lz, bP_some, bS_some, bT_inl, bT_inr, bJT_inl, bJT_inr, bE_inl, bE_inr, bET_t, bET_inl, bET_inr, cO_t, cO_f, cS_t, cS_f, bE_bS, bE_bP, bE_gd, bET_bT, bET_bS, bET_bP, bET_gd, bJT_bT, bJT_bS, bJT_bP, bJT_gd, bJT_bJT, bP_bS, bP_bP, bP_gd, bT_bT, bT_bS, bT_bP, bT_gd, bS_bS, bS_bP, bS_gd, reduceIte]
  by_cases q : 1 ≤ rdI hc 22 15
  · simp +decide only [need_T q, has_T h q, f_Ma_pop_eq q h.top256, f_Mo_pop_eq h q, gd_pos (show vp_in ((16 : Int32) - 16) 3 from vp_lit ⟨by decide, by decide⟩), lz, bP_some, bS_some, bT_inl, bT_inr, bJT_inl, bJT_inr, bE_inl, bE_inr, bET_t, bET_inl, bET_inr, cO_t, cO_f, cS_t, cS_f, bE_bS, bE_bP, bE_gd, bET_bT, bET_bS, bET_bP, bET_gd, bJT_bT, bJT_bS, bJT_bP, bJT_gd, bJT_bJT, bP_bS, bP_bP, bP_gd, bT_bT, bT_bS, bT_bP, bT_gd, bS_bS, bS_bP, bS_gd, reduceIte]
    exact OK2_of rfl rfl (Tr_m ((h.pop q).set_rp0 _))
  · have q' := le_of_not q
    simp +decide only [need_F q', has_F h q', lz, bP_some, bS_some, bT_inl, bT_inr, bJT_inl, bJT_inr, bE_inl, bE_inr, bET_t, bET_inl, bET_inr, cO_t, cO_f, cS_t, cS_f, bE_bS, bE_bP, bE_gd, bET_bT, bET_bS, bET_bP, bET_gd, bJT_bT, bJT_bS, bJT_bP, bJT_gd, bJT_bJT, bP_bS, bP_bP, bP_gd, bT_bT, bT_bS, bT_bP, bT_gd, bS_bS, bS_bP, bS_gd, reduceIte]
    exact OK2_of rfl rfl (Tr_f ((h.fails (by decide)).mw _ rfl (by decide)))
theorem op_17 {P : hH → hH → Prop} {hc hm : hH} (h : Rm P hc hm) : OK2 (f_Ma_settings 17 hc) (f_Mo_low 17 hm) (Tr P) := by
  unfold f_Ma_settings f_Ma_pointers f_Mo_low
  simp +decide only [lz, bP_some, bS_some, bT_inl, bT_inr, bJT_inl, bJT_inr, bE_inl, bE_inr, bET_t, bET_inl, bET_inr, cO_t, cO_f, cS_t, cS_f, bE_bS, bE_bP, bE_gd, bET_bT, bET_bS, bET_bP, bET_gd, bJT_bT, bJT_bS, bJT_bP, bJT_gd, bJT_bJT, bP_bS, bP_bP, bP_gd, bT_bT, bT_bS, bT_bP, bT_gd, bS_bS, bS_bP, bS_gd, reduceIte]
  by_cases q : 1 ≤ rdI hc 22 15
  · simp +decide only [need_T q, has_T h q, f_Ma_pop_eq q h.top256, f_Mo_pop_eq h q, gd_pos (show vp_in ((17 : Int32) - 16) 3 from vp_lit ⟨by decide, by decide⟩), lz, bP_some, bS_some, bT_inl, bT_inr, bJT_inl, bJT_inr, bE_inl, bE_inr, bET_t, bET_inl, bET_inr, cO_t, cO_f, cS_t, cS_f, bE_bS, bE_bP, bE_gd, bET_bT, bET_bS, bET_bP, bET_gd, bJT_bT, bJT_bS, bJT_bP, bJT_gd, bJT_bJT, bP_bS, bP_bP, bP_gd, bT_bT, bT_bS, bT_bP, bT_gd, bS_bS, bS_bP, bS_gd, reduceIte]
    exact OK2_of rfl rfl (Tr_m ((h.pop q).set_rp1 _))
  · have q' := le_of_not q
    simp +decide only [need_F q', has_F h q', lz, bP_some, bS_some, bT_inl, bT_inr, bJT_inl, bJT_inr, bE_inl, bE_inr, bET_t, bET_inl, bET_inr, cO_t, cO_f, cS_t, cS_f, bE_bS, bE_bP, bE_gd, bET_bT, bET_bS, bET_bP, bET_gd, bJT_bT, bJT_bS, bJT_bP, bJT_gd, bJT_bJT, bP_bS, bP_bP, bP_gd, bT_bT, bT_bS, bT_bP, bT_gd, bS_bS, bS_bP, bS_gd, reduceIte]
    exact OK2_of rfl rfl (Tr_f ((h.fails (by decide)).mw _ rfl (by decide)))
theorem op_18 {P : hH → hH → Prop} {hc hm : hH} (h : Rm P hc hm) : OK2 (f_Ma_settings 18 hc) (f_Mo_low 18 hm) (Tr P) := by
  unfold f_Ma_settings f_Ma_pointers f_Mo_low
  simp +decide only [lz, bP_some, bS_some, bT_inl, bT_inr, bJT_inl, bJT_inr, bE_inl, bE_inr, bET_t, bET_inl, bET_inr, cO_t, cO_f, cS_t, cS_f, bE_bS, bE_bP, bE_gd, bET_bT, bET_bS, bET_bP, bET_gd, bJT_bT, bJT_bS, bJT_bP, bJT_gd, bJT_bJT, bP_bS, bP_bP, bP_gd, bT_bT, bT_bS, bT_bP, bT_gd, bS_bS, bS_bP, bS_gd, reduceIte]
  by_cases q : 1 ≤ rdI hc 22 15
  · simp +decide only [need_T q, has_T h q, f_Ma_pop_eq q h.top256, f_Mo_pop_eq h q, gd_pos (show vp_in ((18 : Int32) - 16) 3 from vp_lit ⟨by decide, by decide⟩), lz, bP_some, bS_some, bT_inl, bT_inr, bJT_inl, bJT_inr, bE_inl, bE_inr, bET_t, bET_inl, bET_inr, cO_t, cO_f, cS_t, cS_f, bE_bS, bE_bP, bE_gd, bET_bT, bET_bS, bET_bP, bET_gd, bJT_bT, bJT_bS, bJT_bP, bJT_gd, bJT_bJT, bP_bS, bP_bP, bP_gd, bT_bT, bT_bS, bT_bP, bT_gd, bS_bS, bS_bP, bS_gd, reduceIte]
    exact OK2_of rfl rfl (Tr_m ((h.pop q).set_rp2 _))
  · have q' := le_of_not q
    simp +decide only [need_F q', has_F h q', lz, bP_some, bS_some, bT_inl, bT_inr, bJT_inl, bJT_inr, bE_inl, bE_inr, bET_t, bET_inl, bET_inr, cO_t, cO_f, cS_t, cS_f, bE_bS, bE_bP, bE_gd, bET_bT, bET_bS, bET_bP, bET_gd, bJT_bT, bJT_bS, bJT_bP, bJT_gd, bJT_bJT, bP_bS, bP_bP, bP_gd, bT_bT, bT_bS, bT_bP, bT_gd, bS_bS, bS_bP, bS_gd, reduceIte]
    exact OK2_of rfl rfl (Tr_f ((h.fails (by decide)).mw _ rfl (by decide)))
