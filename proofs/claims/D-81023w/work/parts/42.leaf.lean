/-! LAYER 3d: the machine's leaves -/
theorem over_one (a : Int64) : f_HH_over a 16384 = some (ov a 16384) := f_HH_over_eq (by decide)
theorem mover_one (a : Int64) : f_Mo_over a 16384 = some (ov a 16384) := f_Mo_over_eq (by decide) (by decide)
noncomputable def al (x y u v : Int32) : Int32 := Int64.toInt32 (ov (x.toInt64 * u.toInt64 + y.toInt64 * v.toInt64) 16384)
theorem f_Ma_along_eq (x y u v : Int32) : f_Ma_along x y u v = some (al x y u v) := by unfold f_Ma_along al; rw [over_one]; rfl
theorem f_Mo_by_eq (x y u v : Int32) : f_Mo_by x y u v = some (al x y u v) := by unfold f_Mo_by al; rw [mover_one]; rfl
/-! failures -/
def failC (c : Int32) (h : hH) : hH := wrI h 22 13 c
def failM (c : Int32) (h : hH) : hH := wrI (wrI h 192 59 c) 192 60 (rdI h 192 61)
theorem f_Ma_want_0 (c : Int32) (h : hH) : f_Ma_want 0 c h = some (.inl (failC c h)) := rfl
theorem f_Ma_want_1 (c : Int32) (h : hH) : f_Ma_want 1 c h = some (.inr ((), h)) := rfl
theorem f_Mo_fail_eq {c : Int32} {h : hH} (q : rdI h 192 59 = 0) : f_Mo_fail c h = some ((), failM c h) := by
  unfold f_Mo_fail failM
  rw [if_pos q]
  rfl
theorem f_Mo_fail_F {c : Int32} {h : hH} (q : ¬ rdI h 192 59 = 0) : f_Mo_fail c h = some ((), h) := by
  unfold f_Mo_fail
  rw [if_neg q]
theorem FT_1 {hc hm : hH} {b : Int32} (h : FT hc hm b) : FT hc hm 1 := by
  intro i hi
  rcases h i hi with q | ⟨a, b, c, d⟩
  · exact Or.inl q
  · exact Or.inr ⟨a, b, ⟨c.1, d, c.2.2⟩, d⟩
theorem OW_1 {hc hm : hH} {b : Int32} (h : OW hc hm b) : OW hc hm 1 := by
  obtain ⟨a, b, c, d, e⟩ := h
  refine ⟨a, b, ?_, d, e⟩
  intro i hi
  obtain ⟨c1, c2, c3, c4, c5, c6⟩ := c i hi
  exact ⟨c1, c2, c3, c4, ⟨c5.1, c6, c5.2.2⟩, c6⟩
theorem Rm.fails {P : hH → hH → Prop} {hc hm : hH} (h : Rm P hc hm) {c : Int32} (hc0 : 0 < c ∧ c ≤ 100) : Rf P (failC c hc) (failM c hm) := by
  unfold failC failM
  refine Rf.mk h.cl (h.cl.m rfl (h.cl.m rfl (h.cl.c rfl h.out))) ?_ ?_ ?_ ?_ ?_ ?_ ?_ ?_ (by simp only [rdI_wrI, rdP_wrI, rdL_wrI, Nat.reduceEqDiff, false_and, and_false, true_and, and_true, eq_self, reduceIte, ite_self]; exact hc0.2)
  · simp only [rdI_wrI, rdP_wrI, rdL_wrI, Nat.reduceEqDiff, false_and, and_false, true_and, and_true, eq_self, reduceIte, ite_self]
  · simp only [rdI_wrI, rdP_wrI, rdL_wrI, Nat.reduceEqDiff, false_and, and_false, true_and, and_true, eq_self, reduceIte, ite_self]; exact hc0.1
  · simp only [rdI_wrI, rdP_wrI, rdL_wrI, Nat.reduceEqDiff, false_and, and_false, true_and, and_true, eq_self, reduceIte, ite_self]; exact h.s_at
  · simp only [rdI_wrI, rdP_wrI, rdL_wrI, Nat.reduceEqDiff, false_and, and_false, true_and, and_true, eq_self, reduceIte, ite_self]; exact h.s_steps
  · simp only [rdI_wrI, rdP_wrI, rdL_wrI, Nat.reduceEqDiff, false_and, and_false, true_and, and_true, eq_self, reduceIte, ite_self]; exact h.s_high
  · simp only [rdI_wrI, rdP_wrI, rdL_wrI, Nat.reduceEqDiff, false_and, and_false, true_and, and_true, eq_self, reduceIte, ite_self]; exact ⟨Int32.le_trans h.r_top.1 h.r_high.1, h.r_high.2⟩
  · simp only [rdI_wrI, rdP_wrI, rdL_wrI, Nat.reduceEqDiff, false_and, and_false, true_and, and_true, eq_self, reduceIte, ite_self]; exact h.r_steps
  · intro _
    have a := h.s_owns
    have b := FT_1 h.ft
    have c := OW_1 h.ow
    simp only [FT, OW, PL, PO] at b c ⊢
    simp only [rdI_wrI, rdP_wrI, rdL_wrI, Nat.reduceEqDiff, false_and, and_false, true_and, and_true, eq_self, reduceIte, ite_self]
    exact ⟨a, b, c⟩
theorem failM_F {c : Int32} {h : hH} : rdI (failM c h) 192 59 = c := by unfold failM; simp only [rdI_wrI, rdP_wrI, rdL_wrI, Nat.reduceEqDiff, false_and, and_false, true_and, and_true, eq_self, reduceIte, ite_self]
/-! what is needed on the stack -/
theorem need_F {n : Int32} {h : hH} (q : rdI h 22 15 < n) : f_Ma_need n h = some (.inl (failC 1 h)) := by
  unfold f_Ma_need
  simp only [lz, bP_some, bS_some, bT_inl, bT_inr, bJT_inl, bJT_inr, bE_inl, bE_inr, bET_t, bET_inl, bET_inr, cO_t, cO_f, cS_t, cS_f, bE_bS, bE_bP, bE_gd, bET_bT, bET_bS, bET_bP, bET_gd, bJT_bT, bJT_bS, bJT_bP, bJT_gd, bJT_bJT, bP_bS, bP_bP, bP_gd, bT_bT, bT_bS, bT_bP, bT_gd, bS_bS, bS_bP, bS_gd, reduceIte]
  rw [if_pos q, f_Ma_want_0]
  rfl
theorem need_T {n : Int32} {h : hH} (q : n ≤ rdI h 22 15) : f_Ma_need n h = some (.inr ((), h)) := by
  unfold f_Ma_need
  simp only [lz, bP_some, bS_some, bT_inl, bT_inr, bJT_inl, bJT_inr, bE_inl, bE_inr, bET_t, bET_inl, bET_inr, cO_t, cO_f, cS_t, cS_f, bE_bS, bE_bP, bE_gd, bET_bT, bET_bS, bET_bP, bET_gd, bJT_bT, bJT_bS, bJT_bP, bJT_gd, bJT_bJT, bP_bS, bP_bP, bP_gd, bT_bT, bT_bS, bT_bP, bT_gd, bS_bS, bS_bP, bS_gd, reduceIte]
  rw [if_neg (Int32.not_lt.mpr q), f_Ma_want_1]
  rfl
theorem has_F {P : hH → hH → Prop} {hc hm : hH} (h : Rm P hc hm) {n : Int32} (q : rdI hc 22 15 < n) : f_Mo_has n hm = some (0, failM 1 hm) := by
  unfold f_Mo_has
  rw [h.s_top, if_pos ⟨h.fail, Int32.not_le.mpr q⟩, f_Mo_fail_eq h.fail]
  simp only [bS_some, bP_some, failM_F]
  rw [if_neg (by decide)]
theorem has_T {P : hH → hH → Prop} {hc hm : hH} (h : Rm P hc hm) {n : Int32} (q : n ≤ rdI hc 22 15) : f_Mo_has n hm = some (1, hm) := by
  unfold f_Mo_has
  rw [h.s_top, if_neg (fun w => w.2 q)]
  simp only [bP_some]
  rw [if_pos h.fail]
/-! the stack -/
def popC (h : hH) : hH := wrI h 22 15 (rdI h 22 15 - 1)
def popM (h : hH) : hH := wrI h 192 56 (rdI h 192 56 - 1)
def tpC (h : hH) : Int32 := rdI h 43 (rdI h 22 15 - 1).toNatClampNeg
theorem f_Ma_pop_eq {h : hH} (h1 : 1 ≤ rdI h 22 15) (h2 : rdI h 22 15 ≤ 256) : f_Ma_pop h = some (tpC h, popC h) := by
  unfold f_Ma_pop tpC popC
  simp only [lz, bP_some, bS_some, bT_inl, bT_inr, bJT_inl, bJT_inr, bE_inl, bE_inr, bET_t, bET_inl, bET_inr, cO_t, cO_f, cS_t, cS_f, bE_bS, bE_bP, bE_gd, bET_bT, bET_bS, bET_bP, bET_gd, bJT_bT, bJT_bS, bJT_bP, bJT_gd, bJT_bJT, bP_bS, bP_bP, bP_gd, bT_bT, bT_bS, bT_bP, bT_gd, bS_bS, bS_bP, bS_gd, reduceIte]
  simp only [rdI_wrI, rdP_wrI, rdL_wrI, Nat.reduceEqDiff, false_and, and_false, true_and, and_true, eq_self, reduceIte, ite_self]
  rw [gd_pos (vp_lt (n := 256) (m := 256) (by grind) (by grind) rfl)]
theorem Rm.top256 {P : hH → hH → Prop} {hc hm : hH} (h : Rm P hc hm) : rdI hc 22 15 ≤ 256 := Int32.le_trans h.r_top.2 h.r_stk.2
theorem f_Mo_pop_eq {P : hH → hH → Prop} {hc hm : hH} (h : Rm P hc hm) (h1 : 1 ≤ rdI hc 22 15) : f_Mo_pop hm = some (tpC hc, popM hm) := by
  have h2 := h.top256
  unfold f_Mo_pop tpC popM
  simp only [lz, bP_some, bS_some, bT_inl, bT_inr, bJT_inl, bJT_inr, bE_inl, bE_inr, bET_t, bET_inl, bET_inr, cO_t, cO_f, cS_t, cS_f, bE_bS, bE_bP, bE_gd, bET_bT, bET_bS, bET_bP, bET_gd, bJT_bT, bJT_bS, bJT_bP, bJT_gd, bJT_bJT, bP_bS, bP_bP, bP_gd, bT_bT, bT_bS, bT_bP, bT_gd, bS_bS, bS_bP, bS_gd, reduceIte]
  simp only [rdI_wrI, rdP_wrI, rdL_wrI, Nat.reduceEqDiff, false_and, and_false, true_and, and_true, eq_self, reduceIte, ite_self]
  rw [h.s_top, gd_pos (vp_lt (n := 256) (m := 256) (by grind) (by grind) rfl)]
  rw [h.a_stk _ ((xI_lt (by grind) (by grind)).mpr (by grind))]
theorem Rm.pop {P : hH → hH → Prop} {hc hm : hH} (h : Rm P hc hm) (h1 : 1 ≤ rdI hc 22 15) : Rm P (popC hc) (popM hm) := by
  have h2 := h.top256
  unfold popC popM
  rw [h.s_top]
  exact h.set_top (by grind)
theorem popC_top {h : hH} : rdI (popC h) 22 15 = rdI h 22 15 - 1 := by unfold popC; simp only [rdI_wrI, rdP_wrI, rdL_wrI, Nat.reduceEqDiff, false_and, and_false, true_and, and_true, eq_self, reduceIte, ite_self]
theorem popC_o {h : hH} {o k : Nat} (q : ¬ (o = 22 ∧ k = 15)) : rdI (popC h) o k = rdI h o k := if_neg q
theorem popC_p {h : hH} {o k : Nat} : rdP (popC h) o k = rdP h o k := rfl
def pushC (v : Int32) (h : hH) : hH := wrI (wrI (wrI h 43 (rdI h 22 15).toNatClampNeg v) 22 15 (rdI h 22 15 + 1)) 22 6 (if rdI h 22 6 < rdI h 22 15 + 1 then rdI h 22 15 + 1 else rdI h 22 6)
def pushM (v : Int32) (h : hH) : hH := wrI (wrI (wrI h 219 (rdI h 192 56).toNatClampNeg v) 192 56 (rdI h 192 56 + 1)) 192 57 (if rdI h 192 56 + 1 ≤ rdI h 192 57 then rdI h 192 57 else rdI h 192 56 + 1)
theorem f_Ma_push_T {v : Int64} {h : hH} (h0 : 0 ≤ rdI h 22 15) (h1 : rdI h 22 15 < rdI h 4 14) (h2 : rdI h 4 14 ≤ 256) : f_Ma_push v h = some (.inr ((), pushC v.toInt32 h)) := by
  unfold f_Ma_push pushC
  simp only [lz, bP_some, bS_some, bT_inl, bT_inr, bJT_inl, bJT_inr, bE_inl, bE_inr, bET_t, bET_inl, bET_inr, cO_t, cO_f, cS_t, cS_f, bE_bS, bE_bP, bE_gd, bET_bT, bET_bS, bET_bP, bET_gd, bJT_bT, bJT_bS, bJT_bP, bJT_gd, bJT_bJT, bP_bS, bP_bP, bP_gd, bT_bT, bT_bS, bT_bP, bT_gd, bS_bS, bS_bP, bS_gd, reduceIte]
  rw [if_neg (Int32.not_le.mpr h1), f_Ma_want_1]
  simp only [lz, bP_some, bS_some, bT_inl, bT_inr, bJT_inl, bJT_inr, bE_inl, bE_inr, bET_t, bET_inl, bET_inr, cO_t, cO_f, cS_t, cS_f, bE_bS, bE_bP, bE_gd, bET_bT, bET_bS, bET_bP, bET_gd, bJT_bT, bJT_bS, bJT_bP, bJT_gd, bJT_bJT, bP_bS, bP_bP, bP_gd, bT_bT, bT_bS, bT_bP, bT_gd, bS_bS, bS_bP, bS_gd, reduceIte]
  rw [gd_pos (vp_lt (n := 256) (m := 256) h0 (by grind) rfl)]
  simp only [f_JM_max_2_eq, bP_some]
  simp only [rdI_wrI, rdP_wrI, rdL_wrI, Nat.reduceEqDiff, false_and, and_false, true_and, and_true, eq_self, reduceIte, ite_self]
theorem f_Ma_push_F {v : Int64} {h : hH} (h1 : rdI h 4 14 ≤ rdI h 22 15) : f_Ma_push v h = some (.inl (failC 2 h)) := by
  unfold f_Ma_push
  simp only [lz, bP_some, bS_some, bT_inl, bT_inr, bJT_inl, bJT_inr, bE_inl, bE_inr, bET_t, bET_inl, bET_inr, cO_t, cO_f, cS_t, cS_f, bE_bS, bE_bP, bE_gd, bET_bT, bET_bS, bET_bP, bET_gd, bJT_bT, bJT_bS, bJT_bP, bJT_gd, bJT_bJT, bP_bS, bP_bP, bP_gd, bT_bT, bT_bS, bT_bP, bT_gd, bS_bS, bS_bP, bS_gd, reduceIte]
  rw [if_pos h1, f_Ma_want_0]
  rfl
theorem f_Mo_push_T {P : hH → hH → Prop} {hc hm : hH} (h : Rm P hc hm) {v : Int64} (h1 : rdI hc 22 15 < rdI hc 4 14) : f_Mo_push v hm = some ((), pushM v.toInt32 hm) := by
  have h2 := h.r_stk.2
  have h0 := h.r_top.1
  unfold f_Mo_push pushM
  rw [h.s_top, h.s_stk, if_pos h1]
  rw [gd_pos (vp_lt (n := 256) (m := 256) h0 (by grind) rfl)]
  simp only [lz, bP_some, bS_some, bT_inl, bT_inr, bJT_inl, bJT_inr, bE_inl, bE_inr, bET_t, bET_inl, bET_inr, cO_t, cO_f, cS_t, cS_f, bE_bS, bE_bP, bE_gd, bET_bT, bET_bS, bET_bP, bET_gd, bJT_bT, bJT_bS, bJT_bP, bJT_gd, bJT_bJT, bP_bS, bP_bP, bP_gd, bT_bT, bT_bS, bT_bP, bT_gd, bS_bS, bS_bP, bS_gd, reduceIte]
  simp only [rdI_wrI, rdP_wrI, rdL_wrI, Nat.reduceEqDiff, false_and, and_false, true_and, and_true, eq_self, reduceIte, ite_self]
  rw [h.s_top]
theorem f_Mo_push_F {P : hH → hH → Prop} {hc hm : hH} (h : Rm P hc hm) {v : Int64} (h1 : rdI hc 4 14 ≤ rdI hc 22 15) : f_Mo_push v hm = some ((), failM 2 hm) := by
  unfold f_Mo_push
  rw [h.s_top, h.s_stk, if_neg (Int32.not_lt.mpr h1), f_Mo_fail_eq h.fail]
  rfl
/-- a push onto a full stack of one that failed -/
theorem f_Mo_push_X {hm : hH} {v : Int64} (h1 : ¬ rdI hm 192 56 < rdI hm 192 18) (h2 : ¬ rdI hm 192 59 = 0) : f_Mo_push v hm = some ((), hm) := by
  unfold f_Mo_push
  rw [if_neg h1, f_Mo_fail_F h2]
  rfl
