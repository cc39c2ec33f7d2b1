/-! LAYER 3p: definitions (printed by gen/mk54.py) -/
theorem Rm.set_fun {P : hH → hH → Prop} {hc hm : hH} (h : Rm P hc hm) (k : Nat) {p a : Int32} (hl : PL hc hm (rdI hc 22 8) p a) (hq : p ≤ 1) : Rm P (wrI (wrI hc 49 k p) 50 k a) (wrI (wrI hm 222 k a) 223 k p) := by
  refine Rm.mk h.cl ?_ ?_ ?_ ?_ ?_ ?_ ?_ ?_ ?_ ?_ ?_ ?_ ?_ ?_ ?_ ?_ ?_ ?_ ?_ ?_ ?_ ?_ ?_ ?_ ?_ ?_ ?_ ?_ ?_ ?_ ?_ ?_ ?_ ?_ ?_ ?_ ?_ ?_ ?_ ?_ ?_ ?_ ?_ ?_ ?_ ?_ ?_ ?_ ?_ ?_ ?_ ?_ ?_ ?_ ?_ ?_ ?_ ?_ ?_ ?_ ?_ ?_ ?_ ?_ ?_ ?_ ?_ ?_ ?_ ?_ ?_ ?_ ?_ ?_ ?_ ?_ ?_ ?_ ?_ ?_ ?_ ?_ ?_ ?_ ?_ ?_ ?_ ?_ ?_
  · exact h.cl.m rfl (h.cl.m rfl (h.cl.c rfl (h.cl.c rfl (h.out))))
  · first | exact h.s_ppem | (simp only [rdI_wrI, rdP_wrI, rdL_wrI, Nat.reduceEqDiff, false_and, and_false, true_and, and_true, reduceIte, ite_self]; exact h.s_ppem)
  · first | exact h.s_steps | (simp only [rdI_wrI, rdP_wrI, rdL_wrI, Nat.reduceEqDiff, false_and, and_false, true_and, and_true, reduceIte, ite_self]; exact h.s_steps)
  · first | exact h.s_high | (simp only [rdI_wrI, rdP_wrI, rdL_wrI, Nat.reduceEqDiff, false_and, and_false, true_and, and_true, reduceIte, ite_self]; exact h.s_high)
  · first | exact h.s_prog | (simp only [rdI_wrI, rdP_wrI, rdL_wrI, Nat.reduceEqDiff, false_and, and_false, true_and, and_true, reduceIte, ite_self]; exact h.s_prog)
  · first | exact h.s_run | (simp only [rdI_wrI, rdP_wrI, rdL_wrI, Nat.reduceEqDiff, false_and, and_false, true_and, and_true, reduceIte, ite_self]; exact h.s_run)
  · first | exact h.s_pc | (simp only [rdI_wrI, rdP_wrI, rdL_wrI, Nat.reduceEqDiff, false_and, and_false, true_and, and_true, reduceIte, ite_self]; exact h.s_pc)
  · first | exact h.s_at | (simp only [rdI_wrI, rdP_wrI, rdL_wrI, Nat.reduceEqDiff, false_and, and_false, true_and, and_true, reduceIte, ite_self]; exact h.s_at)
  · first | exact h.s_top | (simp only [rdI_wrI, rdP_wrI, rdL_wrI, Nat.reduceEqDiff, false_and, and_false, true_and, and_true, reduceIte, ite_self]; exact h.s_top)
  · first | exact h.s_calls | (simp only [rdI_wrI, rdP_wrI, rdL_wrI, Nat.reduceEqDiff, false_and, and_false, true_and, and_true, reduceIte, ite_self]; exact h.s_calls)
  · first | exact h.s_owns | (simp only [rdI_wrI, rdP_wrI, rdL_wrI, Nat.reduceEqDiff, false_and, and_false, true_and, and_true, reduceIte, ite_self]; exact h.s_owns)
  · first | exact h.s_fx | (simp only [rdI_wrI, rdP_wrI, rdL_wrI, Nat.reduceEqDiff, false_and, and_false, true_and, and_true, reduceIte, ite_self]; exact h.s_fx)
  · first | exact h.s_fy | (simp only [rdI_wrI, rdP_wrI, rdL_wrI, Nat.reduceEqDiff, false_and, and_false, true_and, and_true, reduceIte, ite_self]; exact h.s_fy)
  · first | exact h.s_px | (simp only [rdI_wrI, rdP_wrI, rdL_wrI, Nat.reduceEqDiff, false_and, and_false, true_and, and_true, reduceIte, ite_self]; exact h.s_px)
  · first | exact h.s_py | (simp only [rdI_wrI, rdP_wrI, rdL_wrI, Nat.reduceEqDiff, false_and, and_false, true_and, and_true, reduceIte, ite_self]; exact h.s_py)
  · first | exact h.s_dx | (simp only [rdI_wrI, rdP_wrI, rdL_wrI, Nat.reduceEqDiff, false_and, and_false, true_and, and_true, reduceIte, ite_self]; exact h.s_dx)
  · first | exact h.s_dy | (simp only [rdI_wrI, rdP_wrI, rdL_wrI, Nat.reduceEqDiff, false_and, and_false, true_and, and_true, reduceIte, ite_self]; exact h.s_dy)
  · first | exact h.s_rp0 | (simp only [rdI_wrI, rdP_wrI, rdL_wrI, Nat.reduceEqDiff, false_and, and_false, true_and, and_true, reduceIte, ite_self]; exact h.s_rp0)
  · first | exact h.s_rp1 | (simp only [rdI_wrI, rdP_wrI, rdL_wrI, Nat.reduceEqDiff, false_and, and_false, true_and, and_true, reduceIte, ite_self]; exact h.s_rp1)
  · first | exact h.s_rp2 | (simp only [rdI_wrI, rdP_wrI, rdL_wrI, Nat.reduceEqDiff, false_and, and_false, true_and, and_true, reduceIte, ite_self]; exact h.s_rp2)
  · first | exact h.s_zp0 | (simp only [rdI_wrI, rdP_wrI, rdL_wrI, Nat.reduceEqDiff, false_and, and_false, true_and, and_true, reduceIte, ite_self]; exact h.s_zp0)
  · first | exact h.s_zp1 | (simp only [rdI_wrI, rdP_wrI, rdL_wrI, Nat.reduceEqDiff, false_and, and_false, true_and, and_true, reduceIte, ite_self]; exact h.s_zp1)
  · first | exact h.s_zp2 | (simp only [rdI_wrI, rdP_wrI, rdL_wrI, Nat.reduceEqDiff, false_and, and_false, true_and, and_true, reduceIte, ite_self]; exact h.s_zp2)
  · first | exact h.s_loop | (simp only [rdI_wrI, rdP_wrI, rdL_wrI, Nat.reduceEqDiff, false_and, and_false, true_and, and_true, reduceIte, ite_self]; exact h.s_loop)
  · first | exact h.s_period | (simp only [rdI_wrI, rdP_wrI, rdL_wrI, Nat.reduceEqDiff, false_and, and_false, true_and, and_true, reduceIte, ite_self]; exact h.s_period)
  · first | exact h.s_phase | (simp only [rdI_wrI, rdP_wrI, rdL_wrI, Nat.reduceEqDiff, false_and, and_false, true_and, and_true, reduceIte, ite_self]; exact h.s_phase)
  · first | exact h.s_thr | (simp only [rdI_wrI, rdP_wrI, rdL_wrI, Nat.reduceEqDiff, false_and, and_false, true_and, and_true, reduceIte, ite_self]; exact h.s_thr)
  · first | exact h.s_cut | (simp only [rdI_wrI, rdP_wrI, rdL_wrI, Nat.reduceEqDiff, false_and, and_false, true_and, and_true, reduceIte, ite_self]; exact h.s_cut)
  · first | exact h.s_single | (simp only [rdI_wrI, rdP_wrI, rdL_wrI, Nat.reduceEqDiff, false_and, and_false, true_and, and_true, reduceIte, ite_self]; exact h.s_single)
  · first | exact h.s_scut | (simp only [rdI_wrI, rdP_wrI, rdL_wrI, Nat.reduceEqDiff, false_and, and_false, true_and, and_true, reduceIte, ite_self]; exact h.s_scut)
  · first | exact h.s_least | (simp only [rdI_wrI, rdP_wrI, rdL_wrI, Nat.reduceEqDiff, false_and, and_false, true_and, and_true, reduceIte, ite_self]; exact h.s_least)
  · first | exact h.s_flip | (simp only [rdI_wrI, rdP_wrI, rdL_wrI, Nat.reduceEqDiff, false_and, and_false, true_and, and_true, reduceIte, ite_self]; exact h.s_flip)
  · first | exact h.s_base | (simp only [rdI_wrI, rdP_wrI, rdL_wrI, Nat.reduceEqDiff, false_and, and_false, true_and, and_true, reduceIte, ite_self]; exact h.s_base)
  · first | exact h.s_shift | (simp only [rdI_wrI, rdP_wrI, rdL_wrI, Nat.reduceEqDiff, false_and, and_false, true_and, and_true, reduceIte, ite_self]; exact h.s_shift)
  · first | exact h.s_scan | (simp only [rdI_wrI, rdP_wrI, rdL_wrI, Nat.reduceEqDiff, false_and, and_false, true_and, and_true, reduceIte, ite_self]; exact h.s_scan)
  · first | exact h.s_kind | (simp only [rdI_wrI, rdP_wrI, rdL_wrI, Nat.reduceEqDiff, false_and, and_false, true_and, and_true, reduceIte, ite_self]; exact h.s_kind)
  · first | exact h.s_units | (simp only [rdI_wrI, rdP_wrI, rdL_wrI, Nat.reduceEqDiff, false_and, and_false, true_and, and_true, reduceIte, ite_self]; exact h.s_units)
  · first | exact h.s_zones | (simp only [rdI_wrI, rdP_wrI, rdL_wrI, Nat.reduceEqDiff, false_and, and_false, true_and, and_true, reduceIte, ite_self]; exact h.s_zones)
  · first | exact h.s_funs | (simp only [rdI_wrI, rdP_wrI, rdL_wrI, Nat.reduceEqDiff, false_and, and_false, true_and, and_true, reduceIte, ite_self]; exact h.s_funs)
  · first | exact h.s_ownc | (simp only [rdI_wrI, rdP_wrI, rdL_wrI, Nat.reduceEqDiff, false_and, and_false, true_and, and_true, reduceIte, ite_self]; exact h.s_ownc)
  · first | exact h.s_stk | (simp only [rdI_wrI, rdP_wrI, rdL_wrI, Nat.reduceEqDiff, false_and, and_false, true_and, and_true, reduceIte, ite_self]; exact h.s_stk)
  · first | exact h.s_cvtM | (simp only [rdI_wrI, rdP_wrI, rdL_wrI, Nat.reduceEqDiff, false_and, and_false, true_and, and_true, reduceIte, ite_self]; exact h.s_cvtM)
  · first | exact h.s_stoM | (simp only [rdI_wrI, rdP_wrI, rdL_wrI, Nat.reduceEqDiff, false_and, and_false, true_and, and_true, reduceIte, ite_self]; exact h.s_stoM)
  · first | exact h.s_twM | (simp only [rdI_wrI, rdP_wrI, rdL_wrI, Nat.reduceEqDiff, false_and, and_false, true_and, and_true, reduceIte, ite_self]; exact h.s_twM)
  · first | exact h.s_glM | (simp only [rdI_wrI, rdP_wrI, rdL_wrI, Nat.reduceEqDiff, false_and, and_false, true_and, and_true, reduceIte, ite_self]; exact h.s_glM)
  · first | exact h.fail | (simp only [rdI_wrI, rdP_wrI, rdL_wrI, Nat.reduceEqDiff, false_and, and_false, true_and, and_true, reduceIte, ite_self]; exact h.fail)
  · first | exact h.r_top | (simp only [rdI_wrI, rdP_wrI, rdL_wrI, Nat.reduceEqDiff, false_and, and_false, true_and, and_true, reduceIte, ite_self]; exact h.r_top)
  · first | exact h.r_high | (simp only [rdI_wrI, rdP_wrI, rdL_wrI, Nat.reduceEqDiff, false_and, and_false, true_and, and_true, reduceIte, ite_self]; exact h.r_high)
  · first | exact h.r_stk | (simp only [rdI_wrI, rdP_wrI, rdL_wrI, Nat.reduceEqDiff, false_and, and_false, true_and, and_true, reduceIte, ite_self]; exact h.r_stk)
  · first | exact h.r_calls | (simp only [rdI_wrI, rdP_wrI, rdL_wrI, Nat.reduceEqDiff, false_and, and_false, true_and, and_true, reduceIte, ite_self]; exact h.r_calls)
  · first | exact h.r_pc | (simp only [rdI_wrI, rdP_wrI, rdL_wrI, Nat.reduceEqDiff, false_and, and_false, true_and, and_true, reduceIte, ite_self]; exact h.r_pc)
  · first | exact h.r_zp0 | (simp only [rdI_wrI, rdP_wrI, rdL_wrI, Nat.reduceEqDiff, false_and, and_false, true_and, and_true, reduceIte, ite_self]; exact h.r_zp0)
  · first | exact h.r_zp1 | (simp only [rdI_wrI, rdP_wrI, rdL_wrI, Nat.reduceEqDiff, false_and, and_false, true_and, and_true, reduceIte, ite_self]; exact h.r_zp1)
  · first | exact h.r_zp2 | (simp only [rdI_wrI, rdP_wrI, rdL_wrI, Nat.reduceEqDiff, false_and, and_false, true_and, and_true, reduceIte, ite_self]; exact h.r_zp2)
  · first | exact h.r_loop | (simp only [rdI_wrI, rdP_wrI, rdL_wrI, Nat.reduceEqDiff, false_and, and_false, true_and, and_true, reduceIte, ite_self]; exact h.r_loop)
  · first | exact h.r_period | (simp only [rdI_wrI, rdP_wrI, rdL_wrI, Nat.reduceEqDiff, false_and, and_false, true_and, and_true, reduceIte, ite_self]; exact h.r_period)
  · first | exact h.r_shift | (simp only [rdI_wrI, rdP_wrI, rdL_wrI, Nat.reduceEqDiff, false_and, and_false, true_and, and_true, reduceIte, ite_self]; exact h.r_shift)
  · first | exact h.r_units | (simp only [rdI_wrI, rdP_wrI, rdL_wrI, Nat.reduceEqDiff, false_and, and_false, true_and, and_true, reduceIte, ite_self]; exact h.r_units)
  · first | exact h.r_funs | (simp only [rdI_wrI, rdP_wrI, rdL_wrI, Nat.reduceEqDiff, false_and, and_false, true_and, and_true, reduceIte, ite_self]; exact h.r_funs)
  · first | exact h.r_ownc | (simp only [rdI_wrI, rdP_wrI, rdL_wrI, Nat.reduceEqDiff, false_and, and_false, true_and, and_true, reduceIte, ite_self]; exact h.r_ownc)
  · first | exact h.r_cvtM | (simp only [rdI_wrI, rdP_wrI, rdL_wrI, Nat.reduceEqDiff, false_and, and_false, true_and, and_true, reduceIte, ite_self]; exact h.r_cvtM)
  · first | exact h.r_stoM | (simp only [rdI_wrI, rdP_wrI, rdL_wrI, Nat.reduceEqDiff, false_and, and_false, true_and, and_true, reduceIte, ite_self]; exact h.r_stoM)
  · first | exact h.r_twM | (simp only [rdI_wrI, rdP_wrI, rdL_wrI, Nat.reduceEqDiff, false_and, and_false, true_and, and_true, reduceIte, ite_self]; exact h.r_twM)
  · first | exact h.r_glM | (simp only [rdI_wrI, rdP_wrI, rdL_wrI, Nat.reduceEqDiff, false_and, and_false, true_and, and_true, reduceIte, ite_self]; exact h.r_glM)
  · first | exact h.r_ppem | (simp only [rdI_wrI, rdP_wrI, rdL_wrI, Nat.reduceEqDiff, false_and, and_false, true_and, and_true, reduceIte, ite_self]; exact h.r_ppem)
  · first | exact h.r_steps | (simp only [rdI_wrI, rdP_wrI, rdL_wrI, Nat.reduceEqDiff, false_and, and_false, true_and, and_true, reduceIte, ite_self]; exact h.r_steps)
  · first | exact h.r_run | (simp only [rdI_wrI, rdP_wrI, rdL_wrI, Nat.reduceEqDiff, false_and, and_false, true_and, and_true, reduceIte, ite_self]; exact h.r_run)
  · first | exact h.r_prog | (simp only [rdI_wrI, rdP_wrI, rdL_wrI, Nat.reduceEqDiff, false_and, and_false, true_and, and_true, reduceIte, ite_self]; exact h.r_prog)
  · first | exact h.r_flip | (simp only [rdI_wrI, rdP_wrI, rdL_wrI, Nat.reduceEqDiff, false_and, and_false, true_and, and_true, reduceIte, ite_self]; exact h.r_flip)
  · first | exact h.rnd | (simp only [rdI_wrI, rdP_wrI, rdL_wrI, Nat.reduceEqDiff, false_and, and_false, true_and, and_true, reduceIte, ite_self]; exact h.rnd)
  · first | exact h.a_stk | (simp only [rdI_wrI, rdP_wrI, rdL_wrI, Nat.reduceEqDiff, false_and, and_false, true_and, and_true, reduceIte, ite_self]; exact h.a_stk)
  · first | exact h.a_cvt | (simp only [rdI_wrI, rdP_wrI, rdL_wrI, Nat.reduceEqDiff, false_and, and_false, true_and, and_true, reduceIte, ite_self]; exact h.a_cvt)
  · first | exact h.a_sto | (simp only [rdI_wrI, rdP_wrI, rdL_wrI, Nat.reduceEqDiff, false_and, and_false, true_and, and_true, reduceIte, ite_self]; exact h.a_sto)
  · first | exact h.z_tw_ox | (simp only [rdI_wrI, rdP_wrI, rdL_wrI, Nat.reduceEqDiff, false_and, and_false, true_and, and_true, reduceIte, ite_self]; exact h.z_tw_ox)
  · first | exact h.z_tw_oy | (simp only [rdI_wrI, rdP_wrI, rdL_wrI, Nat.reduceEqDiff, false_and, and_false, true_and, and_true, reduceIte, ite_self]; exact h.z_tw_oy)
  · first | exact h.z_tw_x | (simp only [rdI_wrI, rdP_wrI, rdL_wrI, Nat.reduceEqDiff, false_and, and_false, true_and, and_true, reduceIte, ite_self]; exact h.z_tw_x)
  · first | exact h.z_tw_y | (simp only [rdI_wrI, rdP_wrI, rdL_wrI, Nat.reduceEqDiff, false_and, and_false, true_and, and_true, reduceIte, ite_self]; exact h.z_tw_y)
  · first | exact h.z_tw_t | (simp only [rdI_wrI, rdP_wrI, rdL_wrI, Nat.reduceEqDiff, false_and, and_false, true_and, and_true, reduceIte, ite_self]; exact h.z_tw_t)
  · first | exact h.z_gl_ox | (simp only [rdI_wrI, rdP_wrI, rdL_wrI, Nat.reduceEqDiff, false_and, and_false, true_and, and_true, reduceIte, ite_self]; exact h.z_gl_ox)
  · first | exact h.z_gl_oy | (simp only [rdI_wrI, rdP_wrI, rdL_wrI, Nat.reduceEqDiff, false_and, and_false, true_and, and_true, reduceIte, ite_self]; exact h.z_gl_oy)
  · first | exact h.z_gl_x | (simp only [rdI_wrI, rdP_wrI, rdL_wrI, Nat.reduceEqDiff, false_and, and_false, true_and, and_true, reduceIte, ite_self]; exact h.z_gl_x)
  · first | exact h.z_gl_y | (simp only [rdI_wrI, rdP_wrI, rdL_wrI, Nat.reduceEqDiff, false_and, and_false, true_and, and_true, reduceIte, ite_self]; exact h.z_gl_y)
  · first | exact h.z_gl_t | (simp only [rdI_wrI, rdP_wrI, rdL_wrI, Nat.reduceEqDiff, false_and, and_false, true_and, and_true, reduceIte, ite_self]; exact h.z_gl_t)
  · first | exact h.po | (have q := h.po; simp only [PO] at q ⊢; simp only [rdI_wrI, rdP_wrI, rdL_wrI, Nat.reduceEqDiff, false_and, and_false, true_and, and_true, reduceIte, ite_self]; exact q)
  · first | exact h.fr | (have q := h.fr; simp only [FR, PL, PO] at q ⊢; simp only [rdI_wrI, rdP_wrI, rdL_wrI, Nat.reduceEqDiff, false_and, and_false, true_and, and_true, reduceIte, ite_self]; exact q)
  · intro i hi; have q := h.ft i hi; have l1 := hl; simp only [PL, PO] at q l1 ⊢; simp only [rdI_wrI, rdP_wrI, rdL_wrI, Nat.reduceEqDiff, false_and, and_false, true_and, and_true, reduceIte, ite_self]; by_cases e : i = k
    · simp only [e, reduceIte]; exact Or.inr ⟨trivial, trivial, l1, hq⟩
    · simp only [if_neg e]; exact q
  · first | exact h.ow | (have q := h.ow; simp only [OW, PL, PO] at q ⊢; simp only [rdI_wrI, rdP_wrI, rdL_wrI, Nat.reduceEqDiff, false_and, and_false, true_and, and_true, reduceIte, ite_self]; exact q)
  · first | exact h.bys | (have q := h.bys; simp only [BY] at q ⊢; simp only [rdI_wrI, rdP_wrI, rdL_wrI, Nat.reduceEqDiff, false_and, and_false, true_and, and_true, reduceIte, ite_self]; exact q)
  · exact OL_m (by omega) (OL_m (by omega) (OL_c rfl (OL_c rfl (h.ol))))
theorem f_Ma_function_T {k : Int32} {h : hH} (h0 : 0 ≤ rdI h 4 12) (q : 0 ≤ k ∧ k < rdI h 4 12) : f_Ma_function k h = some (.inr (k, h)) := by
  unfold f_Ma_function
  rw [within_0 h0, if_pos q]
  rfl
theorem f_Ma_function_F {k : Int32} {h : hH} (h0 : 0 ≤ rdI h 4 12) (q : ¬ (0 ≤ k ∧ k < rdI h 4 12)) : f_Ma_function k h = some (.inl (failC 6 h)) := by
  unfold f_Ma_function
  rw [within_0 h0, if_neg q]
  rfl
/-- the component wrote more ahead of a failure -/
theorem Rf.cw {P : hH → hH → Prop} {hc hm : hH} (h : Rf P hc hm) {o k : Nat} (v : Int32) (hr : ¬ rdI hc 22 8 = 2) (ho : cW o = true) (hk : ¬ (o = 22 ∧ (k = 4 ∨ k = 5 ∨ k = 6 ∨ k = 8 ∨ k = 12 ∨ k = 13))) : Rf P (wrI hc o k v) hm := by
  have e : ∀ k', (k' = 5 ∨ k' = 6 ∨ k' = 8 ∨ k' = 12 ∨ k' = 13) → rdI (wrI hc o k v) 22 k' = rdI hc 22 k' := by
    intro k' q
    refine if_neg (fun w => ?_)
    obtain ⟨rfl, rfl⟩ := w
    exact hk ⟨rfl, Or.inr q⟩
  refine Rf.mk h.cl (h.cl.c (cP_of ho (fun w => hk ⟨w.1, w.2.elim Or.inl (fun e => e.elim (fun e => Or.inr (Or.inl e)) (fun e => Or.inr (Or.inr (Or.inr (Or.inl e)))))⟩)) h.out) ?_ h.pos ?_ ?_ ?_ ?_ ?_ ?_ h.bnd
  · rw [e _ (by decide)]; exact h.s_stop
  · rw [e _ (by decide)]; exact h.s_at
  · rw [e _ (by decide)]; exact h.s_steps
  · rw [e _ (by decide)]; exact h.s_high
  · rw [e _ (by decide)]; exact h.r_high
  · rw [e _ (by decide)]; exact h.r_steps
  · intro w
    rw [e _ (by decide)] at w
    exact absurd w hr
theorem L_defFun {P : hH → hH → Prop} {hc hm : hH} (h : Rm P hc hm) : OK2 (f_Ma_define 44 hc) (f_Mo_defineFunction hm) (Tr P) := by
  unfold f_Ma_define f_Mo_defineFunction
  by_cases q : 1 ≤ rdI hc 22 15
  · have k := h.pop q
    have hrun := h.r_run
    by_cases r : 2 ≤ rdI hc 22 8
    · have r2 : rdI (popM hm) 192 91 = 2 := by rw [k.s_run, popC_o (by decide)]; grind
      simp +decide only [need_T q, has_T h q, f_Mo_pop_eq h q, if_pos r, f_Ma_want_0, r2, f_Mo_fail_eq k.fail, lz, bP_some, bS_some, bT_inl, bT_inr, bJT_inl, bJT_inr, bE_inl, bE_inr, bET_t, bET_inl, bET_inr, cO_t, cO_f, cS_t, cS_f, bE_bS, bE_bP, bE_gd, bET_bT, bET_bS, bET_bP, bET_gd, bJT_bT, bJT_bS, bJT_bP, bJT_gd, bJT_bJT, bP_bS, bP_bP, bP_gd, bT_bT, bT_bS, bT_bP, bT_gd, bS_bS, bS_bP, bS_gd, reduceIte]
      refine OK2_of rfl rfl (Tr_f ?_)
      have w := (h.fails (c := 3) (by decide)).mw (o := 192) (k := 56) (rdI hm 192 56 - 1) rfl (by decide)
      have e : wrI (failM 3 hm) 192 56 (rdI hm 192 56 - 1) = failM 3 (popM hm) := by
        rw [← popM_failM]
        unfold popM
        rw [pushM_top]
      rw [e] at w
      exact w
    · have r2 : ¬ rdI (popM hm) 192 91 = 2 := by rw [k.s_run, popC_o (by decide)]; grind
      have f0 := k.r_funs
      simp +decide only [need_T q, has_T h q, f_Ma_pop_eq q h.top256, f_Mo_pop_eq h q, if_neg r, f_Ma_want_1, r2, lz, bP_some, bS_some, bT_inl, bT_inr, bJT_inl, bJT_inr, bE_inl, bE_inr, bET_t, bET_inl, bET_inr, cO_t, cO_f, cS_t, cS_f, bE_bS, bE_bP, bE_gd, bET_bT, bET_bS, bET_bP, bET_gd, bJT_bT, bJT_bS, bJT_bP, bJT_gd, bJT_bJT, bP_bS, bP_bP, bP_gd, bT_bT, bT_bS, bT_bP, bT_gd, bS_bS, bS_bP, bS_gd, reduceIte]
      generalize tpC hc = f
      by_cases w : 0 ≤ f ∧ f < rdI (popC hc) 4 12
      · have w' : ¬ (f < 0 ∨ ¬ f < rdI (popM hm) 192 16) := by rw [k.s_funs]; grind
        have vf : vp_in f 64 := vp_lt (n := 64) (m := 64) w.1 (by grind) rfl
        simp +decide only [f_Ma_function_T f0.1 w, if_neg w', gd_pos vf, k.s_prog, k.s_pc, lz, bP_some, bS_some, bT_inl, bT_inr, bJT_inl, bJT_inr, bE_inl, bE_inr, bET_t, bET_inl, bET_inr, cO_t, cO_f, cS_t, cS_f, bE_bS, bE_bP, bE_gd, bET_bT, bET_bS, bET_bP, bET_gd, bJT_bT, bJT_bS, bJT_bP, bJT_gd, bJT_bJT, bP_bS, bP_bP, bP_gd, bT_bT, bT_bS, bT_bP, bT_gd, bS_bS, bS_bP, bS_gd, reduceIte]
        simp only [rdI_wrI, rdP_wrI, rdL_wrI, Nat.reduceEqDiff, false_and, and_false, true_and, and_true, eq_self, reduceIte, ite_self]
        have rp := k.r_prog
        have rr := k.r_run
        have r8 : rdI (popC hc) 22 8 = rdI hc 22 8 := popC_o (by decide)
        have hl : PL (popC hc) (popM hm) (rdI (popC hc) 22 8) (rdI (popC hc) 22 7) (rdI (popC hc) 22 11) := ⟨k.po, rp, k.r_pc⟩
        have k2 := k.set_fun f.toNatClampNeg hl (by grind)
        have pb : PB (wrI (wrI (popC hc) 49 f.toNatClampNeg (rdI (popC hc) 22 7)) 50 f.toNatClampNeg (rdI (popC hc) 22 11)) (popM hm) := by
          obtain ⟨a, b, c⟩ := k.pb
          simp only [PB, PO, BY] at a b c ⊢
          simp only [rdI_wrI, rdP_wrI, rdL_wrI, Nat.reduceEqDiff, false_and, and_false, true_and, and_true, eq_self, reduceIte, ite_self]
          exact ⟨a, b, c⟩
        obtain ⟨p, p0, p1, ⟨e1, e2⟩ | ⟨e1, e2⟩⟩ := L_passFn pb k.fail (by simp only [rdI_wrI, rdP_wrI, rdL_wrI, Nat.reduceEqDiff, false_and, and_false, true_and, and_true, eq_self, reduceIte, ite_self]; exact k.s_pc) (by have := k2.r_pc; exact this)
        · rw [k.s_pc] at e2
          rw [e1, e2]
          simp +decide only [k.fail, rdI_wrI, rdP_wrI, rdL_wrI, Nat.reduceEqDiff, false_and, and_false, true_and, and_true, eq_self, reduceIte, ite_self, lz, bP_some, bS_some, bT_inl, bT_inr, bJT_inl, bJT_inr, bE_inl, bE_inr, bET_t, bET_inl, bET_inr, cO_t, cO_f, cS_t, cS_f, bE_bS, bE_bP, bE_gd, bET_bT, bET_bS, bET_bP, bET_gd, bJT_bT, bJT_bS, bJT_bP, bJT_gd, bJT_bJT, bP_bS, bP_bP, bP_gd, bT_bT, bT_bS, bT_bP, bT_gd, bS_bS, bS_bP, bS_gd, reduceIte]
          refine OK2_of rfl rfl (Tr_m ?_)
          have k3 := k2.set_pc (v := p) ⟨p0, p1⟩
          rw [wrI_comm (o := 223) (o' := 192) (by omega), wrI_comm (o := 222) (o' := 192) (by omega)] at k3
          exact k3
        · rw [k.s_pc] at e2
          rw [e1, e2]
          have e59 : ¬ rdI (wrI (failM 4 (popM hm)) 192 93 (-1)) 192 59 = 0 := by simp only [rdI_wrI, rdP_wrI, rdL_wrI, Nat.reduceEqDiff, false_and, and_false, true_and, and_true, eq_self, reduceIte, ite_self]; rw [failM_F]; decide
          simp +decide only [e59, lz, bP_some, bS_some, bT_inl, bT_inr, bJT_inl, bJT_inr, bE_inl, bE_inr, bET_t, bET_inl, bET_inr, cO_t, cO_f, cS_t, cS_f, bE_bS, bE_bP, bE_gd, bET_bT, bET_bS, bET_bP, bET_gd, bJT_bT, bJT_bS, bJT_bP, bJT_gd, bJT_bJT, bP_bS, bP_bP, bP_gd, bT_bT, bT_bS, bT_bP, bT_gd, bS_bS, bS_bP, bS_gd, reduceIte]
          refine OK2_of rfl rfl (Tr_f ?_)
          have k3 := (k.fails (c := 4) (by decide)).mw (o := 192) (k := 93) (-1) rfl (by decide)
          have n8 : ∀ g : hH, rdI (failC 4 g) 22 8 = rdI g 22 8 := fun g => by unfold failC; simp only [rdI_wrI, rdP_wrI, rdL_wrI, Nat.reduceEqDiff, false_and, and_false, true_and, and_true, eq_self, reduceIte, ite_self]
          have k4 := k3.cw (o := 49) (k := f.toNatClampNeg) (rdI (popC hc) 22 7) (by rw [n8]; grind) rfl (by omega)
          have k5 := k4.cw (o := 50) (k := f.toNatClampNeg) (rdI (popC hc) 22 11) (by simp only [rdI_wrI, rdP_wrI, rdL_wrI, Nat.reduceEqDiff, false_and, and_false, true_and, and_true, eq_self, reduceIte, ite_self]; rw [n8]; grind) rfl (by omega)
          have k6 := k5.cw (o := 22) (k := 11) p (by simp only [rdI_wrI, rdP_wrI, rdL_wrI, Nat.reduceEqDiff, false_and, and_false, true_and, and_true, eq_self, reduceIte, ite_self]; rw [n8]; grind) rfl (by omega)
          unfold failC at k6 ⊢
          rw [wrI_comm (o := 22) (k := 13) (o' := 49) (by omega), wrI_comm (o := 22) (k := 13) (o' := 50) (by omega), wrI_comm (o := 22) (k := 13) (o' := 22) (k' := 11) (by omega)] at k6
          exact k6
      · have w' : (f < 0 ∨ ¬ f < rdI (popM hm) 192 16) := by rw [k.s_funs]; grind
        simp +decide only [f_Ma_function_F f0.1 w, if_pos w', f_Mo_fail_eq k.fail, lz, bP_some, bS_some, bT_inl, bT_inr, bJT_inl, bJT_inr, bE_inl, bE_inr, bET_t, bET_inl, bET_inr, cO_t, cO_f, cS_t, cS_f, bE_bS, bE_bP, bE_gd, bET_bT, bET_bS, bET_bP, bET_gd, bJT_bT, bJT_bS, bJT_bP, bJT_gd, bJT_bJT, bP_bS, bP_bP, bP_gd, bT_bT, bT_bS, bT_bP, bT_gd, bS_bS, bS_bP, bS_gd, reduceIte]
        exact OK2_of rfl rfl (Tr_f (k.fails (by decide)))
  · have q' := le_of_not q
    simp +decide only [need_F q', has_F h q', lz, bP_some, bS_some, bT_inl, bT_inr, bJT_inl, bJT_inr, bE_inl, bE_inr, bET_t, bET_inl, bET_inr, cO_t, cO_f, cS_t, cS_f, bE_bS, bE_bP, bE_gd, bET_bT, bET_bS, bET_bP, bET_gd, bJT_bT, bJT_bS, bJT_bP, bJT_gd, bJT_bJT, bP_bS, bP_bP, bP_gd, bT_bT, bT_bS, bT_bP, bT_gd, bS_bS, bS_bP, bS_gd, reduceIte]
    exact OK2_of rfl rfl (Tr_f (h.fails (by decide)))
