/-! LAYER 3s: the end of a call (printed by gen/mk57.py) -/
theorem Rm.set_ret {P : hH → hH → Prop} {hc hm : hH} (h : Rm P hc hm) {p a : Int32} (hn : 1 ≤ rdI hc 22 16) (hl : PL hc hm (rdI hc 22 8) p a) : Rm P (wrI (wrI (wrI hc 22 16 (rdI hc 22 16 - 1)) 22 7 p) 22 11 a) (wrI (wrI (wrI hm 192 99 (rdI hc 22 16 - 1)) 192 92 p) 192 93 a) := by
  refine Rm.mk h.cl ?_ ?_ ?_ ?_ ?_ ?_ ?_ ?_ ?_ ?_ ?_ ?_ ?_ ?_ ?_ ?_ ?_ ?_ ?_ ?_ ?_ ?_ ?_ ?_ ?_ ?_ ?_ ?_ ?_ ?_ ?_ ?_ ?_ ?_ ?_ ?_ ?_ ?_ ?_ ?_ ?_ ?_ ?_ ?_ ?_ ?_ ?_ ?_ ?_ ?_ ?_ ?_ ?_ ?_ ?_ ?_ ?_ ?_ ?_ ?_ ?_ ?_ ?_ ?_ ?_ ?_ ?_ ?_ ?_ ?_ ?_ ?_ ?_ ?_ ?_ ?_ ?_ ?_ ?_ ?_ ?_ ?_ ?_ ?_ ?_ ?_ ?_ ?_ ?_
  · exact h.cl.m rfl (h.cl.m rfl (h.cl.m rfl (h.cl.c rfl (h.cl.c rfl (h.cl.c rfl (h.out))))))
  · first | exact h.s_ppem | (simp only [rdI_wrI, rdP_wrI, rdL_wrI, Nat.reduceEqDiff, false_and, and_false, true_and, and_true, reduceIte, ite_self]; exact h.s_ppem)
  · first | exact h.s_steps | (simp only [rdI_wrI, rdP_wrI, rdL_wrI, Nat.reduceEqDiff, false_and, and_false, true_and, and_true, reduceIte, ite_self]; exact h.s_steps)
  · first | exact h.s_high | (simp only [rdI_wrI, rdP_wrI, rdL_wrI, Nat.reduceEqDiff, false_and, and_false, true_and, and_true, reduceIte, ite_self]; exact h.s_high)
  · exact rfl
  · first | exact h.s_run | (simp only [rdI_wrI, rdP_wrI, rdL_wrI, Nat.reduceEqDiff, false_and, and_false, true_and, and_true, reduceIte, ite_self]; exact h.s_run)
  · exact rfl
  · first | exact h.s_at | (simp only [rdI_wrI, rdP_wrI, rdL_wrI, Nat.reduceEqDiff, false_and, and_false, true_and, and_true, reduceIte, ite_self]; exact h.s_at)
  · first | exact h.s_top | (simp only [rdI_wrI, rdP_wrI, rdL_wrI, Nat.reduceEqDiff, false_and, and_false, true_and, and_true, reduceIte, ite_self]; exact h.s_top)
  · exact rfl
  · first | exact h.s_owns | (simp only [rdI_wrI, rdP_wrI, rdL_wrI, Nat.reduceEqDiff, false_and, and_false, true_and, and_true, reduceIte, ite_self]; exact h.s_owns)
  · first | exact h.s_fx | (simp only [rdI_wrI, rdP_wrI, rdL_wrI, Nat.reduceEqDiff, false_and, and_false, true_and, and_true, reduceIte, ite_self]; exact h.s_fx)
  · first | exact h.s_fy | (simp only [rdI_wrI, rdP_wrI, rdL_wrI, Nat.reduceEqDiff, false_and, and_false, true_and, and_true, reduceIte, ite_self]; exact h.s_fy)
  · first | exact h.s_px | (simp only [rdI_wrI, rdP_wrI, rdL_wrI, Nat.reduceEqDiff, false_and, and_false, true_and, and_true, reduceIte, ite_self]; exact h.s_px)
  · first | exact h.s_py | (simp only [rdI_wrI, rdP_wrI, rdL_wrI, Nat.reduceEqDiff, false_and, and_false, true_and, and_true, reduceIte, ite_self]; exact h.s_py)
  · first | exact h.s_dx | (simp only [rdI_wrI, rdP_wrI, rdL_wrI, Nat.reduceEqDiff, false_and, and_false, true_and, and_true, reduceIte, ite_self]; exact h.s_dx)
  · first | exact h.s_dy | (simp only [rdI_wrI, rdP_wrI, rdL_wrI, Nat.reduceEqDiff, false_and, and_false, true_and, and_true, reduceIte, ite_self]; exact h.s_dy)
  · first | exact h.s_rp0 | (simp only [rdI_wrI, rdP_wrI, rdL_wrI, Nat.reduceEqDiff, false_and, and_false, true_and, and_true, reduceIte, ite_self]; exact h.s_rp0)
  · first | exact h.s_rp1 | (simp only [rdI_wrI, rdP_wrI, rdL_wrI, Nat.reduceEqDiff, false_and, and_false, true_and, and_true, reduceIte, ite_self]; exact h.s_rp1)
  · first | exact h.s_rp2 | (simp only [rdI_wrI, rdP_wrI, rdL_wrI, Nat.reduceEqDiff, false_and, and_false, true_and, and_true, reduceIte, ite_self]; exact h.s_rp2)
  · first | exact h.s_zp0 | (simp only [rdI_wrI, rdP_wrI, rdL_wrI, Nat.reduceEqDiff, false_and, and_false, true_and, and_true, reduceIte, ite_self]; exact h.s_zp0)
  · first | exact h.s_zp1 | (simp only [rdI_wrI, rdP_wrI, rdL_wrI, Nat.reduceEqDiff, false_and, and_false, true_and, and_true, reduceIte, ite_self]; exact h.s_zp1)
  · first | exact h.s_zp2 | (simp only [rdI_wrI, rdP_wrI, rdL_wrI, Nat.reduceEqDiff, false_and, and_false, true_and, and_true, reduceIte, ite_self]; exact h.s_zp2)
  · first | exact h.s_loop | (simp only [rdI_wrI, rdP_wrI, rdL_wrI, Nat.reduceEqDiff, false_and, and_false, true_and, and_true, reduceIte, ite_self]; exact h.s_loop)
  · first | exact h.s_period | (simp only [rdI_wrI, rdP_wrI, rdL_wrI, Nat.reduceEqDiff, false_and, and_false, true_and, and_true, reduceIte, ite_self]; exact h.s_period)
  · first | exact h.s_phase | (simp only [rdI_wrI, rdP_wrI, rdL_wrI, Nat.reduceEqDiff, false_and, and_false, true_and, and_true, reduceIte, ite_self]; exact h.s_phase)
  · first | exact h.s_thr | (simp only [rdI_wrI, rdP_wrI, rdL_wrI, Nat.reduceEqDiff, false_and, and_false, true_and, and_true, reduceIte, ite_self]; exact h.s_thr)
  · first | exact h.s_cut | (simp only [rdI_wrI, rdP_wrI, rdL_wrI, Nat.reduceEqDiff, false_and, and_false, true_and, and_true, reduceIte, ite_self]; exact h.s_cut)
  · first | exact h.s_single | (simp only [rdI_wrI, rdP_wrI, rdL_wrI, Nat.reduceEqDiff, false_and, and_false, true_and, and_true, reduceIte, ite_self]; exact h.s_single)
  · first | exact h.s_scut | (simp only [rdI_wrI, rdP_wrI, rdL_wrI, Nat.reduceEqDiff, false_and, and_false, true_and, and_true, reduceIte, ite_self]; exact h.s_scut)
  · first | exact h.s_least | (simp only [rdI_wrI, rdP_wrI, rdL_wrI, Nat.reduceEqDiff, false_and, and_false, true_and, and_true, reduceIte, ite_self]; exact h.s_least)
  · first | exact h.s_flip | (simp only [rdI_wrI, rdP_wrI, rdL_wrI, Nat.reduceEqDiff, false_and, and_false, true_and, and_true, reduceIte, ite_self]; exact h.s_flip)
  · first | exact h.s_base | (simp only [rdI_wrI, rdP_wrI, rdL_wrI, Nat.reduceEqDiff, false_and, and_false, true_and, and_true, reduceIte, ite_self]; exact h.s_base)
  · first | exact h.s_shift | (simp only [rdI_wrI, rdP_wrI, rdL_wrI, Nat.reduceEqDiff, false_and, and_false, true_and, and_true, reduceIte, ite_self]; exact h.s_shift)
  · first | exact h.s_scan | (simp only [rdI_wrI, rdP_wrI, rdL_wrI, Nat.reduceEqDiff, false_and, and_false, true_and, and_true, reduceIte, ite_self]; exact h.s_scan)
  · first | exact h.s_kind | (simp only [rdI_wrI, rdP_wrI, rdL_wrI, Nat.reduceEqDiff, false_and, and_false, true_and, and_true, reduceIte, ite_self]; exact h.s_kind)
  · first | exact h.s_units | (simp only [rdI_wrI, rdP_wrI, rdL_wrI, Nat.reduceEqDiff, false_and, and_false, true_and, and_true, reduceIte, ite_self]; exact h.s_units)
  · first | exact h.s_zones | (simp only [rdI_wrI, rdP_wrI, rdL_wrI, Nat.reduceEqDiff, false_and, and_false, true_and, and_true, reduceIte, ite_self]; exact h.s_zones)
  · first | exact h.s_funs | (simp only [rdI_wrI, rdP_wrI, rdL_wrI, Nat.reduceEqDiff, false_and, and_false, true_and, and_true, reduceIte, ite_self]; exact h.s_funs)
  · first | exact h.s_ownc | (simp only [rdI_wrI, rdP_wrI, rdL_wrI, Nat.reduceEqDiff, false_and, and_false, true_and, and_true, reduceIte, ite_self]; exact h.s_ownc)
  · first | exact h.s_stk | (simp only [rdI_wrI, rdP_wrI, rdL_wrI, Nat.reduceEqDiff, false_and, and_false, true_and, and_true, reduceIte, ite_self]; exact h.s_stk)
  · first | exact h.s_cvtM | (simp only [rdI_wrI, rdP_wrI, rdL_wrI, Nat.reduceEqDiff, false_and, and_false, true_and, and_true, reduceIte, ite_self]; exact h.s_cvtM)
  · first | exact h.s_stoM | (simp only [rdI_wrI, rdP_wrI, rdL_wrI, Nat.reduceEqDiff, false_and, and_false, true_and, and_true, reduceIte, ite_self]; exact h.s_stoM)
  · first | exact h.s_twM | (simp only [rdI_wrI, rdP_wrI, rdL_wrI, Nat.reduceEqDiff, false_and, and_false, true_and, and_true, reduceIte, ite_self]; exact h.s_twM)
  · first | exact h.s_glM | (simp only [rdI_wrI, rdP_wrI, rdL_wrI, Nat.reduceEqDiff, false_and, and_false, true_and, and_true, reduceIte, ite_self]; exact h.s_glM)
  · first | exact h.fail | (simp only [rdI_wrI, rdP_wrI, rdL_wrI, Nat.reduceEqDiff, false_and, and_false, true_and, and_true, reduceIte, ite_self]; exact h.fail)
  · first | exact h.r_top | (simp only [rdI_wrI, rdP_wrI, rdL_wrI, Nat.reduceEqDiff, false_and, and_false, true_and, and_true, reduceIte, ite_self]; exact h.r_top)
  · first | exact h.r_high | (simp only [rdI_wrI, rdP_wrI, rdL_wrI, Nat.reduceEqDiff, false_and, and_false, true_and, and_true, reduceIte, ite_self]; exact h.r_high)
  · first | exact h.r_stk | (simp only [rdI_wrI, rdP_wrI, rdL_wrI, Nat.reduceEqDiff, false_and, and_false, true_and, and_true, reduceIte, ite_self]; exact h.r_stk)
  · have a := h.r_calls; simp only [rdI_wrI, rdP_wrI, rdL_wrI, Nat.reduceEqDiff, false_and, and_false, true_and, and_true, reduceIte, ite_self]; constructor <;> grind
  · simp only [rdI_wrI, rdP_wrI, rdL_wrI, Nat.reduceEqDiff, false_and, and_false, true_and, and_true, reduceIte, ite_self]; exact hl.2.2
  · first | exact h.r_zp0 | (simp only [rdI_wrI, rdP_wrI, rdL_wrI, Nat.reduceEqDiff, false_and, and_false, true_and, and_true, reduceIte, ite_self]; exact h.r_zp0)
  · first | exact h.r_zp1 | (simp only [rdI_wrI, rdP_wrI, rdL_wrI, Nat.reduceEqDiff, false_and, and_false, true_and, and_true, reduceIte, ite_self]; exact h.r_zp1)
  · first | exact h.r_zp2 | (simp only [rdI_wrI, rdP_wrI, rdL_wrI, Nat.reduceEqDiff, false_and, and_false, true_and, and_true, reduceIte, ite_self]; exact h.r_zp2)
  · first | exact h.r_loop | (simp only [rdI_wrI, rdP_wrI, rdL_wrI, Nat.reduceEqDiff, false_and, and_false, true_and, and_true, reduceIte, ite_self]; exact h.r_loop)
  · first | exact h.r_period | (simp only [rdI_wrI, rdP_wrI, rdL_wrI, Nat.reduceEqDiff, false_and, and_false, true_and, and_true, reduceIte, ite_self]; exact h.r_period)
  · first | exact h.r_shift | (simp only [rdI_wrI, rdP_wrI, rdL_wrI, Nat.reduceEqDiff, false_and, and_false, true_and, and_true, reduceIte, ite_self]; exact h.r_shift)
  · first | exact h.r_units | (simp only [rdI_wrI, rdP_wrI, rdL_wrI, Nat.reduceEqDiff, false_and, and_false, true_and, and_true, reduceIte, ite_self]; exact h.r_units)
  · first | exact h.r_funs | (simp only [rdI_wrI, rdP_wrI, rdL_wrI, Nat.reduceEqDiff, false_and, and_false, true_and, and_true, reduceIte, ite_self]; exact h.r_funs)
  · first | exact h.r_ownc | (simp only [rdI_wrI, rdP_wrI, rdL_wrI, Nat.reduceEqDiff, false_and, and_false, true_and, and_true, reduceIte, ite_self]; exact h.r_ownc)
  · first | exact h.r_cvtM | (simp only [rdI_wrI, rdP_wrI, rdL_wrI, Nat.reduceEqDiff, false_and, and_false, true_and, and_true, reduceIte, ite_self]; exact h.r_cvtM)
  · first | exact h.r_stoM | (simp only [rdI_wrI, rdP_wrI, rdL_wrI, Nat.reduceEqDiff, false_and, and_false, true_and, and_true, reduceIte, ite_self]; exact h.r_stoM)
  · first | exact h.r_twM | (simp only [rdI_wrI, rdP_wrI, rdL_wrI, Nat.reduceEqDiff, false_and, and_false, true_and, and_true, reduceIte, ite_self]; exact h.r_twM)
  · first | exact h.r_glM | (simp only [rdI_wrI, rdP_wrI, rdL_wrI, Nat.reduceEqDiff, false_and, and_false, true_and, and_true, reduceIte, ite_self]; exact h.r_glM)
  · first | exact h.r_ppem | (simp only [rdI_wrI, rdP_wrI, rdL_wrI, Nat.reduceEqDiff, false_and, and_false, true_and, and_true, reduceIte, ite_self]; exact h.r_ppem)
  · first | exact h.r_steps | (simp only [rdI_wrI, rdP_wrI, rdL_wrI, Nat.reduceEqDiff, false_and, and_false, true_and, and_true, reduceIte, ite_self]; exact h.r_steps)
  · first | exact h.r_run | (simp only [rdI_wrI, rdP_wrI, rdL_wrI, Nat.reduceEqDiff, false_and, and_false, true_and, and_true, reduceIte, ite_self]; exact h.r_run)
  · simp only [rdI_wrI, rdP_wrI, rdL_wrI, Nat.reduceEqDiff, false_and, and_false, true_and, and_true, reduceIte, ite_self]; exact hl.2.1
  · first | exact h.r_flip | (simp only [rdI_wrI, rdP_wrI, rdL_wrI, Nat.reduceEqDiff, false_and, and_false, true_and, and_true, reduceIte, ite_self]; exact h.r_flip)
  · first | exact h.rnd | (simp only [rdI_wrI, rdP_wrI, rdL_wrI, Nat.reduceEqDiff, false_and, and_false, true_and, and_true, reduceIte, ite_self]; exact h.rnd)
  · first | exact h.a_stk | (simp only [rdI_wrI, rdP_wrI, rdL_wrI, Nat.reduceEqDiff, false_and, and_false, true_and, and_true, reduceIte, ite_self]; exact h.a_stk)
  · first | exact h.a_cvt | (simp only [rdI_wrI, rdP_wrI, rdL_wrI, Nat.reduceEqDiff, false_and, and_false, true_and, and_true, reduceIte, ite_self]; exact h.a_cvt)
  · first | exact h.a_sto | (simp only [rdI_wrI, rdP_wrI, rdL_wrI, Nat.reduceEqDiff, false_and, and_false, true_and, and_true, reduceIte, ite_self]; exact h.a_sto)
  · first | exact h.z_tw_ox | (simp only [rdI_wrI, rdP_wrI, rdL_wrI, Nat.reduceEqDiff, false_and, and_false, true_and, and_true, reduceIte, ite_self]; exact h.z_tw_ox)
  · first | exact h.z_tw_oy | (simp only [rdI_wrI, rdP_wrI, rdL_wrI, Nat.reduceEqDiff, false_and, and_false, true_and, and_true, reduceIte, ite_self]; exact h.z_tw_oy)
  · first | exact h.z_tw_x | (simp only [rdI_wrI, rdP_wrI, rdL_wrI, Nat.reduceEqDiff, false_and, and_false, true_and, and_true, reduceIte, ite_self]; exact h.z_tw_x)
  · first | exact h.z_tw_y | (simp only [rdI_wrI, rdP_wrI, rdL_wrI, Nat.reduceEqDiff, false_and, and_false, true_and, and_true, reduceIte, ite_self]; exact h.z_tw_y)
  · first | exact h.z_tw_t | (simp only [rdI_wrI, rdP_wrI, rdL_wrI, Nat.reduceEqDiff, false_and, and_false, true_and, and_true, reduceIte, ite_self]; exact h.z_tw_t)
  · first | exact h.z_gl_ox | (simp only [rdI_wrI, rdP_wrI, rdL_wrI, Nat.reduceEqDiff, false_and, and_false, true_and, and_true, reduceIte, ite_self]; exact h.z_gl_ox)
  · first | exact h.z_gl_oy | (simp only [rdI_wrI, rdP_wrI, rdL_wrI, Nat.reduceEqDiff, false_and, and_false, true_and, and_true, reduceIte, ite_self]; exact h.z_gl_oy)
  · first | exact h.z_gl_x | (simp only [rdI_wrI, rdP_wrI, rdL_wrI, Nat.reduceEqDiff, false_and, and_false, true_and, and_true, reduceIte, ite_self]; exact h.z_gl_x)
  · first | exact h.z_gl_y | (simp only [rdI_wrI, rdP_wrI, rdL_wrI, Nat.reduceEqDiff, false_and, and_false, true_and, and_true, reduceIte, ite_self]; exact h.z_gl_y)
  · first | exact h.z_gl_t | (simp only [rdI_wrI, rdP_wrI, rdL_wrI, Nat.reduceEqDiff, false_and, and_false, true_and, and_true, reduceIte, ite_self]; exact h.z_gl_t)
  · have q := hl.1; simp only [PO] at q ⊢; simp only [rdI_wrI, rdP_wrI, rdL_wrI, Nat.reduceEqDiff, false_and, and_false, true_and, and_true, reduceIte, ite_self]; exact q
  · intro i hi; have q := h.fr i; have a := h.r_calls; simp only [PL, PO] at q ⊢; simp only [rdI_wrI, rdP_wrI, rdL_wrI, Nat.reduceEqDiff, false_and, and_false, true_and, and_true, reduceIte, ite_self] at hi ⊢; refine q ?_; have := xI_mono (x := rdI hc 22 16 - 1) (y := rdI hc 22 16) (by grind); omega
  · first | exact h.ft | (have q := h.ft; simp only [FT, PL, PO] at q ⊢; simp only [rdI_wrI, rdP_wrI, rdL_wrI, Nat.reduceEqDiff, false_and, and_false, true_and, and_true, reduceIte, ite_self]; exact q)
  · first | exact h.ow | (have q := h.ow; simp only [OW, PL, PO] at q ⊢; simp only [rdI_wrI, rdP_wrI, rdL_wrI, Nat.reduceEqDiff, false_and, and_false, true_and, and_true, reduceIte, ite_self]; exact q)
  · first | exact h.bys | (have q := h.bys; simp only [BY] at q ⊢; simp only [rdI_wrI, rdP_wrI, rdL_wrI, Nat.reduceEqDiff, false_and, and_false, true_and, and_true, reduceIte, ite_self]; exact q)
  · exact OL_m (by omega) (OL_m (by omega) (OL_m (by omega) (OL_c rfl (OL_c rfl (OL_c rfl (h.ol))))))
theorem Rm.set_again {P : hH → hH → Prop} {hc hm : hH} (h : Rm P hc hm) (k : Nat) {p a t : Int32} (ht : 0 ≤ t) (hl : PL hc hm (rdI hc 22 8) p a) : Rm P (wrI (wrI (wrI hc 46 k t) 22 7 p) 22 11 a) (wrI (wrI (wrI hm 230 k t) 192 92 p) 192 93 a) := by
  refine Rm.mk h.cl ?_ ?_ ?_ ?_ ?_ ?_ ?_ ?_ ?_ ?_ ?_ ?_ ?_ ?_ ?_ ?_ ?_ ?_ ?_ ?_ ?_ ?_ ?_ ?_ ?_ ?_ ?_ ?_ ?_ ?_ ?_ ?_ ?_ ?_ ?_ ?_ ?_ ?_ ?_ ?_ ?_ ?_ ?_ ?_ ?_ ?_ ?_ ?_ ?_ ?_ ?_ ?_ ?_ ?_ ?_ ?_ ?_ ?_ ?_ ?_ ?_ ?_ ?_ ?_ ?_ ?_ ?_ ?_ ?_ ?_ ?_ ?_ ?_ ?_ ?_ ?_ ?_ ?_ ?_ ?_ ?_ ?_ ?_ ?_ ?_ ?_ ?_ ?_ ?_
  · exact h.cl.m rfl (h.cl.m rfl (h.cl.m rfl (h.cl.c rfl (h.cl.c rfl (h.cl.c rfl (h.out))))))
  · first | exact h.s_ppem | (simp only [rdI_wrI, rdP_wrI, rdL_wrI, Nat.reduceEqDiff, false_and, and_false, true_and, and_true, reduceIte, ite_self]; exact h.s_ppem)
  · first | exact h.s_steps | (simp only [rdI_wrI, rdP_wrI, rdL_wrI, Nat.reduceEqDiff, false_and, and_false, true_and, and_true, reduceIte, ite_self]; exact h.s_steps)
  · first | exact h.s_high | (simp only [rdI_wrI, rdP_wrI, rdL_wrI, Nat.reduceEqDiff, false_and, and_false, true_and, and_true, reduceIte, ite_self]; exact h.s_high)
  · exact rfl
  · first | exact h.s_run | (simp only [rdI_wrI, rdP_wrI, rdL_wrI, Nat.reduceEqDiff, false_and, and_false, true_and, and_true, reduceIte, ite_self]; exact h.s_run)
  · exact rfl
  · first | exact h.s_at | (simp only [rdI_wrI, rdP_wrI, rdL_wrI, Nat.reduceEqDiff, false_and, and_false, true_and, and_true, reduceIte, ite_self]; exact h.s_at)
  · first | exact h.s_top | (simp only [rdI_wrI, rdP_wrI, rdL_wrI, Nat.reduceEqDiff, false_and, and_false, true_and, and_true, reduceIte, ite_self]; exact h.s_top)
  · first | exact h.s_calls | (simp only [rdI_wrI, rdP_wrI, rdL_wrI, Nat.reduceEqDiff, false_and, and_false, true_and, and_true, reduceIte, ite_self]; exact h.s_calls)
  · first | exact h.s_owns | (simp only [rdI_wrI, rdP_wrI, rdL_wrI, Nat.reduceEqDiff, false_and, and_false, true_and, and_true, reduceIte, ite_self]; exact h.s_owns)
  · first | exact h.s_fx | (simp only [rdI_wrI, rdP_wrI, rdL_wrI, Nat.reduceEqDiff, false_and, and_false, true_and, and_true, reduceIte, ite_self]; exact h.s_fx)
  · first | exact h.s_fy | (simp only [rdI_wrI, rdP_wrI, rdL_wrI, Nat.reduceEqDiff, false_and, and_false, true_and, and_true, reduceIte, ite_self]; exact h.s_fy)
  · first | exact h.s_px | (simp only [rdI_wrI, rdP_wrI, rdL_wrI, Nat.reduceEqDiff, false_and, and_false, true_and, and_true, reduceIte, ite_self]; exact h.s_px)
  · first | exact h.s_py | (simp only [rdI_wrI, rdP_wrI, rdL_wrI, Nat.reduceEqDiff, false_and, and_false, true_and, and_true, reduceIte, ite_self]; exact h.s_py)
  · first | exact h.s_dx | (simp only [rdI_wrI, rdP_wrI, rdL_wrI, Nat.reduceEqDiff, false_and, and_false, true_and, and_true, reduceIte, ite_self]; exact h.s_dx)
  · first | exact h.s_dy | (simp only [rdI_wrI, rdP_wrI, rdL_wrI, Nat.reduceEqDiff, false_and, and_false, true_and, and_true, reduceIte, ite_self]; exact h.s_dy)
  · first | exact h.s_rp0 | (simp only [rdI_wrI, rdP_wrI, rdL_wrI, Nat.reduceEqDiff, false_and, and_false, true_and, and_true, reduceIte, ite_self]; exact h.s_rp0)
  · first | exact h.s_rp1 | (simp only [rdI_wrI, rdP_wrI, rdL_wrI, Nat.reduceEqDiff, false_and, and_false, true_and, and_true, reduceIte, ite_self]; exact h.s_rp1)
  · first | exact h.s_rp2 | (simp only [rdI_wrI, rdP_wrI, rdL_wrI, Nat.reduceEqDiff, false_and, and_false, true_and, and_true, reduceIte, ite_self]; exact h.s_rp2)
  · first | exact h.s_zp0 | (simp only [rdI_wrI, rdP_wrI, rdL_wrI, Nat.reduceEqDiff, false_and, and_false, true_and, and_true, reduceIte, ite_self]; exact h.s_zp0)
  · first | exact h.s_zp1 | (simp only [rdI_wrI, rdP_wrI, rdL_wrI, Nat.reduceEqDiff, false_and, and_false, true_and, and_true, reduceIte, ite_self]; exact h.s_zp1)
  · first | exact h.s_zp2 | (simp only [rdI_wrI, rdP_wrI, rdL_wrI, Nat.reduceEqDiff, false_and, and_false, true_and, and_true, reduceIte, ite_self]; exact h.s_zp2)
  · first | exact h.s_loop | (simp only [rdI_wrI, rdP_wrI, rdL_wrI, Nat.reduceEqDiff, false_and, and_false, true_and, and_true, reduceIte, ite_self]; exact h.s_loop)
  · first | exact h.s_period | (simp only [rdI_wrI, rdP_wrI, rdL_wrI, Nat.reduceEqDiff, false_and, and_false, true_and, and_true, reduceIte, ite_self]; exact h.s_period)
  · first | exact h.s_phase | (simp only [rdI_wrI, rdP_wrI, rdL_wrI, Nat.reduceEqDiff, false_and, and_false, true_and, and_true, reduceIte, ite_self]; exact h.s_phase)
  · first | exact h.s_thr | (simp only [rdI_wrI, rdP_wrI, rdL_wrI, Nat.reduceEqDiff, false_and, and_false, true_and, and_true, reduceIte, ite_self]; exact h.s_thr)
  · first | exact h.s_cut | (simp only [rdI_wrI, rdP_wrI, rdL_wrI, Nat.reduceEqDiff, false_and, and_false, true_and, and_true, reduceIte, ite_self]; exact h.s_cut)
  · first | exact h.s_single | (simp only [rdI_wrI, rdP_wrI, rdL_wrI, Nat.reduceEqDiff, false_and, and_false, true_and, and_true, reduceIte, ite_self]; exact h.s_single)
  · first | exact h.s_scut | (simp only [rdI_wrI, rdP_wrI, rdL_wrI, Nat.reduceEqDiff, false_and, and_false, true_and, and_true, reduceIte, ite_self]; exact h.s_scut)
  · first | exact h.s_least | (simp only [rdI_wrI, rdP_wrI, rdL_wrI, Nat.reduceEqDiff, false_and, and_false, true_and, and_true, reduceIte, ite_self]; exact h.s_least)
  · first | exact h.s_flip | (simp only [rdI_wrI, rdP_wrI, rdL_wrI, Nat.reduceEqDiff, false_and, and_false, true_and, and_true, reduceIte, ite_self]; exact h.s_flip)
  · first | exact h.s_base | (simp only [rdI_wrI, rdP_wrI, rdL_wrI, Nat.reduceEqDiff, false_and, and_false, true_and, and_true, reduceIte, ite_self]; exact h.s_base)
  · first | exact h.s_shift | (simp only [rdI_wrI, rdP_wrI, rdL_wrI, Nat.reduceEqDiff, false_and, and_false, true_and, and_true, reduceIte, ite_self]; exact h.s_shift)
  · first | exact h.s_scan | (simp only [rdI_wrI, rdP_wrI, rdL_wrI, Nat.reduceEqDiff, false_and, and_false, true_and, and_true, reduceIte, ite_self]; exact h.s_scan)
  · first | exact h.s_kind | (simp only [rdI_wrI, rdP_wrI, rdL_wrI, Nat.reduceEqDiff, false_and, and_false, true_and, and_true, reduceIte, ite_self]; exact h.s_kind)
  · first | exact h.s_units | (simp only [rdI_wrI, rdP_wrI, rdL_wrI, Nat.reduceEqDiff, false_and, and_false, true_and, and_true, reduceIte, ite_self]; exact h.s_units)
  · first | exact h.s_zones | (simp only [rdI_wrI, rdP_wrI, rdL_wrI, Nat.reduceEqDiff, false_and, and_false, true_and, and_true, reduceIte, ite_self]; exact h.s_zones)
  · first | exact h.s_funs | (simp only [rdI_wrI, rdP_wrI, rdL_wrI, Nat.reduceEqDiff, false_and, and_false, true_and, and_true, reduceIte, ite_self]; exact h.s_funs)
  · first | exact h.s_ownc | (simp only [rdI_wrI, rdP_wrI, rdL_wrI, Nat.reduceEqDiff, false_and, and_false, true_and, and_true, reduceIte, ite_self]; exact h.s_ownc)
  · first | exact h.s_stk | (simp only [rdI_wrI, rdP_wrI, rdL_wrI, Nat.reduceEqDiff, false_and, and_false, true_and, and_true, reduceIte, ite_self]; exact h.s_stk)
  · first | exact h.s_cvtM | (simp only [rdI_wrI, rdP_wrI, rdL_wrI, Nat.reduceEqDiff, false_and, and_false, true_and, and_true, reduceIte, ite_self]; exact h.s_cvtM)
  · first | exact h.s_stoM | (simp only [rdI_wrI, rdP_wrI, rdL_wrI, Nat.reduceEqDiff, false_and, and_false, true_and, and_true, reduceIte, ite_self]; exact h.s_stoM)
  · first | exact h.s_twM | (simp only [rdI_wrI, rdP_wrI, rdL_wrI, Nat.reduceEqDiff, false_and, and_false, true_and, and_true, reduceIte, ite_self]; exact h.s_twM)
  · first | exact h.s_glM | (simp only [rdI_wrI, rdP_wrI, rdL_wrI, Nat.reduceEqDiff, false_and, and_false, true_and, and_true, reduceIte, ite_self]; exact h.s_glM)
  · first | exact h.fail | (simp only [rdI_wrI, rdP_wrI, rdL_wrI, Nat.reduceEqDiff, false_and, and_false, true_and, and_true, reduceIte, ite_self]; exact h.fail)
  · first | exact h.r_top | (simp only [rdI_wrI, rdP_wrI, rdL_wrI, Nat.reduceEqDiff, false_and, and_false, true_and, and_true, reduceIte, ite_self]; exact h.r_top)
  · first | exact h.r_high | (simp only [rdI_wrI, rdP_wrI, rdL_wrI, Nat.reduceEqDiff, false_and, and_false, true_and, and_true, reduceIte, ite_self]; exact h.r_high)
  · first | exact h.r_stk | (simp only [rdI_wrI, rdP_wrI, rdL_wrI, Nat.reduceEqDiff, false_and, and_false, true_and, and_true, reduceIte, ite_self]; exact h.r_stk)
  · first | exact h.r_calls | (simp only [rdI_wrI, rdP_wrI, rdL_wrI, Nat.reduceEqDiff, false_and, and_false, true_and, and_true, reduceIte, ite_self]; exact h.r_calls)
  · simp only [rdI_wrI, rdP_wrI, rdL_wrI, Nat.reduceEqDiff, false_and, and_false, true_and, and_true, reduceIte, ite_self]; exact hl.2.2
  · first | exact h.r_zp0 | (simp only [rdI_wrI, rdP_wrI, rdL_wrI, Nat.reduceEqDiff, false_and, and_false, true_and, and_true, reduceIte, ite_self]; exact h.r_zp0)
  · first | exact h.r_zp1 | (simp only [rdI_wrI, rdP_wrI, rdL_wrI, Nat.reduceEqDiff, false_and, and_false, true_and, and_true, reduceIte, ite_self]; exact h.r_zp1)
  · first | exact h.r_zp2 | (simp only [rdI_wrI, rdP_wrI, rdL_wrI, Nat.reduceEqDiff, false_and, and_false, true_and, and_true, reduceIte, ite_self]; exact h.r_zp2)
  · first | exact h.r_loop | (simp only [rdI_wrI, rdP_wrI, rdL_wrI, Nat.reduceEqDiff, false_and, and_false, true_and, and_true, reduceIte, ite_self]; exact h.r_loop)
  · first | exact h.r_period | (simp only [rdI_wrI, rdP_wrI, rdL_wrI, Nat.reduceEqDiff, false_and, and_false, true_and, and_true, reduceIte, ite_self]; exact h.r_period)
  · first | exact h.r_shift | (simp only [rdI_wrI, rdP_wrI, rdL_wrI, Nat.reduceEqDiff, false_and, and_false, true_and, and_true, reduceIte, ite_self]; exact h.r_shift)
  · first | exact h.r_units | (simp only [rdI_wrI, rdP_wrI, rdL_wrI, Nat.reduceEqDiff, false_and, and_false, true_and, and_true, reduceIte, ite_self]; exact h.r_units)
  · first | exact h.r_funs | (simp only [rdI_wrI, rdP_wrI, rdL_wrI, Nat.reduceEqDiff, false_and, and_false, true_and, and_true, reduceIte, ite_self]; exact h.r_funs)
  · first | exact h.r_ownc | (simp only [rdI_wrI, rdP_wrI, rdL_wrI, Nat.reduceEqDiff, false_and, and_false, true_and, and_true, reduceIte, ite_self]; exact h.r_ownc)
  · first | exact h.r_cvtM | (simp only [rdI_wrI, rdP_wrI, rdL_wrI, Nat.reduceEqDiff, false_and, and_false, true_and, and_true, reduceIte, ite_self]; exact h.r_cvtM)
  · first | exact h.r_stoM | (simp only [rdI_wrI, rdP_wrI, rdL_wrI, Nat.reduceEqDiff, false_and, and_false, true_and, and_true, reduceIte, ite_self]; exact h.r_stoM)
  · first | exact h.r_twM | (simp only [rdI_wrI, rdP_wrI, rdL_wrI, Nat.reduceEqDiff, false_and, and_false, true_and, and_true, reduceIte, ite_self]; exact h.r_twM)
  · first | exact h.r_glM | (simp only [rdI_wrI, rdP_wrI, rdL_wrI, Nat.reduceEqDiff, false_and, and_false, true_and, and_true, reduceIte, ite_self]; exact h.r_glM)
  · first | exact h.r_ppem | (simp only [rdI_wrI, rdP_wrI, rdL_wrI, Nat.reduceEqDiff, false_and, and_false, true_and, and_true, reduceIte, ite_self]; exact h.r_ppem)
  · first | exact h.r_steps | (simp only [rdI_wrI, rdP_wrI, rdL_wrI, Nat.reduceEqDiff, false_and, and_false, true_and, and_true, reduceIte, ite_self]; exact h.r_steps)
  · first | exact h.r_run | (simp only [rdI_wrI, rdP_wrI, rdL_wrI, Nat.reduceEqDiff, false_and, and_false, true_and, and_true, reduceIte, ite_self]; exact h.r_run)
  · simp only [rdI_wrI, rdP_wrI, rdL_wrI, Nat.reduceEqDiff, false_and, and_false, true_and, and_true, reduceIte, ite_self]; exact hl.2.1
  · first | exact h.r_flip | (simp only [rdI_wrI, rdP_wrI, rdL_wrI, Nat.reduceEqDiff, false_and, and_false, true_and, and_true, reduceIte, ite_self]; exact h.r_flip)
  · first | exact h.rnd | (simp only [rdI_wrI, rdP_wrI, rdL_wrI, Nat.reduceEqDiff, false_and, and_false, true_and, and_true, reduceIte, ite_self]; exact h.rnd)
  · first | exact h.a_stk | (simp only [rdI_wrI, rdP_wrI, rdL_wrI, Nat.reduceEqDiff, false_and, and_false, true_and, and_true, reduceIte, ite_self]; exact h.a_stk)
  · first | exact h.a_cvt | (simp only [rdI_wrI, rdP_wrI, rdL_wrI, Nat.reduceEqDiff, false_and, and_false, true_and, and_true, reduceIte, ite_self]; exact h.a_cvt)
  · first | exact h.a_sto | (simp only [rdI_wrI, rdP_wrI, rdL_wrI, Nat.reduceEqDiff, false_and, and_false, true_and, and_true, reduceIte, ite_self]; exact h.a_sto)
  · first | exact h.z_tw_ox | (simp only [rdI_wrI, rdP_wrI, rdL_wrI, Nat.reduceEqDiff, false_and, and_false, true_and, and_true, reduceIte, ite_self]; exact h.z_tw_ox)
  · first | exact h.z_tw_oy | (simp only [rdI_wrI, rdP_wrI, rdL_wrI, Nat.reduceEqDiff, false_and, and_false, true_and, and_true, reduceIte, ite_self]; exact h.z_tw_oy)
  · first | exact h.z_tw_x | (simp only [rdI_wrI, rdP_wrI, rdL_wrI, Nat.reduceEqDiff, false_and, and_false, true_and, and_true, reduceIte, ite_self]; exact h.z_tw_x)
  · first | exact h.z_tw_y | (simp only [rdI_wrI, rdP_wrI, rdL_wrI, Nat.reduceEqDiff, false_and, and_false, true_and, and_true, reduceIte, ite_self]; exact h.z_tw_y)
  · first | exact h.z_tw_t | (simp only [rdI_wrI, rdP_wrI, rdL_wrI, Nat.reduceEqDiff, false_and, and_false, true_and, and_true, reduceIte, ite_self]; exact h.z_tw_t)
  · first | exact h.z_gl_ox | (simp only [rdI_wrI, rdP_wrI, rdL_wrI, Nat.reduceEqDiff, false_and, and_false, true_and, and_true, reduceIte, ite_self]; exact h.z_gl_ox)
  · first | exact h.z_gl_oy | (simp only [rdI_wrI, rdP_wrI, rdL_wrI, Nat.reduceEqDiff, false_and, and_false, true_and, and_true, reduceIte, ite_self]; exact h.z_gl_oy)
  · first | exact h.z_gl_x | (simp only [rdI_wrI, rdP_wrI, rdL_wrI, Nat.reduceEqDiff, false_and, and_false, true_and, and_true, reduceIte, ite_self]; exact h.z_gl_x)
  · first | exact h.z_gl_y | (simp only [rdI_wrI, rdP_wrI, rdL_wrI, Nat.reduceEqDiff, false_and, and_false, true_and, and_true, reduceIte, ite_self]; exact h.z_gl_y)
  · first | exact h.z_gl_t | (simp only [rdI_wrI, rdP_wrI, rdL_wrI, Nat.reduceEqDiff, false_and, and_false, true_and, and_true, reduceIte, ite_self]; exact h.z_gl_t)
  · have q := hl.1; simp only [PO] at q ⊢; simp only [rdI_wrI, rdP_wrI, rdL_wrI, Nat.reduceEqDiff, false_and, and_false, true_and, and_true, reduceIte, ite_self]; exact q
  · intro i hi; have q := h.fr i; simp only [PL, PO] at q ⊢; simp only [rdI_wrI, rdP_wrI, rdL_wrI, Nat.reduceEqDiff, false_and, and_false, true_and, and_true, reduceIte, ite_self] at hi ⊢; by_cases e : i = k
    · subst e; simp only [reduceIte]; obtain ⟨q1, q2, q3, q4, q5, q6, q7, q8⟩ := q hi; exact ⟨q1, q2, trivial, q4, q5, q6, q7, ht⟩
    · simp only [if_neg e]; exact q hi
  · first | exact h.ft | (have q := h.ft; simp only [FT, PL, PO] at q ⊢; simp only [rdI_wrI, rdP_wrI, rdL_wrI, Nat.reduceEqDiff, false_and, and_false, true_and, and_true, reduceIte, ite_self]; exact q)
  · first | exact h.ow | (have q := h.ow; simp only [OW, PL, PO] at q ⊢; simp only [rdI_wrI, rdP_wrI, rdL_wrI, Nat.reduceEqDiff, false_and, and_false, true_and, and_true, reduceIte, ite_self]; exact q)
  · first | exact h.bys | (have q := h.bys; simp only [BY] at q ⊢; simp only [rdI_wrI, rdP_wrI, rdL_wrI, Nat.reduceEqDiff, false_and, and_false, true_and, and_true, reduceIte, ite_self]; exact q)
  · exact OL_m (by omega) (OL_m (by omega) (OL_m (by omega) (OL_c rfl (OL_c rfl (OL_c rfl (h.ol))))))
theorem L_endCall {P : hH → hH → Prop} {hc hm : hH} (h : Rm P hc hm) : OK2 (f_Ma_endCall hc) (f_Mo_endFunction hm) (Tr P) := by
  have rc := h.r_calls
  unfold f_Ma_endCall f_Mo_endFunction
  rw [h.s_calls]
  simp only [lz]
  by_cases q : rdI hc 22 16 = 0
  · rw [if_pos q, if_pos (by rw [q]; decide), f_Ma_want_0, f_Mo_fail_eq h.fail]
    exact OK2_of rfl rfl (Tr_f (h.fails (by decide)))
  · have v : vp_in (rdI hc 22 16 - 1) 32 := vp_lt (n := 32) (m := 32) (by grind) (by grind) rfl
    have l : (rdI hc 22 16 - 1).toNatClampNeg < (rdI hc 22 16).toNatClampNeg := (xI_lt (by grind) (by grind)).mpr (by grind)
    obtain ⟨q1, q2, q3, q4, q5, q6, q7, q8⟩ := h.fr _ l
    rw [if_neg q, if_neg (by grind), f_Ma_want_1]
    simp only [bT_inr, gd_pos v]
    rw [q3]
    by_cases w : rdI hc 46 (rdI hc 22 16 - 1).toNatClampNeg ≤ 0
    · rw [if_pos w, if_pos w]
      simp only [rdI_wrI, rdP_wrI, rdL_wrI, Nat.reduceEqDiff, false_and, and_false, true_and, and_true, eq_self, reduceIte, ite_self]
      rw [q1, q2]
      exact OK2_of rfl rfl (Tr_m (h.set_ret (by grind) q6))
    · rw [if_neg w, if_neg w]
      simp only [rdI_wrI, rdP_wrI, rdL_wrI, Nat.reduceEqDiff, false_and, and_false, true_and, and_true, eq_self, reduceIte, ite_self]
      rw [q5, q4]
      exact OK2_of rfl rfl (Tr_m (h.set_again _ (by grind) q7))
theorem op_45 {P : hH → hH → Prop} {hc hm : hH} (h : Rm P hc hm) : OK2 (f_Ma_low 45 hc) (f_Mo_stacks 45 hm) (Tr P) := by
  unfold f_Ma_low f_Mo_stacks
  simp +decide only [lz, bP_some, bS_some, bT_inl, bT_inr, bJT_inl, bJT_inr, bE_inl, bE_inr, bET_t, bET_inl, bET_inr, cO_t, cO_f, cS_t, cS_f, bE_bS, bE_bP, bE_gd, bET_bT, bET_bS, bET_bP, bET_gd, bJT_bT, bJT_bS, bJT_bP, bJT_gd, bJT_bJT, bP_bS, bP_bP, bP_gd, bT_bT, bT_bS, bT_bP, bT_gd, bS_bS, bS_bP, bS_gd, reduceIte]
  exact E_T (hc := hc) (hm := hm) (L_endCall h)
