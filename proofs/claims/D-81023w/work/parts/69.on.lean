/-! LAYER 3E: codes 128 to 130 (closures printed by gen/mk69.py) -/
theorem Rm.set_on70 {P : hH → hH → Prop} {hc hm : hH} (h : Rm P hc hm) (hO : rdP hc 22 3 = 70) {k : Nat} {v : Int32} (hv : v = 0 ∨ v = 1) : Rm P (wrI hc 73 k v) (wrI hm 217 k v) := by
  refine Rm.mk h.cl ?_ ?_ ?_ ?_ ?_ ?_ ?_ ?_ ?_ ?_ ?_ ?_ ?_ ?_ ?_ ?_ ?_ ?_ ?_ ?_ ?_ ?_ ?_ ?_ ?_ ?_ ?_ ?_ ?_ ?_ ?_ ?_ ?_ ?_ ?_ ?_ ?_ ?_ ?_ ?_ ?_ ?_ ?_ ?_ ?_ ?_ ?_ ?_ ?_ ?_ ?_ ?_ ?_ ?_ ?_ ?_ ?_ ?_ ?_ ?_ ?_ ?_ ?_ ?_ ?_ ?_ ?_ ?_ ?_ ?_ ?_ ?_ ?_ ?_ ?_ ?_ ?_ ?_ ?_ ?_ ?_ ?_ ?_ ?_ ?_ ?_ ?_ ?_ ?_
  · refine h.cl.m rfl ?_
    have q := h.cl.n (k := k) (v := v) (by rw [hO]; unfold isOut; decide) h.out
    rw [hO] at q
    exact q
  · first | exact h.s_ppem | (simp only [rdI_wrI, rdP_wrI, rdL_wrI, Nat.reduceEqDiff, false_and, and_false, true_and, and_true, reduceIte, ite_self]; exact h.s_ppem)
  · first | exact h.s_steps | (simp only [rdI_wrI, rdP_wrI, rdL_wrI, Nat.reduceEqDiff, false_and, and_false, true_and, and_true, reduceIte, ite_self]; exact h.s_steps)
  · first | exact h.s_high | (simp only [rdI_wrI, rdP_wrI, rdL_wrI, Nat.reduceEqDiff, false_and, and_false, true_and, and_true, reduceIte, ite_self]; exact h.s_high)
  · first | exact h.s_prog | (simp only [rdI_wrI, rdP_wrI, rdL_wrI, Nat.reduceEqDiff, false_and, and_false, true_and, and_true, reduceIte, ite_self]; exact h.s_prog)
  · first | exact h.s_run | (simp only [rdI_wrI, rdP_wrI, rdL_wrI, Nat.reduceEqDiff, false_and, and_false, true_and, and_true, reduceIte, ite_self]; exact h.s_run)
  · first | exact h.s_pc | (simp only [rdI_wrI, rdP_wrI, rdL_wrI, Nat.reduceEqDiff, false_and, and_false, true_and, and_true, reduceIte, ite_self]; exact h.s_pc)
  · first | exact h.s_at | (simp only [rdI_wrI, rdP_wrI, rdL_wrI, Nat.reduceEqDiff, false_and, and_false, true_and, and_true, reduceIte, ite_self]; exact h.s_at)
  · first | exact h.s_top | (simp only [rdI_wrI, rdP_wrI, rdL_wrI, Nat.reduceEqDiff, false_and, and_false, true_and, and_true, reduceIte, ite_self]; exact h.s_top)
  · first | exact h.s_calls | (simp only [rdI_wrI, rdP_wrI, rdL_wrI, Nat.reduceEqDiff, false_and, and_false, true_and, and_true, reduceIte, ite_self]; exact h.s_calls)
  · first | exact h.s_owns | (simp only [rdI_wrI, rdP_wrI, rdL_wrI, Nat.reduceEqDiff, false_and, and_false, true_and, and_true, reduceIte, ite_self]; exact h.s_owns)
  · first | exact h.s_fx | (simp only [rdI_wrI, rdP_wrI, rdL_wrI, Nat.reduceEqDiff, false_and, and_false, true_and, and_true, reduceIte, ite_self]; exact h.s_fx)
  · first | exact h.s_fy | (simp only [rdI_wrI, rdP_wrI, rdL_wrI, Nat.reduceEqDiff, false_and, and_false, true_and, and_true, reduceIte, ite_self]; exact h.s_fy)
  · first | exact h.s_px | (simp only [rdI_wrI, rdP_wrI, rdL_wrI, Nat.reduceEqDiff, false_and, and_false, true_and, and_true, reduceIte, ite_self]; exact h.s_px)
  · first | exact h.s_py | (simp only [rdI_wrI, rdP_wrI, rdL_wrI, Nat.reduceEqDiff, false_and, and_false, true_and, and_true, reduceIte, ite_self]; exact h.s_py)
  · first | exact h.s_dx | (simp only [rdI_wrI, rdP_wrI, rdL_wrI, Nat.reduceEqDiff, false_and, and_false, true_and, and_true, reduceIte, ite_self]; exact h.s_dx)
  · first | exact h.s_dy | (simp only [rdI_wrI, rdP_wrI, rdL_wrI, Nat.reduceEqDiff, false_and, and_false, true_and, and_true, reduceIte, ite_self]; exact h.s_dy)
  · first | exact h.s_rp0 | (simp only [rdI_wrI, rdP_wrI, rdL_wrI, Nat.reduceEqDiff, false_and, and_false, true_and, and_true, reduceIte, ite_self]; exact h.s_rp0)
  · first | exact h.s_rp1 | (simp only [rdI_wrI, rdP_wrI, rdL_wrI, Nat.reduceEqDiff, false_and, and_false, true_and, and_true, reduceIte, ite_self]; exact h.s_rp1)
  · first | exact h.s_rp2 | (simp only [rdI_wrI, rdP_wrI, rdL_wrI, Nat.reduceEqDiff, false_and, and_false, true_and, and_true, reduceIte, ite_self]; exact h.s_rp2)
  · first | exact h.s_zp0 | (simp only [rdI_wrI, rdP_wrI, rdL_wrI, Nat.reduceEqDiff, false_and, and_false, true_and, and_true, reduceIte, ite_self]; exact h.s_zp0)
  · first | exact h.s_zp1 | (simp only [rdI_wrI, rdP_wrI, rdL_wrI, Nat.reduceEqDiff, false_and, and_false, true_and, and_true, reduceIte, ite_self]; exact h.s_zp1)
  · first | exact h.s_zp2 | (simp only [rdI_wrI, rdP_wrI, rdL_wrI, Nat.reduceEqDiff, false_and, and_false, true_and, and_true, reduceIte, ite_self]; exact h.s_zp2)
  · first | exact h.s_loop | (simp only [rdI_wrI, rdP_wrI, rdL_wrI, Nat.reduceEqDiff, false_and, and_false, true_and, and_true, reduceIte, ite_self]; exact h.s_loop)
  · first | exact h.s_period | (simp only [rdI_wrI, rdP_wrI, rdL_wrI, Nat.reduceEqDiff, false_and, and_false, true_and, and_true, reduceIte, ite_self]; exact h.s_period)
  · first | exact h.s_phase | (simp only [rdI_wrI, rdP_wrI, rdL_wrI, Nat.reduceEqDiff, false_and, and_false, true_and, and_true, reduceIte, ite_self]; exact h.s_phase)
  · first | exact h.s_thr | (simp only [rdI_wrI, rdP_wrI, rdL_wrI, Nat.reduceEqDiff, false_and, and_false, true_and, and_true, reduceIte, ite_self]; exact h.s_thr)
  · first | exact h.s_cut | (simp only [rdI_wrI, rdP_wrI, rdL_wrI, Nat.reduceEqDiff, false_and, and_false, true_and, and_true, reduceIte, ite_self]; exact h.s_cut)
  · first | exact h.s_single | (simp only [rdI_wrI, rdP_wrI, rdL_wrI, Nat.reduceEqDiff, false_and, and_false, true_and, and_true, reduceIte, ite_self]; exact h.s_single)
  · first | exact h.s_scut | (simp only [rdI_wrI, rdP_wrI, rdL_wrI, Nat.reduceEqDiff, false_and, and_false, true_and, and_true, reduceIte, ite_self]; exact h.s_scut)
  · first | exact h.s_least | (simp only [rdI_wrI, rdP_wrI, rdL_wrI, Nat.reduceEqDiff, false_and, and_false, true_and, and_true, reduceIte, ite_self]; exact h.s_least)
  · first | exact h.s_flip | (simp only [rdI_wrI, rdP_wrI, rdL_wrI, Nat.reduceEqDiff, false_and, and_false, true_and, and_true, reduceIte, ite_self]; exact h.s_flip)
  · first | exact h.s_base | (simp only [rdI_wrI, rdP_wrI, rdL_wrI, Nat.reduceEqDiff, false_and, and_false, true_and, and_true, reduceIte, ite_self]; exact h.s_base)
  · first | exact h.s_shift | (simp only [rdI_wrI, rdP_wrI, rdL_wrI, Nat.reduceEqDiff, false_and, and_false, true_and, and_true, reduceIte, ite_self]; exact h.s_shift)
  · first | exact h.s_scan | (simp only [rdI_wrI, rdP_wrI, rdL_wrI, Nat.reduceEqDiff, false_and, and_false, true_and, and_true, reduceIte, ite_self]; exact h.s_scan)
  · first | exact h.s_kind | (simp only [rdI_wrI, rdP_wrI, rdL_wrI, Nat.reduceEqDiff, false_and, and_false, true_and, and_true, reduceIte, ite_self]; exact h.s_kind)
  · first | exact h.s_units | (simp only [rdI_wrI, rdP_wrI, rdL_wrI, Nat.reduceEqDiff, false_and, and_false, true_and, and_true, reduceIte, ite_self]; exact h.s_units)
  · first | exact h.s_zones | (simp only [rdI_wrI, rdP_wrI, rdL_wrI, Nat.reduceEqDiff, false_and, and_false, true_and, and_true, reduceIte, ite_self]; exact h.s_zones)
  · first | exact h.s_funs | (simp only [rdI_wrI, rdP_wrI, rdL_wrI, Nat.reduceEqDiff, false_and, and_false, true_and, and_true, reduceIte, ite_self]; exact h.s_funs)
  · first | exact h.s_ownc | (simp only [rdI_wrI, rdP_wrI, rdL_wrI, Nat.reduceEqDiff, false_and, and_false, true_and, and_true, reduceIte, ite_self]; exact h.s_ownc)
  · first | exact h.s_stk | (simp only [rdI_wrI, rdP_wrI, rdL_wrI, Nat.reduceEqDiff, false_and, and_false, true_and, and_true, reduceIte, ite_self]; exact h.s_stk)
  · first | exact h.s_cvtM | (simp only [rdI_wrI, rdP_wrI, rdL_wrI, Nat.reduceEqDiff, false_and, and_false, true_and, and_true, reduceIte, ite_self]; exact h.s_cvtM)
  · first | exact h.s_stoM | (simp only [rdI_wrI, rdP_wrI, rdL_wrI, Nat.reduceEqDiff, false_and, and_false, true_and, and_true, reduceIte, ite_self]; exact h.s_stoM)
  · first | exact h.s_twM | (simp only [rdI_wrI, rdP_wrI, rdL_wrI, Nat.reduceEqDiff, false_and, and_false, true_and, and_true, reduceIte, ite_self]; exact h.s_twM)
  · first | exact h.s_glM | (simp only [rdI_wrI, rdP_wrI, rdL_wrI, Nat.reduceEqDiff, false_and, and_false, true_and, and_true, reduceIte, ite_self]; exact h.s_glM)
  · first | exact h.fail | (simp only [rdI_wrI, rdP_wrI, rdL_wrI, Nat.reduceEqDiff, false_and, and_false, true_and, and_true, reduceIte, ite_self]; exact h.fail)
  · first | exact h.r_top | (simp only [rdI_wrI, rdP_wrI, rdL_wrI, Nat.reduceEqDiff, false_and, and_false, true_and, and_true, reduceIte, ite_self]; exact h.r_top)
  · first | exact h.r_high | (simp only [rdI_wrI, rdP_wrI, rdL_wrI, Nat.reduceEqDiff, false_and, and_false, true_and, and_true, reduceIte, ite_self]; exact h.r_high)
  · first | exact h.r_stk | (simp only [rdI_wrI, rdP_wrI, rdL_wrI, Nat.reduceEqDiff, false_and, and_false, true_and, and_true, reduceIte, ite_self]; exact h.r_stk)
  · first | exact h.r_calls | (simp only [rdI_wrI, rdP_wrI, rdL_wrI, Nat.reduceEqDiff, false_and, and_false, true_and, and_true, reduceIte, ite_self]; exact h.r_calls)
  · first | exact h.r_pc | (simp only [rdI_wrI, rdP_wrI, rdL_wrI, Nat.reduceEqDiff, false_and, and_false, true_and, and_true, reduceIte, ite_self]; exact h.r_pc)
  · first | exact h.r_zp0 | (simp only [rdI_wrI, rdP_wrI, rdL_wrI, Nat.reduceEqDiff, false_and, and_false, true_and, and_true, reduceIte, ite_self]; exact h.r_zp0)
  · first | exact h.r_zp1 | (simp only [rdI_wrI, rdP_wrI, rdL_wrI, Nat.reduceEqDiff, false_and, and_false, true_and, and_true, reduceIte, ite_self]; exact h.r_zp1)
  · first | exact h.r_zp2 | (simp only [rdI_wrI, rdP_wrI, rdL_wrI, Nat.reduceEqDiff, false_and, and_false, true_and, and_true, reduceIte, ite_self]; exact h.r_zp2)
  · first | exact h.r_loop | (simp only [rdI_wrI, rdP_wrI, rdL_wrI, Nat.reduceEqDiff, false_and, and_false, true_and, and_true, reduceIte, ite_self]; exact h.r_loop)
  · first | exact h.r_period | (simp only [rdI_wrI, rdP_wrI, rdL_wrI, Nat.reduceEqDiff, false_and, and_false, true_and, and_true, reduceIte, ite_self]; exact h.r_period)
  · first | exact h.r_shift | (simp only [rdI_wrI, rdP_wrI, rdL_wrI, Nat.reduceEqDiff, false_and, and_false, true_and, and_true, reduceIte, ite_self]; exact h.r_shift)
  · first | exact h.r_units | (simp only [rdI_wrI, rdP_wrI, rdL_wrI, Nat.reduceEqDiff, false_and, and_false, true_and, and_true, reduceIte, ite_self]; exact h.r_units)
  · first | exact h.r_funs | (simp only [rdI_wrI, rdP_wrI, rdL_wrI, Nat.reduceEqDiff, false_and, and_false, true_and, and_true, reduceIte, ite_self]; exact h.r_funs)
  · first | exact h.r_ownc | (simp only [rdI_wrI, rdP_wrI, rdL_wrI, Nat.reduceEqDiff, false_and, and_false, true_and, and_true, reduceIte, ite_self]; exact h.r_ownc)
  · first | exact h.r_cvtM | (simp only [rdI_wrI, rdP_wrI, rdL_wrI, Nat.reduceEqDiff, false_and, and_false, true_and, and_true, reduceIte, ite_self]; exact h.r_cvtM)
  · first | exact h.r_stoM | (simp only [rdI_wrI, rdP_wrI, rdL_wrI, Nat.reduceEqDiff, false_and, and_false, true_and, and_true, reduceIte, ite_self]; exact h.r_stoM)
  · first | exact h.r_twM | (simp only [rdI_wrI, rdP_wrI, rdL_wrI, Nat.reduceEqDiff, false_and, and_false, true_and, and_true, reduceIte, ite_self]; exact h.r_twM)
  · first | exact h.r_glM | (simp only [rdI_wrI, rdP_wrI, rdL_wrI, Nat.reduceEqDiff, false_and, and_false, true_and, and_true, reduceIte, ite_self]; exact h.r_glM)
  · first | exact h.r_ppem | (simp only [rdI_wrI, rdP_wrI, rdL_wrI, Nat.reduceEqDiff, false_and, and_false, true_and, and_true, reduceIte, ite_self]; exact h.r_ppem)
  · first | exact h.r_steps | (simp only [rdI_wrI, rdP_wrI, rdL_wrI, Nat.reduceEqDiff, false_and, and_false, true_and, and_true, reduceIte, ite_self]; exact h.r_steps)
  · first | exact h.r_run | (simp only [rdI_wrI, rdP_wrI, rdL_wrI, Nat.reduceEqDiff, false_and, and_false, true_and, and_true, reduceIte, ite_self]; exact h.r_run)
  · first | exact h.r_prog | (simp only [rdI_wrI, rdP_wrI, rdL_wrI, Nat.reduceEqDiff, false_and, and_false, true_and, and_true, reduceIte, ite_self]; exact h.r_prog)
  · first | exact h.r_flip | (simp only [rdI_wrI, rdP_wrI, rdL_wrI, Nat.reduceEqDiff, false_and, and_false, true_and, and_true, reduceIte, ite_self]; exact h.r_flip)
  · first | exact h.rnd | (simp only [rdI_wrI, rdP_wrI, rdL_wrI, Nat.reduceEqDiff, false_and, and_false, true_and, and_true, reduceIte, ite_self]; exact h.rnd)
  · first | exact h.a_stk | (simp only [rdI_wrI, rdP_wrI, rdL_wrI, Nat.reduceEqDiff, false_and, and_false, true_and, and_true, reduceIte, ite_self]; exact h.a_stk)
  · first | exact h.a_cvt | (simp only [rdI_wrI, rdP_wrI, rdL_wrI, Nat.reduceEqDiff, false_and, and_false, true_and, and_true, reduceIte, ite_self]; exact h.a_cvt)
  · first | exact h.a_sto | (simp only [rdI_wrI, rdP_wrI, rdL_wrI, Nat.reduceEqDiff, false_and, and_false, true_and, and_true, reduceIte, ite_self]; exact h.a_sto)
  · first | exact h.z_tw_ox | (simp only [rdI_wrI, rdP_wrI, rdL_wrI, Nat.reduceEqDiff, false_and, and_false, true_and, and_true, reduceIte, ite_self]; exact h.z_tw_ox)
  · first | exact h.z_tw_oy | (simp only [rdI_wrI, rdP_wrI, rdL_wrI, Nat.reduceEqDiff, false_and, and_false, true_and, and_true, reduceIte, ite_self]; exact h.z_tw_oy)
  · first | exact h.z_tw_x | (simp only [rdI_wrI, rdP_wrI, rdL_wrI, Nat.reduceEqDiff, false_and, and_false, true_and, and_true, reduceIte, ite_self]; exact h.z_tw_x)
  · first | exact h.z_tw_y | (simp only [rdI_wrI, rdP_wrI, rdL_wrI, Nat.reduceEqDiff, false_and, and_false, true_and, and_true, reduceIte, ite_self]; exact h.z_tw_y)
  · first | exact h.z_tw_t | (simp only [rdI_wrI, rdP_wrI, rdL_wrI, Nat.reduceEqDiff, false_and, and_false, true_and, and_true, reduceIte, ite_self]; exact h.z_tw_t)
  · first | exact h.z_gl_ox | (simp only [rdI_wrI, rdP_wrI, rdL_wrI, Nat.reduceEqDiff, false_and, and_false, true_and, and_true, reduceIte, ite_self]; exact h.z_gl_ox)
  · first | exact h.z_gl_oy | (simp only [rdI_wrI, rdP_wrI, rdL_wrI, Nat.reduceEqDiff, false_and, and_false, true_and, and_true, reduceIte, ite_self]; exact h.z_gl_oy)
  · first | exact h.z_gl_x | (simp only [rdI_wrI, rdP_wrI, rdL_wrI, Nat.reduceEqDiff, false_and, and_false, true_and, and_true, reduceIte, ite_self]; exact h.z_gl_x)
  · first | exact h.z_gl_y | (simp only [rdI_wrI, rdP_wrI, rdL_wrI, Nat.reduceEqDiff, false_and, and_false, true_and, and_true, reduceIte, ite_self]; exact h.z_gl_y)
  · first | exact h.z_gl_t | (simp only [rdI_wrI, rdP_wrI, rdL_wrI, Nat.reduceEqDiff, false_and, and_false, true_and, and_true, reduceIte, ite_self]; exact h.z_gl_t)
  · first | exact h.po | (have q := h.po; simp only [PO] at q ⊢; simp only [rdI_wrI, rdP_wrI, rdL_wrI, Nat.reduceEqDiff, false_and, and_false, true_and, and_true, reduceIte, ite_self]; exact q)
  · first | exact h.fr | (have q := h.fr; simp only [FR, PL, PO] at q ⊢; simp only [rdI_wrI, rdP_wrI, rdL_wrI, Nat.reduceEqDiff, false_and, and_false, true_and, and_true, reduceIte, ite_self]; exact q)
  · first | exact h.ft | (have q := h.ft; simp only [FT, PL, PO] at q ⊢; simp only [rdI_wrI, rdP_wrI, rdL_wrI, Nat.reduceEqDiff, false_and, and_false, true_and, and_true, reduceIte, ite_self]; exact q)
  · first | exact h.ow | (have q := h.ow; simp only [OW, PL, PO] at q ⊢; simp only [rdI_wrI, rdP_wrI, rdL_wrI, Nat.reduceEqDiff, false_and, and_false, true_and, and_true, reduceIte, ite_self]; exact q)
  · first | exact h.bys | (have q := h.bys; simp only [BY] at q ⊢; simp only [rdI_wrI, rdP_wrI, rdL_wrI, Nat.reduceEqDiff, false_and, and_false, true_and, and_true, reduceIte, ite_self]; exact q)
  · rcases h.ol with ⟨a, _, _⟩ | o
    · rw [hO] at a; exact absurd a (by decide)
    · refine Or.inr ?_
      show OLo _ _ (rdP hc 22 3)
      rw [hO] at o ⊢
      simp only [OLo, show rf 70 4 = 74 from rfl, show rf 70 2 = 73 from rfl] at o ⊢
      simp only [rdI_wrI, rdP_wrI, rdL_wrI, Nat.reduceEqDiff, false_and, and_false, true_and, and_true, reduceIte, ite_self]
      refine ⟨o.1, o.2.1, o.2.2.1, o.2.2.2.1, o.2.2.2.2.1, ?_⟩
      intro i hi
      by_cases e : i = k
      · simp only [e, reduceIte]; exact ⟨trivial, hv⟩
      · simp only [if_neg e]; exact o.2.2.2.2.2 i hi
theorem Rm.set_on87 {P : hH → hH → Prop} {hc hm : hH} (h : Rm P hc hm) (hO : rdP hc 22 3 = 87) {k : Nat} {v : Int32} (hv : v = 0 ∨ v = 1) : Rm P (wrI hc 90 k v) (wrI hm 217 k v) := by
  refine Rm.mk h.cl ?_ ?_ ?_ ?_ ?_ ?_ ?_ ?_ ?_ ?_ ?_ ?_ ?_ ?_ ?_ ?_ ?_ ?_ ?_ ?_ ?_ ?_ ?_ ?_ ?_ ?_ ?_ ?_ ?_ ?_ ?_ ?_ ?_ ?_ ?_ ?_ ?_ ?_ ?_ ?_ ?_ ?_ ?_ ?_ ?_ ?_ ?_ ?_ ?_ ?_ ?_ ?_ ?_ ?_ ?_ ?_ ?_ ?_ ?_ ?_ ?_ ?_ ?_ ?_ ?_ ?_ ?_ ?_ ?_ ?_ ?_ ?_ ?_ ?_ ?_ ?_ ?_ ?_ ?_ ?_ ?_ ?_ ?_ ?_ ?_ ?_ ?_ ?_ ?_
  · refine h.cl.m rfl ?_
    have q := h.cl.n (k := k) (v := v) (by rw [hO]; unfold isOut; decide) h.out
    rw [hO] at q
    exact q
  · first | exact h.s_ppem | (simp only [rdI_wrI, rdP_wrI, rdL_wrI, Nat.reduceEqDiff, false_and, and_false, true_and, and_true, reduceIte, ite_self]; exact h.s_ppem)
  · first | exact h.s_steps | (simp only [rdI_wrI, rdP_wrI, rdL_wrI, Nat.reduceEqDiff, false_and, and_false, true_and, and_true, reduceIte, ite_self]; exact h.s_steps)
  · first | exact h.s_high | (simp only [rdI_wrI, rdP_wrI, rdL_wrI, Nat.reduceEqDiff, false_and, and_false, true_and, and_true, reduceIte, ite_self]; exact h.s_high)
  · first | exact h.s_prog | (simp only [rdI_wrI, rdP_wrI, rdL_wrI, Nat.reduceEqDiff, false_and, and_false, true_and, and_true, reduceIte, ite_self]; exact h.s_prog)
  · first | exact h.s_run | (simp only [rdI_wrI, rdP_wrI, rdL_wrI, Nat.reduceEqDiff, false_and, and_false, true_and, and_true, reduceIte, ite_self]; exact h.s_run)
  · first | exact h.s_pc | (simp only [rdI_wrI, rdP_wrI, rdL_wrI, Nat.reduceEqDiff, false_and, and_false, true_and, and_true, reduceIte, ite_self]; exact h.s_pc)
  · first | exact h.s_at | (simp only [rdI_wrI, rdP_wrI, rdL_wrI, Nat.reduceEqDiff, false_and, and_false, true_and, and_true, reduceIte, ite_self]; exact h.s_at)
  · first | exact h.s_top | (simp only [rdI_wrI, rdP_wrI, rdL_wrI, Nat.reduceEqDiff, false_and, and_false, true_and, and_true, reduceIte, ite_self]; exact h.s_top)
  · first | exact h.s_calls | (simp only [rdI_wrI, rdP_wrI, rdL_wrI, Nat.reduceEqDiff, false_and, and_false, true_and, and_true, reduceIte, ite_self]; exact h.s_calls)
  · first | exact h.s_owns | (simp only [rdI_wrI, rdP_wrI, rdL_wrI, Nat.reduceEqDiff, false_and, and_false, true_and, and_true, reduceIte, ite_self]; exact h.s_owns)
  · first | exact h.s_fx | (simp only [rdI_wrI, rdP_wrI, rdL_wrI, Nat.reduceEqDiff, false_and, and_false, true_and, and_true, reduceIte, ite_self]; exact h.s_fx)
  · first | exact h.s_fy | (simp only [rdI_wrI, rdP_wrI, rdL_wrI, Nat.reduceEqDiff, false_and, and_false, true_and, and_true, reduceIte, ite_self]; exact h.s_fy)
  · first | exact h.s_px | (simp only [rdI_wrI, rdP_wrI, rdL_wrI, Nat.reduceEqDiff, false_and, and_false, true_and, and_true, reduceIte, ite_self]; exact h.s_px)
  · first | exact h.s_py | (simp only [rdI_wrI, rdP_wrI, rdL_wrI, Nat.reduceEqDiff, false_and, and_false, true_and, and_true, reduceIte, ite_self]; exact h.s_py)
  · first | exact h.s_dx | (simp only [rdI_wrI, rdP_wrI, rdL_wrI, Nat.reduceEqDiff, false_and, and_false, true_and, and_true, reduceIte, ite_self]; exact h.s_dx)
  · first | exact h.s_dy | (simp only [rdI_wrI, rdP_wrI, rdL_wrI, Nat.reduceEqDiff, false_and, and_false, true_and, and_true, reduceIte, ite_self]; exact h.s_dy)
  · first | exact h.s_rp0 | (simp only [rdI_wrI, rdP_wrI, rdL_wrI, Nat.reduceEqDiff, false_and, and_false, true_and, and_true, reduceIte, ite_self]; exact h.s_rp0)
  · first | exact h.s_rp1 | (simp only [rdI_wrI, rdP_wrI, rdL_wrI, Nat.reduceEqDiff, false_and, and_false, true_and, and_true, reduceIte, ite_self]; exact h.s_rp1)
  · first | exact h.s_rp2 | (simp only [rdI_wrI, rdP_wrI, rdL_wrI, Nat.reduceEqDiff, false_and, and_false, true_and, and_true, reduceIte, ite_self]; exact h.s_rp2)
  · first | exact h.s_zp0 | (simp only [rdI_wrI, rdP_wrI, rdL_wrI, Nat.reduceEqDiff, false_and, and_false, true_and, and_true, reduceIte, ite_self]; exact h.s_zp0)
  · first | exact h.s_zp1 | (simp only [rdI_wrI, rdP_wrI, rdL_wrI, Nat.reduceEqDiff, false_and, and_false, true_and, and_true, reduceIte, ite_self]; exact h.s_zp1)
  · first | exact h.s_zp2 | (simp only [rdI_wrI, rdP_wrI, rdL_wrI, Nat.reduceEqDiff, false_and, and_false, true_and, and_true, reduceIte, ite_self]; exact h.s_zp2)
  · first | exact h.s_loop | (simp only [rdI_wrI, rdP_wrI, rdL_wrI, Nat.reduceEqDiff, false_and, and_false, true_and, and_true, reduceIte, ite_self]; exact h.s_loop)
  · first | exact h.s_period | (simp only [rdI_wrI, rdP_wrI, rdL_wrI, Nat.reduceEqDiff, false_and, and_false, true_and, and_true, reduceIte, ite_self]; exact h.s_period)
  · first | exact h.s_phase | (simp only [rdI_wrI, rdP_wrI, rdL_wrI, Nat.reduceEqDiff, false_and, and_false, true_and, and_true, reduceIte, ite_self]; exact h.s_phase)
  · first | exact h.s_thr | (simp only [rdI_wrI, rdP_wrI, rdL_wrI, Nat.reduceEqDiff, false_and, and_false, true_and, and_true, reduceIte, ite_self]; exact h.s_thr)
  · first | exact h.s_cut | (simp only [rdI_wrI, rdP_wrI, rdL_wrI, Nat.reduceEqDiff, false_and, and_false, true_and, and_true, reduceIte, ite_self]; exact h.s_cut)
  · first | exact h.s_single | (simp only [rdI_wrI, rdP_wrI, rdL_wrI, Nat.reduceEqDiff, false_and, and_false, true_and, and_true, reduceIte, ite_self]; exact h.s_single)
  · first | exact h.s_scut | (simp only [rdI_wrI, rdP_wrI, rdL_wrI, Nat.reduceEqDiff, false_and, and_false, true_and, and_true, reduceIte, ite_self]; exact h.s_scut)
  · first | exact h.s_least | (simp only [rdI_wrI, rdP_wrI, rdL_wrI, Nat.reduceEqDiff, false_and, and_false, true_and, and_true, reduceIte, ite_self]; exact h.s_least)
  · first | exact h.s_flip | (simp only [rdI_wrI, rdP_wrI, rdL_wrI, Nat.reduceEqDiff, false_and, and_false, true_and, and_true, reduceIte, ite_self]; exact h.s_flip)
  · first | exact h.s_base | (simp only [rdI_wrI, rdP_wrI, rdL_wrI, Nat.reduceEqDiff, false_and, and_false, true_and, and_true, reduceIte, ite_self]; exact h.s_base)
  · first | exact h.s_shift | (simp only [rdI_wrI, rdP_wrI, rdL_wrI, Nat.reduceEqDiff, false_and, and_false, true_and, and_true, reduceIte, ite_self]; exact h.s_shift)
  · first | exact h.s_scan | (simp only [rdI_wrI, rdP_wrI, rdL_wrI, Nat.reduceEqDiff, false_and, and_false, true_and, and_true, reduceIte, ite_self]; exact h.s_scan)
  · first | exact h.s_kind | (simp only [rdI_wrI, rdP_wrI, rdL_wrI, Nat.reduceEqDiff, false_and, and_false, true_and, and_true, reduceIte, ite_self]; exact h.s_kind)
  · first | exact h.s_units | (simp only [rdI_wrI, rdP_wrI, rdL_wrI, Nat.reduceEqDiff, false_and, and_false, true_and, and_true, reduceIte, ite_self]; exact h.s_units)
  · first | exact h.s_zones | (simp only [rdI_wrI, rdP_wrI, rdL_wrI, Nat.reduceEqDiff, false_and, and_false, true_and, and_true, reduceIte, ite_self]; exact h.s_zones)
  · first | exact h.s_funs | (simp only [rdI_wrI, rdP_wrI, rdL_wrI, Nat.reduceEqDiff, false_and, and_false, true_and, and_true, reduceIte, ite_self]; exact h.s_funs)
  · first | exact h.s_ownc | (simp only [rdI_wrI, rdP_wrI, rdL_wrI, Nat.reduceEqDiff, false_and, and_false, true_and, and_true, reduceIte, ite_self]; exact h.s_ownc)
  · first | exact h.s_stk | (simp only [rdI_wrI, rdP_wrI, rdL_wrI, Nat.reduceEqDiff, false_and, and_false, true_and, and_true, reduceIte, ite_self]; exact h.s_stk)
  · first | exact h.s_cvtM | (simp only [rdI_wrI, rdP_wrI, rdL_wrI, Nat.reduceEqDiff, false_and, and_false, true_and, and_true, reduceIte, ite_self]; exact h.s_cvtM)
  · first | exact h.s_stoM | (simp only [rdI_wrI, rdP_wrI, rdL_wrI, Nat.reduceEqDiff, false_and, and_false, true_and, and_true, reduceIte, ite_self]; exact h.s_stoM)
  · first | exact h.s_twM | (simp only [rdI_wrI, rdP_wrI, rdL_wrI, Nat.reduceEqDiff, false_and, and_false, true_and, and_true, reduceIte, ite_self]; exact h.s_twM)
  · first | exact h.s_glM | (simp only [rdI_wrI, rdP_wrI, rdL_wrI, Nat.reduceEqDiff, false_and, and_false, true_and, and_true, reduceIte, ite_self]; exact h.s_glM)
  · first | exact h.fail | (simp only [rdI_wrI, rdP_wrI, rdL_wrI, Nat.reduceEqDiff, false_and, and_false, true_and, and_true, reduceIte, ite_self]; exact h.fail)
  · first | exact h.r_top | (simp only [rdI_wrI, rdP_wrI, rdL_wrI, Nat.reduceEqDiff, false_and, and_false, true_and, and_true, reduceIte, ite_self]; exact h.r_top)
  · first | exact h.r_high | (simp only [rdI_wrI, rdP_wrI, rdL_wrI, Nat.reduceEqDiff, false_and, and_false, true_and, and_true, reduceIte, ite_self]; exact h.r_high)
  · first | exact h.r_stk | (simp only [rdI_wrI, rdP_wrI, rdL_wrI, Nat.reduceEqDiff, false_and, and_false, true_and, and_true, reduceIte, ite_self]; exact h.r_stk)
  · first | exact h.r_calls | (simp only [rdI_wrI, rdP_wrI, rdL_wrI, Nat.reduceEqDiff, false_and, and_false, true_and, and_true, reduceIte, ite_self]; exact h.r_calls)
  · first | exact h.r_pc | (simp only [rdI_wrI, rdP_wrI, rdL_wrI, Nat.reduceEqDiff, false_and, and_false, true_and, and_true, reduceIte, ite_self]; exact h.r_pc)
  · first | exact h.r_zp0 | (simp only [rdI_wrI, rdP_wrI, rdL_wrI, Nat.reduceEqDiff, false_and, and_false, true_and, and_true, reduceIte, ite_self]; exact h.r_zp0)
  · first | exact h.r_zp1 | (simp only [rdI_wrI, rdP_wrI, rdL_wrI, Nat.reduceEqDiff, false_and, and_false, true_and, and_true, reduceIte, ite_self]; exact h.r_zp1)
  · first | exact h.r_zp2 | (simp only [rdI_wrI, rdP_wrI, rdL_wrI, Nat.reduceEqDiff, false_and, and_false, true_and, and_true, reduceIte, ite_self]; exact h.r_zp2)
  · first | exact h.r_loop | (simp only [rdI_wrI, rdP_wrI, rdL_wrI, Nat.reduceEqDiff, false_and, and_false, true_and, and_true, reduceIte, ite_self]; exact h.r_loop)
  · first | exact h.r_period | (simp only [rdI_wrI, rdP_wrI, rdL_wrI, Nat.reduceEqDiff, false_and, and_false, true_and, and_true, reduceIte, ite_self]; exact h.r_period)
  · first | exact h.r_shift | (simp only [rdI_wrI, rdP_wrI, rdL_wrI, Nat.reduceEqDiff, false_and, and_false, true_and, and_true, reduceIte, ite_self]; exact h.r_shift)
  · first | exact h.r_units | (simp only [rdI_wrI, rdP_wrI, rdL_wrI, Nat.reduceEqDiff, false_and, and_false, true_and, and_true, reduceIte, ite_self]; exact h.r_units)
  · first | exact h.r_funs | (simp only [rdI_wrI, rdP_wrI, rdL_wrI, Nat.reduceEqDiff, false_and, and_false, true_and, and_true, reduceIte, ite_self]; exact h.r_funs)
  · first | exact h.r_ownc | (simp only [rdI_wrI, rdP_wrI, rdL_wrI, Nat.reduceEqDiff, false_and, and_false, true_and, and_true, reduceIte, ite_self]; exact h.r_ownc)
  · first | exact h.r_cvtM | (simp only [rdI_wrI, rdP_wrI, rdL_wrI, Nat.reduceEqDiff, false_and, and_false, true_and, and_true, reduceIte, ite_self]; exact h.r_cvtM)
  · first | exact h.r_stoM | (simp only [rdI_wrI, rdP_wrI, rdL_wrI, Nat.reduceEqDiff, false_and, and_false, true_and, and_true, reduceIte, ite_self]; exact h.r_stoM)
  · first | exact h.r_twM | (simp only [rdI_wrI, rdP_wrI, rdL_wrI, Nat.reduceEqDiff, false_and, and_false, true_and, and_true, reduceIte, ite_self]; exact h.r_twM)
  · first | exact h.r_glM | (simp only [rdI_wrI, rdP_wrI, rdL_wrI, Nat.reduceEqDiff, false_and, and_false, true_and, and_true, reduceIte, ite_self]; exact h.r_glM)
  · first | exact h.r_ppem | (simp only [rdI_wrI, rdP_wrI, rdL_wrI, Nat.reduceEqDiff, false_and, and_false, true_and, and_true, reduceIte, ite_self]; exact h.r_ppem)
  · first | exact h.r_steps | (simp only [rdI_wrI, rdP_wrI, rdL_wrI, Nat.reduceEqDiff, false_and, and_false, true_and, and_true, reduceIte, ite_self]; exact h.r_steps)
  · first | exact h.r_run | (simp only [rdI_wrI, rdP_wrI, rdL_wrI, Nat.reduceEqDiff, false_and, and_false, true_and, and_true, reduceIte, ite_self]; exact h.r_run)
  · first | exact h.r_prog | (simp only [rdI_wrI, rdP_wrI, rdL_wrI, Nat.reduceEqDiff, false_and, and_false, true_and, and_true, reduceIte, ite_self]; exact h.r_prog)
  · first | exact h.r_flip | (simp only [rdI_wrI, rdP_wrI, rdL_wrI, Nat.reduceEqDiff, false_and, and_false, true_and, and_true, reduceIte, ite_self]; exact h.r_flip)
  · first | exact h.rnd | (simp only [rdI_wrI, rdP_wrI, rdL_wrI, Nat.reduceEqDiff, false_and, and_false, true_and, and_true, reduceIte, ite_self]; exact h.rnd)
  · first | exact h.a_stk | (simp only [rdI_wrI, rdP_wrI, rdL_wrI, Nat.reduceEqDiff, false_and, and_false, true_and, and_true, reduceIte, ite_self]; exact h.a_stk)
  · first | exact h.a_cvt | (simp only [rdI_wrI, rdP_wrI, rdL_wrI, Nat.reduceEqDiff, false_and, and_false, true_and, and_true, reduceIte, ite_self]; exact h.a_cvt)
  · first | exact h.a_sto | (simp only [rdI_wrI, rdP_wrI, rdL_wrI, Nat.reduceEqDiff, false_and, and_false, true_and, and_true, reduceIte, ite_self]; exact h.a_sto)
  · first | exact h.z_tw_ox | (simp only [rdI_wrI, rdP_wrI, rdL_wrI, Nat.reduceEqDiff, false_and, and_false, true_and, and_true, reduceIte, ite_self]; exact h.z_tw_ox)
  · first | exact h.z_tw_oy | (simp only [rdI_wrI, rdP_wrI, rdL_wrI, Nat.reduceEqDiff, false_and, and_false, true_and, and_true, reduceIte, ite_self]; exact h.z_tw_oy)
  · first | exact h.z_tw_x | (simp only [rdI_wrI, rdP_wrI, rdL_wrI, Nat.reduceEqDiff, false_and, and_false, true_and, and_true, reduceIte, ite_self]; exact h.z_tw_x)
  · first | exact h.z_tw_y | (simp only [rdI_wrI, rdP_wrI, rdL_wrI, Nat.reduceEqDiff, false_and, and_false, true_and, and_true, reduceIte, ite_self]; exact h.z_tw_y)
  · first | exact h.z_tw_t | (simp only [rdI_wrI, rdP_wrI, rdL_wrI, Nat.reduceEqDiff, false_and, and_false, true_and, and_true, reduceIte, ite_self]; exact h.z_tw_t)
  · first | exact h.z_gl_ox | (simp only [rdI_wrI, rdP_wrI, rdL_wrI, Nat.reduceEqDiff, false_and, and_false, true_and, and_true, reduceIte, ite_self]; exact h.z_gl_ox)
  · first | exact h.z_gl_oy | (simp only [rdI_wrI, rdP_wrI, rdL_wrI, Nat.reduceEqDiff, false_and, and_false, true_and, and_true, reduceIte, ite_self]; exact h.z_gl_oy)
  · first | exact h.z_gl_x | (simp only [rdI_wrI, rdP_wrI, rdL_wrI, Nat.reduceEqDiff, false_and, and_false, true_and, and_true, reduceIte, ite_self]; exact h.z_gl_x)
  · first | exact h.z_gl_y | (simp only [rdI_wrI, rdP_wrI, rdL_wrI, Nat.reduceEqDiff, false_and, and_false, true_and, and_true, reduceIte, ite_self]; exact h.z_gl_y)
  · first | exact h.z_gl_t | (simp only [rdI_wrI, rdP_wrI, rdL_wrI, Nat.reduceEqDiff, false_and, and_false, true_and, and_true, reduceIte, ite_self]; exact h.z_gl_t)
  · first | exact h.po | (have q := h.po; simp only [PO] at q ⊢; simp only [rdI_wrI, rdP_wrI, rdL_wrI, Nat.reduceEqDiff, false_and, and_false, true_and, and_true, reduceIte, ite_self]; exact q)
  · first | exact h.fr | (have q := h.fr; simp only [FR, PL, PO] at q ⊢; simp only [rdI_wrI, rdP_wrI, rdL_wrI, Nat.reduceEqDiff, false_and, and_false, true_and, and_true, reduceIte, ite_self]; exact q)
  · first | exact h.ft | (have q := h.ft; simp only [FT, PL, PO] at q ⊢; simp only [rdI_wrI, rdP_wrI, rdL_wrI, Nat.reduceEqDiff, false_and, and_false, true_and, and_true, reduceIte, ite_self]; exact q)
  · first | exact h.ow | (have q := h.ow; simp only [OW, PL, PO] at q ⊢; simp only [rdI_wrI, rdP_wrI, rdL_wrI, Nat.reduceEqDiff, false_and, and_false, true_and, and_true, reduceIte, ite_self]; exact q)
  · first | exact h.bys | (have q := h.bys; simp only [BY] at q ⊢; simp only [rdI_wrI, rdP_wrI, rdL_wrI, Nat.reduceEqDiff, false_and, and_false, true_and, and_true, reduceIte, ite_self]; exact q)
  · rcases h.ol with ⟨a, _, _⟩ | o
    · rw [hO] at a; exact absurd a (by decide)
    · refine Or.inr ?_
      show OLo _ _ (rdP hc 22 3)
      rw [hO] at o ⊢
      simp only [OLo, show rf 87 4 = 91 from rfl, show rf 87 2 = 90 from rfl] at o ⊢
      simp only [rdI_wrI, rdP_wrI, rdL_wrI, Nat.reduceEqDiff, false_and, and_false, true_and, and_true, reduceIte, ite_self]
      refine ⟨o.1, o.2.1, o.2.2.1, o.2.2.2.1, o.2.2.2.2.1, ?_⟩
      intro i hi
      by_cases e : i = k
      · simp only [e, reduceIte]; exact ⟨trivial, hv⟩
      · simp only [if_neg e]; exact o.2.2.2.2.2 i hi
theorem Rm.set_on104 {P : hH → hH → Prop} {hc hm : hH} (h : Rm P hc hm) (hO : rdP hc 22 3 = 104) {k : Nat} {v : Int32} (hv : v = 0 ∨ v = 1) : Rm P (wrI hc 107 k v) (wrI hm 217 k v) := by
  refine Rm.mk h.cl ?_ ?_ ?_ ?_ ?_ ?_ ?_ ?_ ?_ ?_ ?_ ?_ ?_ ?_ ?_ ?_ ?_ ?_ ?_ ?_ ?_ ?_ ?_ ?_ ?_ ?_ ?_ ?_ ?_ ?_ ?_ ?_ ?_ ?_ ?_ ?_ ?_ ?_ ?_ ?_ ?_ ?_ ?_ ?_ ?_ ?_ ?_ ?_ ?_ ?_ ?_ ?_ ?_ ?_ ?_ ?_ ?_ ?_ ?_ ?_ ?_ ?_ ?_ ?_ ?_ ?_ ?_ ?_ ?_ ?_ ?_ ?_ ?_ ?_ ?_ ?_ ?_ ?_ ?_ ?_ ?_ ?_ ?_ ?_ ?_ ?_ ?_ ?_ ?_
  · refine h.cl.m rfl ?_
    have q := h.cl.n (k := k) (v := v) (by rw [hO]; unfold isOut; decide) h.out
    rw [hO] at q
    exact q
  · first | exact h.s_ppem | (simp only [rdI_wrI, rdP_wrI, rdL_wrI, Nat.reduceEqDiff, false_and, and_false, true_and, and_true, reduceIte, ite_self]; exact h.s_ppem)
  · first | exact h.s_steps | (simp only [rdI_wrI, rdP_wrI, rdL_wrI, Nat.reduceEqDiff, false_and, and_false, true_and, and_true, reduceIte, ite_self]; exact h.s_steps)
  · first | exact h.s_high | (simp only [rdI_wrI, rdP_wrI, rdL_wrI, Nat.reduceEqDiff, false_and, and_false, true_and, and_true, reduceIte, ite_self]; exact h.s_high)
  · first | exact h.s_prog | (simp only [rdI_wrI, rdP_wrI, rdL_wrI, Nat.reduceEqDiff, false_and, and_false, true_and, and_true, reduceIte, ite_self]; exact h.s_prog)
  · first | exact h.s_run | (simp only [rdI_wrI, rdP_wrI, rdL_wrI, Nat.reduceEqDiff, false_and, and_false, true_and, and_true, reduceIte, ite_self]; exact h.s_run)
  · first | exact h.s_pc | (simp only [rdI_wrI, rdP_wrI, rdL_wrI, Nat.reduceEqDiff, false_and, and_false, true_and, and_true, reduceIte, ite_self]; exact h.s_pc)
  · first | exact h.s_at | (simp only [rdI_wrI, rdP_wrI, rdL_wrI, Nat.reduceEqDiff, false_and, and_false, true_and, and_true, reduceIte, ite_self]; exact h.s_at)
  · first | exact h.s_top | (simp only [rdI_wrI, rdP_wrI, rdL_wrI, Nat.reduceEqDiff, false_and, and_false, true_and, and_true, reduceIte, ite_self]; exact h.s_top)
  · first | exact h.s_calls | (simp only [rdI_wrI, rdP_wrI, rdL_wrI, Nat.reduceEqDiff, false_and, and_false, true_and, and_true, reduceIte, ite_self]; exact h.s_calls)
  · first | exact h.s_owns | (simp only [rdI_wrI, rdP_wrI, rdL_wrI, Nat.reduceEqDiff, false_and, and_false, true_and, and_true, reduceIte, ite_self]; exact h.s_owns)
  · first | exact h.s_fx | (simp only [rdI_wrI, rdP_wrI, rdL_wrI, Nat.reduceEqDiff, false_and, and_false, true_and, and_true, reduceIte, ite_self]; exact h.s_fx)
  · first | exact h.s_fy | (simp only [rdI_wrI, rdP_wrI, rdL_wrI, Nat.reduceEqDiff, false_and, and_false, true_and, and_true, reduceIte, ite_self]; exact h.s_fy)
  · first | exact h.s_px | (simp only [rdI_wrI, rdP_wrI, rdL_wrI, Nat.reduceEqDiff, false_and, and_false, true_and, and_true, reduceIte, ite_self]; exact h.s_px)
  · first | exact h.s_py | (simp only [rdI_wrI, rdP_wrI, rdL_wrI, Nat.reduceEqDiff, false_and, and_false, true_and, and_true, reduceIte, ite_self]; exact h.s_py)
  · first | exact h.s_dx | (simp only [rdI_wrI, rdP_wrI, rdL_wrI, Nat.reduceEqDiff, false_and, and_false, true_and, and_true, reduceIte, ite_self]; exact h.s_dx)
  · first | exact h.s_dy | (simp only [rdI_wrI, rdP_wrI, rdL_wrI, Nat.reduceEqDiff, false_and, and_false, true_and, and_true, reduceIte, ite_self]; exact h.s_dy)
  · first | exact h.s_rp0 | (simp only [rdI_wrI, rdP_wrI, rdL_wrI, Nat.reduceEqDiff, false_and, and_false, true_and, and_true, reduceIte, ite_self]; exact h.s_rp0)
  · first | exact h.s_rp1 | (simp only [rdI_wrI, rdP_wrI, rdL_wrI, Nat.reduceEqDiff, false_and, and_false, true_and, and_true, reduceIte, ite_self]; exact h.s_rp1)
  · first | exact h.s_rp2 | (simp only [rdI_wrI, rdP_wrI, rdL_wrI, Nat.reduceEqDiff, false_and, and_false, true_and, and_true, reduceIte, ite_self]; exact h.s_rp2)
  · first | exact h.s_zp0 | (simp only [rdI_wrI, rdP_wrI, rdL_wrI, Nat.reduceEqDiff, false_and, and_false, true_and, and_true, reduceIte, ite_self]; exact h.s_zp0)
  · first | exact h.s_zp1 | (simp only [rdI_wrI, rdP_wrI, rdL_wrI, Nat.reduceEqDiff, false_and, and_false, true_and, and_true, reduceIte, ite_self]; exact h.s_zp1)
  · first | exact h.s_zp2 | (simp only [rdI_wrI, rdP_wrI, rdL_wrI, Nat.reduceEqDiff, false_and, and_false, true_and, and_true, reduceIte, ite_self]; exact h.s_zp2)
  · first | exact h.s_loop | (simp only [rdI_wrI, rdP_wrI, rdL_wrI, Nat.reduceEqDiff, false_and, and_false, true_and, and_true, reduceIte, ite_self]; exact h.s_loop)
  · first | exact h.s_period | (simp only [rdI_wrI, rdP_wrI, rdL_wrI, Nat.reduceEqDiff, false_and, and_false, true_and, and_true, reduceIte, ite_self]; exact h.s_period)
  · first | exact h.s_phase | (simp only [rdI_wrI, rdP_wrI, rdL_wrI, Nat.reduceEqDiff, false_and, and_false, true_and, and_true, reduceIte, ite_self]; exact h.s_phase)
  · first | exact h.s_thr | (simp only [rdI_wrI, rdP_wrI, rdL_wrI, Nat.reduceEqDiff, false_and, and_false, true_and, and_true, reduceIte, ite_self]; exact h.s_thr)
  · first | exact h.s_cut | (simp only [rdI_wrI, rdP_wrI, rdL_wrI, Nat.reduceEqDiff, false_and, and_false, true_and, and_true, reduceIte, ite_self]; exact h.s_cut)
  · first | exact h.s_single | (simp only [rdI_wrI, rdP_wrI, rdL_wrI, Nat.reduceEqDiff, false_and, and_false, true_and, and_true, reduceIte, ite_self]; exact h.s_single)
  · first | exact h.s_scut | (simp only [rdI_wrI, rdP_wrI, rdL_wrI, Nat.reduceEqDiff, false_and, and_false, true_and, and_true, reduceIte, ite_self]; exact h.s_scut)
  · first | exact h.s_least | (simp only [rdI_wrI, rdP_wrI, rdL_wrI, Nat.reduceEqDiff, false_and, and_false, true_and, and_true, reduceIte, ite_self]; exact h.s_least)
  · first | exact h.s_flip | (simp only [rdI_wrI, rdP_wrI, rdL_wrI, Nat.reduceEqDiff, false_and, and_false, true_and, and_true, reduceIte, ite_self]; exact h.s_flip)
  · first | exact h.s_base | (simp only [rdI_wrI, rdP_wrI, rdL_wrI, Nat.reduceEqDiff, false_and, and_false, true_and, and_true, reduceIte, ite_self]; exact h.s_base)
  · first | exact h.s_shift | (simp only [rdI_wrI, rdP_wrI, rdL_wrI, Nat.reduceEqDiff, false_and, and_false, true_and, and_true, reduceIte, ite_self]; exact h.s_shift)
  · first | exact h.s_scan | (simp only [rdI_wrI, rdP_wrI, rdL_wrI, Nat.reduceEqDiff, false_and, and_false, true_and, and_true, reduceIte, ite_self]; exact h.s_scan)
  · first | exact h.s_kind | (simp only [rdI_wrI, rdP_wrI, rdL_wrI, Nat.reduceEqDiff, false_and, and_false, true_and, and_true, reduceIte, ite_self]; exact h.s_kind)
  · first | exact h.s_units | (simp only [rdI_wrI, rdP_wrI, rdL_wrI, Nat.reduceEqDiff, false_and, and_false, true_and, and_true, reduceIte, ite_self]; exact h.s_units)
  · first | exact h.s_zones | (simp only [rdI_wrI, rdP_wrI, rdL_wrI, Nat.reduceEqDiff, false_and, and_false, true_and, and_true, reduceIte, ite_self]; exact h.s_zones)
  · first | exact h.s_funs | (simp only [rdI_wrI, rdP_wrI, rdL_wrI, Nat.reduceEqDiff, false_and, and_false, true_and, and_true, reduceIte, ite_self]; exact h.s_funs)
  · first | exact h.s_ownc | (simp only [rdI_wrI, rdP_wrI, rdL_wrI, Nat.reduceEqDiff, false_and, and_false, true_and, and_true, reduceIte, ite_self]; exact h.s_ownc)
  · first | exact h.s_stk | (simp only [rdI_wrI, rdP_wrI, rdL_wrI, Nat.reduceEqDiff, false_and, and_false, true_and, and_true, reduceIte, ite_self]; exact h.s_stk)
  · first | exact h.s_cvtM | (simp only [rdI_wrI, rdP_wrI, rdL_wrI, Nat.reduceEqDiff, false_and, and_false, true_and, and_true, reduceIte, ite_self]; exact h.s_cvtM)
  · first | exact h.s_stoM | (simp only [rdI_wrI, rdP_wrI, rdL_wrI, Nat.reduceEqDiff, false_and, and_false, true_and, and_true, reduceIte, ite_self]; exact h.s_stoM)
  · first | exact h.s_twM | (simp only [rdI_wrI, rdP_wrI, rdL_wrI, Nat.reduceEqDiff, false_and, and_false, true_and, and_true, reduceIte, ite_self]; exact h.s_twM)
  · first | exact h.s_glM | (simp only [rdI_wrI, rdP_wrI, rdL_wrI, Nat.reduceEqDiff, false_and, and_false, true_and, and_true, reduceIte, ite_self]; exact h.s_glM)
  · first | exact h.fail | (simp only [rdI_wrI, rdP_wrI, rdL_wrI, Nat.reduceEqDiff, false_and, and_false, true_and, and_true, reduceIte, ite_self]; exact h.fail)
  · first | exact h.r_top | (simp only [rdI_wrI, rdP_wrI, rdL_wrI, Nat.reduceEqDiff, false_and, and_false, true_and, and_true, reduceIte, ite_self]; exact h.r_top)
  · first | exact h.r_high | (simp only [rdI_wrI, rdP_wrI, rdL_wrI, Nat.reduceEqDiff, false_and, and_false, true_and, and_true, reduceIte, ite_self]; exact h.r_high)
  · first | exact h.r_stk | (simp only [rdI_wrI, rdP_wrI, rdL_wrI, Nat.reduceEqDiff, false_and, and_false, true_and, and_true, reduceIte, ite_self]; exact h.r_stk)
  · first | exact h.r_calls | (simp only [rdI_wrI, rdP_wrI, rdL_wrI, Nat.reduceEqDiff, false_and, and_false, true_and, and_true, reduceIte, ite_self]; exact h.r_calls)
  · first | exact h.r_pc | (simp only [rdI_wrI, rdP_wrI, rdL_wrI, Nat.reduceEqDiff, false_and, and_false, true_and, and_true, reduceIte, ite_self]; exact h.r_pc)
  · first | exact h.r_zp0 | (simp only [rdI_wrI, rdP_wrI, rdL_wrI, Nat.reduceEqDiff, false_and, and_false, true_and, and_true, reduceIte, ite_self]; exact h.r_zp0)
  · first | exact h.r_zp1 | (simp only [rdI_wrI, rdP_wrI, rdL_wrI, Nat.reduceEqDiff, false_and, and_false, true_and, and_true, reduceIte, ite_self]; exact h.r_zp1)
  · first | exact h.r_zp2 | (simp only [rdI_wrI, rdP_wrI, rdL_wrI, Nat.reduceEqDiff, false_and, and_false, true_and, and_true, reduceIte, ite_self]; exact h.r_zp2)
  · first | exact h.r_loop | (simp only [rdI_wrI, rdP_wrI, rdL_wrI, Nat.reduceEqDiff, false_and, and_false, true_and, and_true, reduceIte, ite_self]; exact h.r_loop)
  · first | exact h.r_period | (simp only [rdI_wrI, rdP_wrI, rdL_wrI, Nat.reduceEqDiff, false_and, and_false, true_and, and_true, reduceIte, ite_self]; exact h.r_period)
  · first | exact h.r_shift | (simp only [rdI_wrI, rdP_wrI, rdL_wrI, Nat.reduceEqDiff, false_and, and_false, true_and, and_true, reduceIte, ite_self]; exact h.r_shift)
  · first | exact h.r_units | (simp only [rdI_wrI, rdP_wrI, rdL_wrI, Nat.reduceEqDiff, false_and, and_false, true_and, and_true, reduceIte, ite_self]; exact h.r_units)
  · first | exact h.r_funs | (simp only [rdI_wrI, rdP_wrI, rdL_wrI, Nat.reduceEqDiff, false_and, and_false, true_and, and_true, reduceIte, ite_self]; exact h.r_funs)
  · first | exact h.r_ownc | (simp only [rdI_wrI, rdP_wrI, rdL_wrI, Nat.reduceEqDiff, false_and, and_false, true_and, and_true, reduceIte, ite_self]; exact h.r_ownc)
  · first | exact h.r_cvtM | (simp only [rdI_wrI, rdP_wrI, rdL_wrI, Nat.reduceEqDiff, false_and, and_false, true_and, and_true, reduceIte, ite_self]; exact h.r_cvtM)
  · first | exact h.r_stoM | (simp only [rdI_wrI, rdP_wrI, rdL_wrI, Nat.reduceEqDiff, false_and, and_false, true_and, and_true, reduceIte, ite_self]; exact h.r_stoM)
  · first | exact h.r_twM | (simp only [rdI_wrI, rdP_wrI, rdL_wrI, Nat.reduceEqDiff, false_and, and_false, true_and, and_true, reduceIte, ite_self]; exact h.r_twM)
  · first | exact h.r_glM | (simp only [rdI_wrI, rdP_wrI, rdL_wrI, Nat.reduceEqDiff, false_and, and_false, true_and, and_true, reduceIte, ite_self]; exact h.r_glM)
  · first | exact h.r_ppem | (simp only [rdI_wrI, rdP_wrI, rdL_wrI, Nat.reduceEqDiff, false_and, and_false, true_and, and_true, reduceIte, ite_self]; exact h.r_ppem)
  · first | exact h.r_steps | (simp only [rdI_wrI, rdP_wrI, rdL_wrI, Nat.reduceEqDiff, false_and, and_false, true_and, and_true, reduceIte, ite_self]; exact h.r_steps)
  · first | exact h.r_run | (simp only [rdI_wrI, rdP_wrI, rdL_wrI, Nat.reduceEqDiff, false_and, and_false, true_and, and_true, reduceIte, ite_self]; exact h.r_run)
  · first | exact h.r_prog | (simp only [rdI_wrI, rdP_wrI, rdL_wrI, Nat.reduceEqDiff, false_and, and_false, true_and, and_true, reduceIte, ite_self]; exact h.r_prog)
  · first | exact h.r_flip | (simp only [rdI_wrI, rdP_wrI, rdL_wrI, Nat.reduceEqDiff, false_and, and_false, true_and, and_true, reduceIte, ite_self]; exact h.r_flip)
  · first | exact h.rnd | (simp only [rdI_wrI, rdP_wrI, rdL_wrI, Nat.reduceEqDiff, false_and, and_false, true_and, and_true, reduceIte, ite_self]; exact h.rnd)
  · first | exact h.a_stk | (simp only [rdI_wrI, rdP_wrI, rdL_wrI, Nat.reduceEqDiff, false_and, and_false, true_and, and_true, reduceIte, ite_self]; exact h.a_stk)
  · first | exact h.a_cvt | (simp only [rdI_wrI, rdP_wrI, rdL_wrI, Nat.reduceEqDiff, false_and, and_false, true_and, and_true, reduceIte, ite_self]; exact h.a_cvt)
  · first | exact h.a_sto | (simp only [rdI_wrI, rdP_wrI, rdL_wrI, Nat.reduceEqDiff, false_and, and_false, true_and, and_true, reduceIte, ite_self]; exact h.a_sto)
  · first | exact h.z_tw_ox | (simp only [rdI_wrI, rdP_wrI, rdL_wrI, Nat.reduceEqDiff, false_and, and_false, true_and, and_true, reduceIte, ite_self]; exact h.z_tw_ox)
  · first | exact h.z_tw_oy | (simp only [rdI_wrI, rdP_wrI, rdL_wrI, Nat.reduceEqDiff, false_and, and_false, true_and, and_true, reduceIte, ite_self]; exact h.z_tw_oy)
  · first | exact h.z_tw_x | (simp only [rdI_wrI, rdP_wrI, rdL_wrI, Nat.reduceEqDiff, false_and, and_false, true_and, and_true, reduceIte, ite_self]; exact h.z_tw_x)
  · first | exact h.z_tw_y | (simp only [rdI_wrI, rdP_wrI, rdL_wrI, Nat.reduceEqDiff, false_and, and_false, true_and, and_true, reduceIte, ite_self]; exact h.z_tw_y)
  · first | exact h.z_tw_t | (simp only [rdI_wrI, rdP_wrI, rdL_wrI, Nat.reduceEqDiff, false_and, and_false, true_and, and_true, reduceIte, ite_self]; exact h.z_tw_t)
  · first | exact h.z_gl_ox | (simp only [rdI_wrI, rdP_wrI, rdL_wrI, Nat.reduceEqDiff, false_and, and_false, true_and, and_true, reduceIte, ite_self]; exact h.z_gl_ox)
  · first | exact h.z_gl_oy | (simp only [rdI_wrI, rdP_wrI, rdL_wrI, Nat.reduceEqDiff, false_and, and_false, true_and, and_true, reduceIte, ite_self]; exact h.z_gl_oy)
  · first | exact h.z_gl_x | (simp only [rdI_wrI, rdP_wrI, rdL_wrI, Nat.reduceEqDiff, false_and, and_false, true_and, and_true, reduceIte, ite_self]; exact h.z_gl_x)
  · first | exact h.z_gl_y | (simp only [rdI_wrI, rdP_wrI, rdL_wrI, Nat.reduceEqDiff, false_and, and_false, true_and, and_true, reduceIte, ite_self]; exact h.z_gl_y)
  · first | exact h.z_gl_t | (simp only [rdI_wrI, rdP_wrI, rdL_wrI, Nat.reduceEqDiff, false_and, and_false, true_and, and_true, reduceIte, ite_self]; exact h.z_gl_t)
  · first | exact h.po | (have q := h.po; simp only [PO] at q ⊢; simp only [rdI_wrI, rdP_wrI, rdL_wrI, Nat.reduceEqDiff, false_and, and_false, true_and, and_true, reduceIte, ite_self]; exact q)
  · first | exact h.fr | (have q := h.fr; simp only [FR, PL, PO] at q ⊢; simp only [rdI_wrI, rdP_wrI, rdL_wrI, Nat.reduceEqDiff, false_and, and_false, true_and, and_true, reduceIte, ite_self]; exact q)
  · first | exact h.ft | (have q := h.ft; simp only [FT, PL, PO] at q ⊢; simp only [rdI_wrI, rdP_wrI, rdL_wrI, Nat.reduceEqDiff, false_and, and_false, true_and, and_true, reduceIte, ite_self]; exact q)
  · first | exact h.ow | (have q := h.ow; simp only [OW, PL, PO] at q ⊢; simp only [rdI_wrI, rdP_wrI, rdL_wrI, Nat.reduceEqDiff, false_and, and_false, true_and, and_true, reduceIte, ite_self]; exact q)
  · first | exact h.bys | (have q := h.bys; simp only [BY] at q ⊢; simp only [rdI_wrI, rdP_wrI, rdL_wrI, Nat.reduceEqDiff, false_and, and_false, true_and, and_true, reduceIte, ite_self]; exact q)
  · rcases h.ol with ⟨a, _, _⟩ | o
    · rw [hO] at a; exact absurd a (by decide)
    · refine Or.inr ?_
      show OLo _ _ (rdP hc 22 3)
      rw [hO] at o ⊢
      simp only [OLo, show rf 104 4 = 108 from rfl, show rf 104 2 = 107 from rfl] at o ⊢
      simp only [rdI_wrI, rdP_wrI, rdL_wrI, Nat.reduceEqDiff, false_and, and_false, true_and, and_true, reduceIte, ite_self]
      refine ⟨o.1, o.2.1, o.2.2.1, o.2.2.2.1, o.2.2.2.2.1, ?_⟩
      intro i hi
      by_cases e : i = k
      · simp only [e, reduceIte]; exact ⟨trivial, hv⟩
      · simp only [if_neg e]; exact o.2.2.2.2.2 i hi
theorem Rm.set_on121 {P : hH → hH → Prop} {hc hm : hH} (h : Rm P hc hm) (hO : rdP hc 22 3 = 121) {k : Nat} {v : Int32} (hv : v = 0 ∨ v = 1) : Rm P (wrI hc 124 k v) (wrI hm 217 k v) := by
  refine Rm.mk h.cl ?_ ?_ ?_ ?_ ?_ ?_ ?_ ?_ ?_ ?_ ?_ ?_ ?_ ?_ ?_ ?_ ?_ ?_ ?_ ?_ ?_ ?_ ?_ ?_ ?_ ?_ ?_ ?_ ?_ ?_ ?_ ?_ ?_ ?_ ?_ ?_ ?_ ?_ ?_ ?_ ?_ ?_ ?_ ?_ ?_ ?_ ?_ ?_ ?_ ?_ ?_ ?_ ?_ ?_ ?_ ?_ ?_ ?_ ?_ ?_ ?_ ?_ ?_ ?_ ?_ ?_ ?_ ?_ ?_ ?_ ?_ ?_ ?_ ?_ ?_ ?_ ?_ ?_ ?_ ?_ ?_ ?_ ?_ ?_ ?_ ?_ ?_ ?_ ?_
  · refine h.cl.m rfl ?_
    have q := h.cl.n (k := k) (v := v) (by rw [hO]; unfold isOut; decide) h.out
    rw [hO] at q
    exact q
  · first | exact h.s_ppem | (simp only [rdI_wrI, rdP_wrI, rdL_wrI, Nat.reduceEqDiff, false_and, and_false, true_and, and_true, reduceIte, ite_self]; exact h.s_ppem)
  · first | exact h.s_steps | (simp only [rdI_wrI, rdP_wrI, rdL_wrI, Nat.reduceEqDiff, false_and, and_false, true_and, and_true, reduceIte, ite_self]; exact h.s_steps)
  · first | exact h.s_high | (simp only [rdI_wrI, rdP_wrI, rdL_wrI, Nat.reduceEqDiff, false_and, and_false, true_and, and_true, reduceIte, ite_self]; exact h.s_high)
  · first | exact h.s_prog | (simp only [rdI_wrI, rdP_wrI, rdL_wrI, Nat.reduceEqDiff, false_and, and_false, true_and, and_true, reduceIte, ite_self]; exact h.s_prog)
  · first | exact h.s_run | (simp only [rdI_wrI, rdP_wrI, rdL_wrI, Nat.reduceEqDiff, false_and, and_false, true_and, and_true, reduceIte, ite_self]; exact h.s_run)
  · first | exact h.s_pc | (simp only [rdI_wrI, rdP_wrI, rdL_wrI, Nat.reduceEqDiff, false_and, and_false, true_and, and_true, reduceIte, ite_self]; exact h.s_pc)
  · first | exact h.s_at | (simp only [rdI_wrI, rdP_wrI, rdL_wrI, Nat.reduceEqDiff, false_and, and_false, true_and, and_true, reduceIte, ite_self]; exact h.s_at)
  · first | exact h.s_top | (simp only [rdI_wrI, rdP_wrI, rdL_wrI, Nat.reduceEqDiff, false_and, and_false, true_and, and_true, reduceIte, ite_self]; exact h.s_top)
  · first | exact h.s_calls | (simp only [rdI_wrI, rdP_wrI, rdL_wrI, Nat.reduceEqDiff, false_and, and_false, true_and, and_true, reduceIte, ite_self]; exact h.s_calls)
  · first | exact h.s_owns | (simp only [rdI_wrI, rdP_wrI, rdL_wrI, Nat.reduceEqDiff, false_and, and_false, true_and, and_true, reduceIte, ite_self]; exact h.s_owns)
  · first | exact h.s_fx | (simp only [rdI_wrI, rdP_wrI, rdL_wrI, Nat.reduceEqDiff, false_and, and_false, true_and, and_true, reduceIte, ite_self]; exact h.s_fx)
  · first | exact h.s_fy | (simp only [rdI_wrI, rdP_wrI, rdL_wrI, Nat.reduceEqDiff, false_and, and_false, true_and, and_true, reduceIte, ite_self]; exact h.s_fy)
  · first | exact h.s_px | (simp only [rdI_wrI, rdP_wrI, rdL_wrI, Nat.reduceEqDiff, false_and, and_false, true_and, and_true, reduceIte, ite_self]; exact h.s_px)
  · first | exact h.s_py | (simp only [rdI_wrI, rdP_wrI, rdL_wrI, Nat.reduceEqDiff, false_and, and_false, true_and, and_true, reduceIte, ite_self]; exact h.s_py)
  · first | exact h.s_dx | (simp only [rdI_wrI, rdP_wrI, rdL_wrI, Nat.reduceEqDiff, false_and, and_false, true_and, and_true, reduceIte, ite_self]; exact h.s_dx)
  · first | exact h.s_dy | (simp only [rdI_wrI, rdP_wrI, rdL_wrI, Nat.reduceEqDiff, false_and, and_false, true_and, and_true, reduceIte, ite_self]; exact h.s_dy)
  · first | exact h.s_rp0 | (simp only [rdI_wrI, rdP_wrI, rdL_wrI, Nat.reduceEqDiff, false_and, and_false, true_and, and_true, reduceIte, ite_self]; exact h.s_rp0)
  · first | exact h.s_rp1 | (simp only [rdI_wrI, rdP_wrI, rdL_wrI, Nat.reduceEqDiff, false_and, and_false, true_and, and_true, reduceIte, ite_self]; exact h.s_rp1)
  · first | exact h.s_rp2 | (simp only [rdI_wrI, rdP_wrI, rdL_wrI, Nat.reduceEqDiff, false_and, and_false, true_and, and_true, reduceIte, ite_self]; exact h.s_rp2)
  · first | exact h.s_zp0 | (simp only [rdI_wrI, rdP_wrI, rdL_wrI, Nat.reduceEqDiff, false_and, and_false, true_and, and_true, reduceIte, ite_self]; exact h.s_zp0)
  · first | exact h.s_zp1 | (simp only [rdI_wrI, rdP_wrI, rdL_wrI, Nat.reduceEqDiff, false_and, and_false, true_and, and_true, reduceIte, ite_self]; exact h.s_zp1)
  · first | exact h.s_zp2 | (simp only [rdI_wrI, rdP_wrI, rdL_wrI, Nat.reduceEqDiff, false_and, and_false, true_and, and_true, reduceIte, ite_self]; exact h.s_zp2)
  · first | exact h.s_loop | (simp only [rdI_wrI, rdP_wrI, rdL_wrI, Nat.reduceEqDiff, false_and, and_false, true_and, and_true, reduceIte, ite_self]; exact h.s_loop)
  · first | exact h.s_period | (simp only [rdI_wrI, rdP_wrI, rdL_wrI, Nat.reduceEqDiff, false_and, and_false, true_and, and_true, reduceIte, ite_self]; exact h.s_period)
  · first | exact h.s_phase | (simp only [rdI_wrI, rdP_wrI, rdL_wrI, Nat.reduceEqDiff, false_and, and_false, true_and, and_true, reduceIte, ite_self]; exact h.s_phase)
  · first | exact h.s_thr | (simp only [rdI_wrI, rdP_wrI, rdL_wrI, Nat.reduceEqDiff, false_and, and_false, true_and, and_true, reduceIte, ite_self]; exact h.s_thr)
  · first | exact h.s_cut | (simp only [rdI_wrI, rdP_wrI, rdL_wrI, Nat.reduceEqDiff, false_and, and_false, true_and, and_true, reduceIte, ite_self]; exact h.s_cut)
  · first | exact h.s_single | (simp only [rdI_wrI, rdP_wrI, rdL_wrI, Nat.reduceEqDiff, false_and, and_false, true_and, and_true, reduceIte, ite_self]; exact h.s_single)
  · first | exact h.s_scut | (simp only [rdI_wrI, rdP_wrI, rdL_wrI, Nat.reduceEqDiff, false_and, and_false, true_and, and_true, reduceIte, ite_self]; exact h.s_scut)
  · first | exact h.s_least | (simp only [rdI_wrI, rdP_wrI, rdL_wrI, Nat.reduceEqDiff, false_and, and_false, true_and, and_true, reduceIte, ite_self]; exact h.s_least)
  · first | exact h.s_flip | (simp only [rdI_wrI, rdP_wrI, rdL_wrI, Nat.reduceEqDiff, false_and, and_false, true_and, and_true, reduceIte, ite_self]; exact h.s_flip)
  · first | exact h.s_base | (simp only [rdI_wrI, rdP_wrI, rdL_wrI, Nat.reduceEqDiff, false_and, and_false, true_and, and_true, reduceIte, ite_self]; exact h.s_base)
  · first | exact h.s_shift | (simp only [rdI_wrI, rdP_wrI, rdL_wrI, Nat.reduceEqDiff, false_and, and_false, true_and, and_true, reduceIte, ite_self]; exact h.s_shift)
  · first | exact h.s_scan | (simp only [rdI_wrI, rdP_wrI, rdL_wrI, Nat.reduceEqDiff, false_and, and_false, true_and, and_true, reduceIte, ite_self]; exact h.s_scan)
  · first | exact h.s_kind | (simp only [rdI_wrI, rdP_wrI, rdL_wrI, Nat.reduceEqDiff, false_and, and_false, true_and, and_true, reduceIte, ite_self]; exact h.s_kind)
  · first | exact h.s_units | (simp only [rdI_wrI, rdP_wrI, rdL_wrI, Nat.reduceEqDiff, false_and, and_false, true_and, and_true, reduceIte, ite_self]; exact h.s_units)
  · first | exact h.s_zones | (simp only [rdI_wrI, rdP_wrI, rdL_wrI, Nat.reduceEqDiff, false_and, and_false, true_and, and_true, reduceIte, ite_self]; exact h.s_zones)
  · first | exact h.s_funs | (simp only [rdI_wrI, rdP_wrI, rdL_wrI, Nat.reduceEqDiff, false_and, and_false, true_and, and_true, reduceIte, ite_self]; exact h.s_funs)
  · first | exact h.s_ownc | (simp only [rdI_wrI, rdP_wrI, rdL_wrI, Nat.reduceEqDiff, false_and, and_false, true_and, and_true, reduceIte, ite_self]; exact h.s_ownc)
  · first | exact h.s_stk | (simp only [rdI_wrI, rdP_wrI, rdL_wrI, Nat.reduceEqDiff, false_and, and_false, true_and, and_true, reduceIte, ite_self]; exact h.s_stk)
  · first | exact h.s_cvtM | (simp only [rdI_wrI, rdP_wrI, rdL_wrI, Nat.reduceEqDiff, false_and, and_false, true_and, and_true, reduceIte, ite_self]; exact h.s_cvtM)
  · first | exact h.s_stoM | (simp only [rdI_wrI, rdP_wrI, rdL_wrI, Nat.reduceEqDiff, false_and, and_false, true_and, and_true, reduceIte, ite_self]; exact h.s_stoM)
  · first | exact h.s_twM | (simp only [rdI_wrI, rdP_wrI, rdL_wrI, Nat.reduceEqDiff, false_and, and_false, true_and, and_true, reduceIte, ite_self]; exact h.s_twM)
  · first | exact h.s_glM | (simp only [rdI_wrI, rdP_wrI, rdL_wrI, Nat.reduceEqDiff, false_and, and_false, true_and, and_true, reduceIte, ite_self]; exact h.s_glM)
  · first | exact h.fail | (simp only [rdI_wrI, rdP_wrI, rdL_wrI, Nat.reduceEqDiff, false_and, and_false, true_and, and_true, reduceIte, ite_self]; exact h.fail)
  · first | exact h.r_top | (simp only [rdI_wrI, rdP_wrI, rdL_wrI, Nat.reduceEqDiff, false_and, and_false, true_and, and_true, reduceIte, ite_self]; exact h.r_top)
  · first | exact h.r_high | (simp only [rdI_wrI, rdP_wrI, rdL_wrI, Nat.reduceEqDiff, false_and, and_false, true_and, and_true, reduceIte, ite_self]; exact h.r_high)
  · first | exact h.r_stk | (simp only [rdI_wrI, rdP_wrI, rdL_wrI, Nat.reduceEqDiff, false_and, and_false, true_and, and_true, reduceIte, ite_self]; exact h.r_stk)
  · first | exact h.r_calls | (simp only [rdI_wrI, rdP_wrI, rdL_wrI, Nat.reduceEqDiff, false_and, and_false, true_and, and_true, reduceIte, ite_self]; exact h.r_calls)
  · first | exact h.r_pc | (simp only [rdI_wrI, rdP_wrI, rdL_wrI, Nat.reduceEqDiff, false_and, and_false, true_and, and_true, reduceIte, ite_self]; exact h.r_pc)
  · first | exact h.r_zp0 | (simp only [rdI_wrI, rdP_wrI, rdL_wrI, Nat.reduceEqDiff, false_and, and_false, true_and, and_true, reduceIte, ite_self]; exact h.r_zp0)
  · first | exact h.r_zp1 | (simp only [rdI_wrI, rdP_wrI, rdL_wrI, Nat.reduceEqDiff, false_and, and_false, true_and, and_true, reduceIte, ite_self]; exact h.r_zp1)
  · first | exact h.r_zp2 | (simp only [rdI_wrI, rdP_wrI, rdL_wrI, Nat.reduceEqDiff, false_and, and_false, true_and, and_true, reduceIte, ite_self]; exact h.r_zp2)
  · first | exact h.r_loop | (simp only [rdI_wrI, rdP_wrI, rdL_wrI, Nat.reduceEqDiff, false_and, and_false, true_and, and_true, reduceIte, ite_self]; exact h.r_loop)
  · first | exact h.r_period | (simp only [rdI_wrI, rdP_wrI, rdL_wrI, Nat.reduceEqDiff, false_and, and_false, true_and, and_true, reduceIte, ite_self]; exact h.r_period)
  · first | exact h.r_shift | (simp only [rdI_wrI, rdP_wrI, rdL_wrI, Nat.reduceEqDiff, false_and, and_false, true_and, and_true, reduceIte, ite_self]; exact h.r_shift)
  · first | exact h.r_units | (simp only [rdI_wrI, rdP_wrI, rdL_wrI, Nat.reduceEqDiff, false_and, and_false, true_and, and_true, reduceIte, ite_self]; exact h.r_units)
  · first | exact h.r_funs | (simp only [rdI_wrI, rdP_wrI, rdL_wrI, Nat.reduceEqDiff, false_and, and_false, true_and, and_true, reduceIte, ite_self]; exact h.r_funs)
  · first | exact h.r_ownc | (simp only [rdI_wrI, rdP_wrI, rdL_wrI, Nat.reduceEqDiff, false_and, and_false, true_and, and_true, reduceIte, ite_self]; exact h.r_ownc)
  · first | exact h.r_cvtM | (simp only [rdI_wrI, rdP_wrI, rdL_wrI, Nat.reduceEqDiff, false_and, and_false, true_and, and_true, reduceIte, ite_self]; exact h.r_cvtM)
  · first | exact h.r_stoM | (simp only [rdI_wrI, rdP_wrI, rdL_wrI, Nat.reduceEqDiff, false_and, and_false, true_and, and_true, reduceIte, ite_self]; exact h.r_stoM)
  · first | exact h.r_twM | (simp only [rdI_wrI, rdP_wrI, rdL_wrI, Nat.reduceEqDiff, false_and, and_false, true_and, and_true, reduceIte, ite_self]; exact h.r_twM)
  · first | exact h.r_glM | (simp only [rdI_wrI, rdP_wrI, rdL_wrI, Nat.reduceEqDiff, false_and, and_false, true_and, and_true, reduceIte, ite_self]; exact h.r_glM)
  · first | exact h.r_ppem | (simp only [rdI_wrI, rdP_wrI, rdL_wrI, Nat.reduceEqDiff, false_and, and_false, true_and, and_true, reduceIte, ite_self]; exact h.r_ppem)
  · first | exact h.r_steps | (simp only [rdI_wrI, rdP_wrI, rdL_wrI, Nat.reduceEqDiff, false_and, and_false, true_and, and_true, reduceIte, ite_self]; exact h.r_steps)
  · first | exact h.r_run | (simp only [rdI_wrI, rdP_wrI, rdL_wrI, Nat.reduceEqDiff, false_and, and_false, true_and, and_true, reduceIte, ite_self]; exact h.r_run)
  · first | exact h.r_prog | (simp only [rdI_wrI, rdP_wrI, rdL_wrI, Nat.reduceEqDiff, false_and, and_false, true_and, and_true, reduceIte, ite_self]; exact h.r_prog)
  · first | exact h.r_flip | (simp only [rdI_wrI, rdP_wrI, rdL_wrI, Nat.reduceEqDiff, false_and, and_false, true_and, and_true, reduceIte, ite_self]; exact h.r_flip)
  · first | exact h.rnd | (simp only [rdI_wrI, rdP_wrI, rdL_wrI, Nat.reduceEqDiff, false_and, and_false, true_and, and_true, reduceIte, ite_self]; exact h.rnd)
  · first | exact h.a_stk | (simp only [rdI_wrI, rdP_wrI, rdL_wrI, Nat.reduceEqDiff, false_and, and_false, true_and, and_true, reduceIte, ite_self]; exact h.a_stk)
  · first | exact h.a_cvt | (simp only [rdI_wrI, rdP_wrI, rdL_wrI, Nat.reduceEqDiff, false_and, and_false, true_and, and_true, reduceIte, ite_self]; exact h.a_cvt)
  · first | exact h.a_sto | (simp only [rdI_wrI, rdP_wrI, rdL_wrI, Nat.reduceEqDiff, false_and, and_false, true_and, and_true, reduceIte, ite_self]; exact h.a_sto)
  · first | exact h.z_tw_ox | (simp only [rdI_wrI, rdP_wrI, rdL_wrI, Nat.reduceEqDiff, false_and, and_false, true_and, and_true, reduceIte, ite_self]; exact h.z_tw_ox)
  · first | exact h.z_tw_oy | (simp only [rdI_wrI, rdP_wrI, rdL_wrI, Nat.reduceEqDiff, false_and, and_false, true_and, and_true, reduceIte, ite_self]; exact h.z_tw_oy)
  · first | exact h.z_tw_x | (simp only [rdI_wrI, rdP_wrI, rdL_wrI, Nat.reduceEqDiff, false_and, and_false, true_and, and_true, reduceIte, ite_self]; exact h.z_tw_x)
  · first | exact h.z_tw_y | (simp only [rdI_wrI, rdP_wrI, rdL_wrI, Nat.reduceEqDiff, false_and, and_false, true_and, and_true, reduceIte, ite_self]; exact h.z_tw_y)
  · first | exact h.z_tw_t | (simp only [rdI_wrI, rdP_wrI, rdL_wrI, Nat.reduceEqDiff, false_and, and_false, true_and, and_true, reduceIte, ite_self]; exact h.z_tw_t)
  · first | exact h.z_gl_ox | (simp only [rdI_wrI, rdP_wrI, rdL_wrI, Nat.reduceEqDiff, false_and, and_false, true_and, and_true, reduceIte, ite_self]; exact h.z_gl_ox)
  · first | exact h.z_gl_oy | (simp only [rdI_wrI, rdP_wrI, rdL_wrI, Nat.reduceEqDiff, false_and, and_false, true_and, and_true, reduceIte, ite_self]; exact h.z_gl_oy)
  · first | exact h.z_gl_x | (simp only [rdI_wrI, rdP_wrI, rdL_wrI, Nat.reduceEqDiff, false_and, and_false, true_and, and_true, reduceIte, ite_self]; exact h.z_gl_x)
  · first | exact h.z_gl_y | (simp only [rdI_wrI, rdP_wrI, rdL_wrI, Nat.reduceEqDiff, false_and, and_false, true_and, and_true, reduceIte, ite_self]; exact h.z_gl_y)
  · first | exact h.z_gl_t | (simp only [rdI_wrI, rdP_wrI, rdL_wrI, Nat.reduceEqDiff, false_and, and_false, true_and, and_true, reduceIte, ite_self]; exact h.z_gl_t)
  · first | exact h.po | (have q := h.po; simp only [PO] at q ⊢; simp only [rdI_wrI, rdP_wrI, rdL_wrI, Nat.reduceEqDiff, false_and, and_false, true_and, and_true, reduceIte, ite_self]; exact q)
  · first | exact h.fr | (have q := h.fr; simp only [FR, PL, PO] at q ⊢; simp only [rdI_wrI, rdP_wrI, rdL_wrI, Nat.reduceEqDiff, false_and, and_false, true_and, and_true, reduceIte, ite_self]; exact q)
  · first | exact h.ft | (have q := h.ft; simp only [FT, PL, PO] at q ⊢; simp only [rdI_wrI, rdP_wrI, rdL_wrI, Nat.reduceEqDiff, false_and, and_false, true_and, and_true, reduceIte, ite_self]; exact q)
  · first | exact h.ow | (have q := h.ow; simp only [OW, PL, PO] at q ⊢; simp only [rdI_wrI, rdP_wrI, rdL_wrI, Nat.reduceEqDiff, false_and, and_false, true_and, and_true, reduceIte, ite_self]; exact q)
  · first | exact h.bys | (have q := h.bys; simp only [BY] at q ⊢; simp only [rdI_wrI, rdP_wrI, rdL_wrI, Nat.reduceEqDiff, false_and, and_false, true_and, and_true, reduceIte, ite_self]; exact q)
  · rcases h.ol with ⟨a, _, _⟩ | o
    · rw [hO] at a; exact absurd a (by decide)
    · refine Or.inr ?_
      show OLo _ _ (rdP hc 22 3)
      rw [hO] at o ⊢
      simp only [OLo, show rf 121 4 = 125 from rfl, show rf 121 2 = 124 from rfl] at o ⊢
      simp only [rdI_wrI, rdP_wrI, rdL_wrI, Nat.reduceEqDiff, false_and, and_false, true_and, and_true, reduceIte, ite_self]
      refine ⟨o.1, o.2.1, o.2.2.1, o.2.2.2.1, o.2.2.2.2.1, ?_⟩
      intro i hi
      by_cases e : i = k
      · simp only [e, reduceIte]; exact ⟨trivial, hv⟩
      · simp only [if_neg e]; exact o.2.2.2.2.2 i hi
theorem Rm.set_on138 {P : hH → hH → Prop} {hc hm : hH} (h : Rm P hc hm) (hO : rdP hc 22 3 = 138) {k : Nat} {v : Int32} (hv : v = 0 ∨ v = 1) : Rm P (wrI hc 141 k v) (wrI hm 217 k v) := by
  refine Rm.mk h.cl ?_ ?_ ?_ ?_ ?_ ?_ ?_ ?_ ?_ ?_ ?_ ?_ ?_ ?_ ?_ ?_ ?_ ?_ ?_ ?_ ?_ ?_ ?_ ?_ ?_ ?_ ?_ ?_ ?_ ?_ ?_ ?_ ?_ ?_ ?_ ?_ ?_ ?_ ?_ ?_ ?_ ?_ ?_ ?_ ?_ ?_ ?_ ?_ ?_ ?_ ?_ ?_ ?_ ?_ ?_ ?_ ?_ ?_ ?_ ?_ ?_ ?_ ?_ ?_ ?_ ?_ ?_ ?_ ?_ ?_ ?_ ?_ ?_ ?_ ?_ ?_ ?_ ?_ ?_ ?_ ?_ ?_ ?_ ?_ ?_ ?_ ?_ ?_ ?_
  · refine h.cl.m rfl ?_
    have q := h.cl.n (k := k) (v := v) (by rw [hO]; unfold isOut; decide) h.out
    rw [hO] at q
    exact q
  · first | exact h.s_ppem | (simp only [rdI_wrI, rdP_wrI, rdL_wrI, Nat.reduceEqDiff, false_and, and_false, true_and, and_true, reduceIte, ite_self]; exact h.s_ppem)
  · first | exact h.s_steps | (simp only [rdI_wrI, rdP_wrI, rdL_wrI, Nat.reduceEqDiff, false_and, and_false, true_and, and_true, reduceIte, ite_self]; exact h.s_steps)
  · first | exact h.s_high | (simp only [rdI_wrI, rdP_wrI, rdL_wrI, Nat.reduceEqDiff, false_and, and_false, true_and, and_true, reduceIte, ite_self]; exact h.s_high)
  · first | exact h.s_prog | (simp only [rdI_wrI, rdP_wrI, rdL_wrI, Nat.reduceEqDiff, false_and, and_false, true_and, and_true, reduceIte, ite_self]; exact h.s_prog)
  · first | exact h.s_run | (simp only [rdI_wrI, rdP_wrI, rdL_wrI, Nat.reduceEqDiff, false_and, and_false, true_and, and_true, reduceIte, ite_self]; exact h.s_run)
  · first | exact h.s_pc | (simp only [rdI_wrI, rdP_wrI, rdL_wrI, Nat.reduceEqDiff, false_and, and_false, true_and, and_true, reduceIte, ite_self]; exact h.s_pc)
  · first | exact h.s_at | (simp only [rdI_wrI, rdP_wrI, rdL_wrI, Nat.reduceEqDiff, false_and, and_false, true_and, and_true, reduceIte, ite_self]; exact h.s_at)
  · first | exact h.s_top | (simp only [rdI_wrI, rdP_wrI, rdL_wrI, Nat.reduceEqDiff, false_and, and_false, true_and, and_true, reduceIte, ite_self]; exact h.s_top)
  · first | exact h.s_calls | (simp only [rdI_wrI, rdP_wrI, rdL_wrI, Nat.reduceEqDiff, false_and, and_false, true_and, and_true, reduceIte, ite_self]; exact h.s_calls)
  · first | exact h.s_owns | (simp only [rdI_wrI, rdP_wrI, rdL_wrI, Nat.reduceEqDiff, false_and, and_false, true_and, and_true, reduceIte, ite_self]; exact h.s_owns)
  · first | exact h.s_fx | (simp only [rdI_wrI, rdP_wrI, rdL_wrI, Nat.reduceEqDiff, false_and, and_false, true_and, and_true, reduceIte, ite_self]; exact h.s_fx)
  · first | exact h.s_fy | (simp only [rdI_wrI, rdP_wrI, rdL_wrI, Nat.reduceEqDiff, false_and, and_false, true_and, and_true, reduceIte, ite_self]; exact h.s_fy)
  · first | exact h.s_px | (simp only [rdI_wrI, rdP_wrI, rdL_wrI, Nat.reduceEqDiff, false_and, and_false, true_and, and_true, reduceIte, ite_self]; exact h.s_px)
  · first | exact h.s_py | (simp only [rdI_wrI, rdP_wrI, rdL_wrI, Nat.reduceEqDiff, false_and, and_false, true_and, and_true, reduceIte, ite_self]; exact h.s_py)
  · first | exact h.s_dx | (simp only [rdI_wrI, rdP_wrI, rdL_wrI, Nat.reduceEqDiff, false_and, and_false, true_and, and_true, reduceIte, ite_self]; exact h.s_dx)
  · first | exact h.s_dy | (simp only [rdI_wrI, rdP_wrI, rdL_wrI, Nat.reduceEqDiff, false_and, and_false, true_and, and_true, reduceIte, ite_self]; exact h.s_dy)
  · first | exact h.s_rp0 | (simp only [rdI_wrI, rdP_wrI, rdL_wrI, Nat.reduceEqDiff, false_and, and_false, true_and, and_true, reduceIte, ite_self]; exact h.s_rp0)
  · first | exact h.s_rp1 | (simp only [rdI_wrI, rdP_wrI, rdL_wrI, Nat.reduceEqDiff, false_and, and_false, true_and, and_true, reduceIte, ite_self]; exact h.s_rp1)
  · first | exact h.s_rp2 | (simp only [rdI_wrI, rdP_wrI, rdL_wrI, Nat.reduceEqDiff, false_and, and_false, true_and, and_true, reduceIte, ite_self]; exact h.s_rp2)
  · first | exact h.s_zp0 | (simp only [rdI_wrI, rdP_wrI, rdL_wrI, Nat.reduceEqDiff, false_and, and_false, true_and, and_true, reduceIte, ite_self]; exact h.s_zp0)
  · first | exact h.s_zp1 | (simp only [rdI_wrI, rdP_wrI, rdL_wrI, Nat.reduceEqDiff, false_and, and_false, true_and, and_true, reduceIte, ite_self]; exact h.s_zp1)
  · first | exact h.s_zp2 | (simp only [rdI_wrI, rdP_wrI, rdL_wrI, Nat.reduceEqDiff, false_and, and_false, true_and, and_true, reduceIte, ite_self]; exact h.s_zp2)
  · first | exact h.s_loop | (simp only [rdI_wrI, rdP_wrI, rdL_wrI, Nat.reduceEqDiff, false_and, and_false, true_and, and_true, reduceIte, ite_self]; exact h.s_loop)
  · first | exact h.s_period | (simp only [rdI_wrI, rdP_wrI, rdL_wrI, Nat.reduceEqDiff, false_and, and_false, true_and, and_true, reduceIte, ite_self]; exact h.s_period)
  · first | exact h.s_phase | (simp only [rdI_wrI, rdP_wrI, rdL_wrI, Nat.reduceEqDiff, false_and, and_false, true_and, and_true, reduceIte, ite_self]; exact h.s_phase)
  · first | exact h.s_thr | (simp only [rdI_wrI, rdP_wrI, rdL_wrI, Nat.reduceEqDiff, false_and, and_false, true_and, and_true, reduceIte, ite_self]; exact h.s_thr)
  · first | exact h.s_cut | (simp only [rdI_wrI, rdP_wrI, rdL_wrI, Nat.reduceEqDiff, false_and, and_false, true_and, and_true, reduceIte, ite_self]; exact h.s_cut)
  · first | exact h.s_single | (simp only [rdI_wrI, rdP_wrI, rdL_wrI, Nat.reduceEqDiff, false_and, and_false, true_and, and_true, reduceIte, ite_self]; exact h.s_single)
  · first | exact h.s_scut | (simp only [rdI_wrI, rdP_wrI, rdL_wrI, Nat.reduceEqDiff, false_and, and_false, true_and, and_true, reduceIte, ite_self]; exact h.s_scut)
  · first | exact h.s_least | (simp only [rdI_wrI, rdP_wrI, rdL_wrI, Nat.reduceEqDiff, false_and, and_false, true_and, and_true, reduceIte, ite_self]; exact h.s_least)
  · first | exact h.s_flip | (simp only [rdI_wrI, rdP_wrI, rdL_wrI, Nat.reduceEqDiff, false_and, and_false, true_and, and_true, reduceIte, ite_self]; exact h.s_flip)
  · first | exact h.s_base | (simp only [rdI_wrI, rdP_wrI, rdL_wrI, Nat.reduceEqDiff, false_and, and_false, true_and, and_true, reduceIte, ite_self]; exact h.s_base)
  · first | exact h.s_shift | (simp only [rdI_wrI, rdP_wrI, rdL_wrI, Nat.reduceEqDiff, false_and, and_false, true_and, and_true, reduceIte, ite_self]; exact h.s_shift)
  · first | exact h.s_scan | (simp only [rdI_wrI, rdP_wrI, rdL_wrI, Nat.reduceEqDiff, false_and, and_false, true_and, and_true, reduceIte, ite_self]; exact h.s_scan)
  · first | exact h.s_kind | (simp only [rdI_wrI, rdP_wrI, rdL_wrI, Nat.reduceEqDiff, false_and, and_false, true_and, and_true, reduceIte, ite_self]; exact h.s_kind)
  · first | exact h.s_units | (simp only [rdI_wrI, rdP_wrI, rdL_wrI, Nat.reduceEqDiff, false_and, and_false, true_and, and_true, reduceIte, ite_self]; exact h.s_units)
  · first | exact h.s_zones | (simp only [rdI_wrI, rdP_wrI, rdL_wrI, Nat.reduceEqDiff, false_and, and_false, true_and, and_true, reduceIte, ite_self]; exact h.s_zones)
  · first | exact h.s_funs | (simp only [rdI_wrI, rdP_wrI, rdL_wrI, Nat.reduceEqDiff, false_and, and_false, true_and, and_true, reduceIte, ite_self]; exact h.s_funs)
  · first | exact h.s_ownc | (simp only [rdI_wrI, rdP_wrI, rdL_wrI, Nat.reduceEqDiff, false_and, and_false, true_and, and_true, reduceIte, ite_self]; exact h.s_ownc)
  · first | exact h.s_stk | (simp only [rdI_wrI, rdP_wrI, rdL_wrI, Nat.reduceEqDiff, false_and, and_false, true_and, and_true, reduceIte, ite_self]; exact h.s_stk)
  · first | exact h.s_cvtM | (simp only [rdI_wrI, rdP_wrI, rdL_wrI, Nat.reduceEqDiff, false_and, and_false, true_and, and_true, reduceIte, ite_self]; exact h.s_cvtM)
  · first | exact h.s_stoM | (simp only [rdI_wrI, rdP_wrI, rdL_wrI, Nat.reduceEqDiff, false_and, and_false, true_and, and_true, reduceIte, ite_self]; exact h.s_stoM)
  · first | exact h.s_twM | (simp only [rdI_wrI, rdP_wrI, rdL_wrI, Nat.reduceEqDiff, false_and, and_false, true_and, and_true, reduceIte, ite_self]; exact h.s_twM)
  · first | exact h.s_glM | (simp only [rdI_wrI, rdP_wrI, rdL_wrI, Nat.reduceEqDiff, false_and, and_false, true_and, and_true, reduceIte, ite_self]; exact h.s_glM)
  · first | exact h.fail | (simp only [rdI_wrI, rdP_wrI, rdL_wrI, Nat.reduceEqDiff, false_and, and_false, true_and, and_true, reduceIte, ite_self]; exact h.fail)
  · first | exact h.r_top | (simp only [rdI_wrI, rdP_wrI, rdL_wrI, Nat.reduceEqDiff, false_and, and_false, true_and, and_true, reduceIte, ite_self]; exact h.r_top)
  · first | exact h.r_high | (simp only [rdI_wrI, rdP_wrI, rdL_wrI, Nat.reduceEqDiff, false_and, and_false, true_and, and_true, reduceIte, ite_self]; exact h.r_high)
  · first | exact h.r_stk | (simp only [rdI_wrI, rdP_wrI, rdL_wrI, Nat.reduceEqDiff, false_and, and_false, true_and, and_true, reduceIte, ite_self]; exact h.r_stk)
  · first | exact h.r_calls | (simp only [rdI_wrI, rdP_wrI, rdL_wrI, Nat.reduceEqDiff, false_and, and_false, true_and, and_true, reduceIte, ite_self]; exact h.r_calls)
  · first | exact h.r_pc | (simp only [rdI_wrI, rdP_wrI, rdL_wrI, Nat.reduceEqDiff, false_and, and_false, true_and, and_true, reduceIte, ite_self]; exact h.r_pc)
  · first | exact h.r_zp0 | (simp only [rdI_wrI, rdP_wrI, rdL_wrI, Nat.reduceEqDiff, false_and, and_false, true_and, and_true, reduceIte, ite_self]; exact h.r_zp0)
  · first | exact h.r_zp1 | (simp only [rdI_wrI, rdP_wrI, rdL_wrI, Nat.reduceEqDiff, false_and, and_false, true_and, and_true, reduceIte, ite_self]; exact h.r_zp1)
  · first | exact h.r_zp2 | (simp only [rdI_wrI, rdP_wrI, rdL_wrI, Nat.reduceEqDiff, false_and, and_false, true_and, and_true, reduceIte, ite_self]; exact h.r_zp2)
  · first | exact h.r_loop | (simp only [rdI_wrI, rdP_wrI, rdL_wrI, Nat.reduceEqDiff, false_and, and_false, true_and, and_true, reduceIte, ite_self]; exact h.r_loop)
  · first | exact h.r_period | (simp only [rdI_wrI, rdP_wrI, rdL_wrI, Nat.reduceEqDiff, false_and, and_false, true_and, and_true, reduceIte, ite_self]; exact h.r_period)
  · first | exact h.r_shift | (simp only [rdI_wrI, rdP_wrI, rdL_wrI, Nat.reduceEqDiff, false_and, and_false, true_and, and_true, reduceIte, ite_self]; exact h.r_shift)
  · first | exact h.r_units | (simp only [rdI_wrI, rdP_wrI, rdL_wrI, Nat.reduceEqDiff, false_and, and_false, true_and, and_true, reduceIte, ite_self]; exact h.r_units)
  · first | exact h.r_funs | (simp only [rdI_wrI, rdP_wrI, rdL_wrI, Nat.reduceEqDiff, false_and, and_false, true_and, and_true, reduceIte, ite_self]; exact h.r_funs)
  · first | exact h.r_ownc | (simp only [rdI_wrI, rdP_wrI, rdL_wrI, Nat.reduceEqDiff, false_and, and_false, true_and, and_true, reduceIte, ite_self]; exact h.r_ownc)
  · first | exact h.r_cvtM | (simp only [rdI_wrI, rdP_wrI, rdL_wrI, Nat.reduceEqDiff, false_and, and_false, true_and, and_true, reduceIte, ite_self]; exact h.r_cvtM)
  · first | exact h.r_stoM | (simp only [rdI_wrI, rdP_wrI, rdL_wrI, Nat.reduceEqDiff, false_and, and_false, true_and, and_true, reduceIte, ite_self]; exact h.r_stoM)
  · first | exact h.r_twM | (simp only [rdI_wrI, rdP_wrI, rdL_wrI, Nat.reduceEqDiff, false_and, and_false, true_and, and_true, reduceIte, ite_self]; exact h.r_twM)
  · first | exact h.r_glM | (simp only [rdI_wrI, rdP_wrI, rdL_wrI, Nat.reduceEqDiff, false_and, and_false, true_and, and_true, reduceIte, ite_self]; exact h.r_glM)
  · first | exact h.r_ppem | (simp only [rdI_wrI, rdP_wrI, rdL_wrI, Nat.reduceEqDiff, false_and, and_false, true_and, and_true, reduceIte, ite_self]; exact h.r_ppem)
  · first | exact h.r_steps | (simp only [rdI_wrI, rdP_wrI, rdL_wrI, Nat.reduceEqDiff, false_and, and_false, true_and, and_true, reduceIte, ite_self]; exact h.r_steps)
  · first | exact h.r_run | (simp only [rdI_wrI, rdP_wrI, rdL_wrI, Nat.reduceEqDiff, false_and, and_false, true_and, and_true, reduceIte, ite_self]; exact h.r_run)
  · first | exact h.r_prog | (simp only [rdI_wrI, rdP_wrI, rdL_wrI, Nat.reduceEqDiff, false_and, and_false, true_and, and_true, reduceIte, ite_self]; exact h.r_prog)
  · first | exact h.r_flip | (simp only [rdI_wrI, rdP_wrI, rdL_wrI, Nat.reduceEqDiff, false_and, and_false, true_and, and_true, reduceIte, ite_self]; exact h.r_flip)
  · first | exact h.rnd | (simp only [rdI_wrI, rdP_wrI, rdL_wrI, Nat.reduceEqDiff, false_and, and_false, true_and, and_true, reduceIte, ite_self]; exact h.rnd)
  · first | exact h.a_stk | (simp only [rdI_wrI, rdP_wrI, rdL_wrI, Nat.reduceEqDiff, false_and, and_false, true_and, and_true, reduceIte, ite_self]; exact h.a_stk)
  · first | exact h.a_cvt | (simp only [rdI_wrI, rdP_wrI, rdL_wrI, Nat.reduceEqDiff, false_and, and_false, true_and, and_true, reduceIte, ite_self]; exact h.a_cvt)
  · first | exact h.a_sto | (simp only [rdI_wrI, rdP_wrI, rdL_wrI, Nat.reduceEqDiff, false_and, and_false, true_and, and_true, reduceIte, ite_self]; exact h.a_sto)
  · first | exact h.z_tw_ox | (simp only [rdI_wrI, rdP_wrI, rdL_wrI, Nat.reduceEqDiff, false_and, and_false, true_and, and_true, reduceIte, ite_self]; exact h.z_tw_ox)
  · first | exact h.z_tw_oy | (simp only [rdI_wrI, rdP_wrI, rdL_wrI, Nat.reduceEqDiff, false_and, and_false, true_and, and_true, reduceIte, ite_self]; exact h.z_tw_oy)
  · first | exact h.z_tw_x | (simp only [rdI_wrI, rdP_wrI, rdL_wrI, Nat.reduceEqDiff, false_and, and_false, true_and, and_true, reduceIte, ite_self]; exact h.z_tw_x)
  · first | exact h.z_tw_y | (simp only [rdI_wrI, rdP_wrI, rdL_wrI, Nat.reduceEqDiff, false_and, and_false, true_and, and_true, reduceIte, ite_self]; exact h.z_tw_y)
  · first | exact h.z_tw_t | (simp only [rdI_wrI, rdP_wrI, rdL_wrI, Nat.reduceEqDiff, false_and, and_false, true_and, and_true, reduceIte, ite_self]; exact h.z_tw_t)
  · first | exact h.z_gl_ox | (simp only [rdI_wrI, rdP_wrI, rdL_wrI, Nat.reduceEqDiff, false_and, and_false, true_and, and_true, reduceIte, ite_self]; exact h.z_gl_ox)
  · first | exact h.z_gl_oy | (simp only [rdI_wrI, rdP_wrI, rdL_wrI, Nat.reduceEqDiff, false_and, and_false, true_and, and_true, reduceIte, ite_self]; exact h.z_gl_oy)
  · first | exact h.z_gl_x | (simp only [rdI_wrI, rdP_wrI, rdL_wrI, Nat.reduceEqDiff, false_and, and_false, true_and, and_true, reduceIte, ite_self]; exact h.z_gl_x)
  · first | exact h.z_gl_y | (simp only [rdI_wrI, rdP_wrI, rdL_wrI, Nat.reduceEqDiff, false_and, and_false, true_and, and_true, reduceIte, ite_self]; exact h.z_gl_y)
  · first | exact h.z_gl_t | (simp only [rdI_wrI, rdP_wrI, rdL_wrI, Nat.reduceEqDiff, false_and, and_false, true_and, and_true, reduceIte, ite_self]; exact h.z_gl_t)
  · first | exact h.po | (have q := h.po; simp only [PO] at q ⊢; simp only [rdI_wrI, rdP_wrI, rdL_wrI, Nat.reduceEqDiff, false_and, and_false, true_and, and_true, reduceIte, ite_self]; exact q)
  · first | exact h.fr | (have q := h.fr; simp only [FR, PL, PO] at q ⊢; simp only [rdI_wrI, rdP_wrI, rdL_wrI, Nat.reduceEqDiff, false_and, and_false, true_and, and_true, reduceIte, ite_self]; exact q)
  · first | exact h.ft | (have q := h.ft; simp only [FT, PL, PO] at q ⊢; simp only [rdI_wrI, rdP_wrI, rdL_wrI, Nat.reduceEqDiff, false_and, and_false, true_and, and_true, reduceIte, ite_self]; exact q)
  · first | exact h.ow | (have q := h.ow; simp only [OW, PL, PO] at q ⊢; simp only [rdI_wrI, rdP_wrI, rdL_wrI, Nat.reduceEqDiff, false_and, and_false, true_and, and_true, reduceIte, ite_self]; exact q)
  · first | exact h.bys | (have q := h.bys; simp only [BY] at q ⊢; simp only [rdI_wrI, rdP_wrI, rdL_wrI, Nat.reduceEqDiff, false_and, and_false, true_and, and_true, reduceIte, ite_self]; exact q)
  · rcases h.ol with ⟨a, _, _⟩ | o
    · rw [hO] at a; exact absurd a (by decide)
    · refine Or.inr ?_
      show OLo _ _ (rdP hc 22 3)
      rw [hO] at o ⊢
      simp only [OLo, show rf 138 4 = 142 from rfl, show rf 138 2 = 141 from rfl] at o ⊢
      simp only [rdI_wrI, rdP_wrI, rdL_wrI, Nat.reduceEqDiff, false_and, and_false, true_and, and_true, reduceIte, ite_self]
      refine ⟨o.1, o.2.1, o.2.2.1, o.2.2.2.1, o.2.2.2.2.1, ?_⟩
      intro i hi
      by_cases e : i = k
      · simp only [e, reduceIte]; exact ⟨trivial, hv⟩
      · simp only [if_neg e]; exact o.2.2.2.2.2 i hi
theorem Rm.set_on155 {P : hH → hH → Prop} {hc hm : hH} (h : Rm P hc hm) (hO : rdP hc 22 3 = 155) {k : Nat} {v : Int32} (hv : v = 0 ∨ v = 1) : Rm P (wrI hc 158 k v) (wrI hm 217 k v) := by
  refine Rm.mk h.cl ?_ ?_ ?_ ?_ ?_ ?_ ?_ ?_ ?_ ?_ ?_ ?_ ?_ ?_ ?_ ?_ ?_ ?_ ?_ ?_ ?_ ?_ ?_ ?_ ?_ ?_ ?_ ?_ ?_ ?_ ?_ ?_ ?_ ?_ ?_ ?_ ?_ ?_ ?_ ?_ ?_ ?_ ?_ ?_ ?_ ?_ ?_ ?_ ?_ ?_ ?_ ?_ ?_ ?_ ?_ ?_ ?_ ?_ ?_ ?_ ?_ ?_ ?_ ?_ ?_ ?_ ?_ ?_ ?_ ?_ ?_ ?_ ?_ ?_ ?_ ?_ ?_ ?_ ?_ ?_ ?_ ?_ ?_ ?_ ?_ ?_ ?_ ?_ ?_
  · refine h.cl.m rfl ?_
    have q := h.cl.n (k := k) (v := v) (by rw [hO]; unfold isOut; decide) h.out
    rw [hO] at q
    exact q
  · first | exact h.s_ppem | (simp only [rdI_wrI, rdP_wrI, rdL_wrI, Nat.reduceEqDiff, false_and, and_false, true_and, and_true, reduceIte, ite_self]; exact h.s_ppem)
  · first | exact h.s_steps | (simp only [rdI_wrI, rdP_wrI, rdL_wrI, Nat.reduceEqDiff, false_and, and_false, true_and, and_true, reduceIte, ite_self]; exact h.s_steps)
  · first | exact h.s_high | (simp only [rdI_wrI, rdP_wrI, rdL_wrI, Nat.reduceEqDiff, false_and, and_false, true_and, and_true, reduceIte, ite_self]; exact h.s_high)
  · first | exact h.s_prog | (simp only [rdI_wrI, rdP_wrI, rdL_wrI, Nat.reduceEqDiff, false_and, and_false, true_and, and_true, reduceIte, ite_self]; exact h.s_prog)
  · first | exact h.s_run | (simp only [rdI_wrI, rdP_wrI, rdL_wrI, Nat.reduceEqDiff, false_and, and_false, true_and, and_true, reduceIte, ite_self]; exact h.s_run)
  · first | exact h.s_pc | (simp only [rdI_wrI, rdP_wrI, rdL_wrI, Nat.reduceEqDiff, false_and, and_false, true_and, and_true, reduceIte, ite_self]; exact h.s_pc)
  · first | exact h.s_at | (simp only [rdI_wrI, rdP_wrI, rdL_wrI, Nat.reduceEqDiff, false_and, and_false, true_and, and_true, reduceIte, ite_self]; exact h.s_at)
  · first | exact h.s_top | (simp only [rdI_wrI, rdP_wrI, rdL_wrI, Nat.reduceEqDiff, false_and, and_false, true_and, and_true, reduceIte, ite_self]; exact h.s_top)
  · first | exact h.s_calls | (simp only [rdI_wrI, rdP_wrI, rdL_wrI, Nat.reduceEqDiff, false_and, and_false, true_and, and_true, reduceIte, ite_self]; exact h.s_calls)
  · first | exact h.s_owns | (simp only [rdI_wrI, rdP_wrI, rdL_wrI, Nat.reduceEqDiff, false_and, and_false, true_and, and_true, reduceIte, ite_self]; exact h.s_owns)
  · first | exact h.s_fx | (simp only [rdI_wrI, rdP_wrI, rdL_wrI, Nat.reduceEqDiff, false_and, and_false, true_and, and_true, reduceIte, ite_self]; exact h.s_fx)
  · first | exact h.s_fy | (simp only [rdI_wrI, rdP_wrI, rdL_wrI, Nat.reduceEqDiff, false_and, and_false, true_and, and_true, reduceIte, ite_self]; exact h.s_fy)
  · first | exact h.s_px | (simp only [rdI_wrI, rdP_wrI, rdL_wrI, Nat.reduceEqDiff, false_and, and_false, true_and, and_true, reduceIte, ite_self]; exact h.s_px)
  · first | exact h.s_py | (simp only [rdI_wrI, rdP_wrI, rdL_wrI, Nat.reduceEqDiff, false_and, and_false, true_and, and_true, reduceIte, ite_self]; exact h.s_py)
  · first | exact h.s_dx | (simp only [rdI_wrI, rdP_wrI, rdL_wrI, Nat.reduceEqDiff, false_and, and_false, true_and, and_true, reduceIte, ite_self]; exact h.s_dx)
  · first | exact h.s_dy | (simp only [rdI_wrI, rdP_wrI, rdL_wrI, Nat.reduceEqDiff, false_and, and_false, true_and, and_true, reduceIte, ite_self]; exact h.s_dy)
  · first | exact h.s_rp0 | (simp only [rdI_wrI, rdP_wrI, rdL_wrI, Nat.reduceEqDiff, false_and, and_false, true_and, and_true, reduceIte, ite_self]; exact h.s_rp0)
  · first | exact h.s_rp1 | (simp only [rdI_wrI, rdP_wrI, rdL_wrI, Nat.reduceEqDiff, false_and, and_false, true_and, and_true, reduceIte, ite_self]; exact h.s_rp1)
  · first | exact h.s_rp2 | (simp only [rdI_wrI, rdP_wrI, rdL_wrI, Nat.reduceEqDiff, false_and, and_false, true_and, and_true, reduceIte, ite_self]; exact h.s_rp2)
  · first | exact h.s_zp0 | (simp only [rdI_wrI, rdP_wrI, rdL_wrI, Nat.reduceEqDiff, false_and, and_false, true_and, and_true, reduceIte, ite_self]; exact h.s_zp0)
  · first | exact h.s_zp1 | (simp only [rdI_wrI, rdP_wrI, rdL_wrI, Nat.reduceEqDiff, false_and, and_false, true_and, and_true, reduceIte, ite_self]; exact h.s_zp1)
  · first | exact h.s_zp2 | (simp only [rdI_wrI, rdP_wrI, rdL_wrI, Nat.reduceEqDiff, false_and, and_false, true_and, and_true, reduceIte, ite_self]; exact h.s_zp2)
  · first | exact h.s_loop | (simp only [rdI_wrI, rdP_wrI, rdL_wrI, Nat.reduceEqDiff, false_and, and_false, true_and, and_true, reduceIte, ite_self]; exact h.s_loop)
  · first | exact h.s_period | (simp only [rdI_wrI, rdP_wrI, rdL_wrI, Nat.reduceEqDiff, false_and, and_false, true_and, and_true, reduceIte, ite_self]; exact h.s_period)
  · first | exact h.s_phase | (simp only [rdI_wrI, rdP_wrI, rdL_wrI, Nat.reduceEqDiff, false_and, and_false, true_and, and_true, reduceIte, ite_self]; exact h.s_phase)
  · first | exact h.s_thr | (simp only [rdI_wrI, rdP_wrI, rdL_wrI, Nat.reduceEqDiff, false_and, and_false, true_and, and_true, reduceIte, ite_self]; exact h.s_thr)
  · first | exact h.s_cut | (simp only [rdI_wrI, rdP_wrI, rdL_wrI, Nat.reduceEqDiff, false_and, and_false, true_and, and_true, reduceIte, ite_self]; exact h.s_cut)
  · first | exact h.s_single | (simp only [rdI_wrI, rdP_wrI, rdL_wrI, Nat.reduceEqDiff, false_and, and_false, true_and, and_true, reduceIte, ite_self]; exact h.s_single)
  · first | exact h.s_scut | (simp only [rdI_wrI, rdP_wrI, rdL_wrI, Nat.reduceEqDiff, false_and, and_false, true_and, and_true, reduceIte, ite_self]; exact h.s_scut)
  · first | exact h.s_least | (simp only [rdI_wrI, rdP_wrI, rdL_wrI, Nat.reduceEqDiff, false_and, and_false, true_and, and_true, reduceIte, ite_self]; exact h.s_least)
  · first | exact h.s_flip | (simp only [rdI_wrI, rdP_wrI, rdL_wrI, Nat.reduceEqDiff, false_and, and_false, true_and, and_true, reduceIte, ite_self]; exact h.s_flip)
  · first | exact h.s_base | (simp only [rdI_wrI, rdP_wrI, rdL_wrI, Nat.reduceEqDiff, false_and, and_false, true_and, and_true, reduceIte, ite_self]; exact h.s_base)
  · first | exact h.s_shift | (simp only [rdI_wrI, rdP_wrI, rdL_wrI, Nat.reduceEqDiff, false_and, and_false, true_and, and_true, reduceIte, ite_self]; exact h.s_shift)
  · first | exact h.s_scan | (simp only [rdI_wrI, rdP_wrI, rdL_wrI, Nat.reduceEqDiff, false_and, and_false, true_and, and_true, reduceIte, ite_self]; exact h.s_scan)
  · first | exact h.s_kind | (simp only [rdI_wrI, rdP_wrI, rdL_wrI, Nat.reduceEqDiff, false_and, and_false, true_and, and_true, reduceIte, ite_self]; exact h.s_kind)
  · first | exact h.s_units | (simp only [rdI_wrI, rdP_wrI, rdL_wrI, Nat.reduceEqDiff, false_and, and_false, true_and, and_true, reduceIte, ite_self]; exact h.s_units)
  · first | exact h.s_zones | (simp only [rdI_wrI, rdP_wrI, rdL_wrI, Nat.reduceEqDiff, false_and, and_false, true_and, and_true, reduceIte, ite_self]; exact h.s_zones)
  · first | exact h.s_funs | (simp only [rdI_wrI, rdP_wrI, rdL_wrI, Nat.reduceEqDiff, false_and, and_false, true_and, and_true, reduceIte, ite_self]; exact h.s_funs)
  · first | exact h.s_ownc | (simp only [rdI_wrI, rdP_wrI, rdL_wrI, Nat.reduceEqDiff, false_and, and_false, true_and, and_true, reduceIte, ite_self]; exact h.s_ownc)
  · first | exact h.s_stk | (simp only [rdI_wrI, rdP_wrI, rdL_wrI, Nat.reduceEqDiff, false_and, and_false, true_and, and_true, reduceIte, ite_self]; exact h.s_stk)
  · first | exact h.s_cvtM | (simp only [rdI_wrI, rdP_wrI, rdL_wrI, Nat.reduceEqDiff, false_and, and_false, true_and, and_true, reduceIte, ite_self]; exact h.s_cvtM)
  · first | exact h.s_stoM | (simp only [rdI_wrI, rdP_wrI, rdL_wrI, Nat.reduceEqDiff, false_and, and_false, true_and, and_true, reduceIte, ite_self]; exact h.s_stoM)
  · first | exact h.s_twM | (simp only [rdI_wrI, rdP_wrI, rdL_wrI, Nat.reduceEqDiff, false_and, and_false, true_and, and_true, reduceIte, ite_self]; exact h.s_twM)
  · first | exact h.s_glM | (simp only [rdI_wrI, rdP_wrI, rdL_wrI, Nat.reduceEqDiff, false_and, and_false, true_and, and_true, reduceIte, ite_self]; exact h.s_glM)
  · first | exact h.fail | (simp only [rdI_wrI, rdP_wrI, rdL_wrI, Nat.reduceEqDiff, false_and, and_false, true_and, and_true, reduceIte, ite_self]; exact h.fail)
  · first | exact h.r_top | (simp only [rdI_wrI, rdP_wrI, rdL_wrI, Nat.reduceEqDiff, false_and, and_false, true_and, and_true, reduceIte, ite_self]; exact h.r_top)
  · first | exact h.r_high | (simp only [rdI_wrI, rdP_wrI, rdL_wrI, Nat.reduceEqDiff, false_and, and_false, true_and, and_true, reduceIte, ite_self]; exact h.r_high)
  · first | exact h.r_stk | (simp only [rdI_wrI, rdP_wrI, rdL_wrI, Nat.reduceEqDiff, false_and, and_false, true_and, and_true, reduceIte, ite_self]; exact h.r_stk)
  · first | exact h.r_calls | (simp only [rdI_wrI, rdP_wrI, rdL_wrI, Nat.reduceEqDiff, false_and, and_false, true_and, and_true, reduceIte, ite_self]; exact h.r_calls)
  · first | exact h.r_pc | (simp only [rdI_wrI, rdP_wrI, rdL_wrI, Nat.reduceEqDiff, false_and, and_false, true_and, and_true, reduceIte, ite_self]; exact h.r_pc)
  · first | exact h.r_zp0 | (simp only [rdI_wrI, rdP_wrI, rdL_wrI, Nat.reduceEqDiff, false_and, and_false, true_and, and_true, reduceIte, ite_self]; exact h.r_zp0)
  · first | exact h.r_zp1 | (simp only [rdI_wrI, rdP_wrI, rdL_wrI, Nat.reduceEqDiff, false_and, and_false, true_and, and_true, reduceIte, ite_self]; exact h.r_zp1)
  · first | exact h.r_zp2 | (simp only [rdI_wrI, rdP_wrI, rdL_wrI, Nat.reduceEqDiff, false_and, and_false, true_and, and_true, reduceIte, ite_self]; exact h.r_zp2)
  · first | exact h.r_loop | (simp only [rdI_wrI, rdP_wrI, rdL_wrI, Nat.reduceEqDiff, false_and, and_false, true_and, and_true, reduceIte, ite_self]; exact h.r_loop)
  · first | exact h.r_period | (simp only [rdI_wrI, rdP_wrI, rdL_wrI, Nat.reduceEqDiff, false_and, and_false, true_and, and_true, reduceIte, ite_self]; exact h.r_period)
  · first | exact h.r_shift | (simp only [rdI_wrI, rdP_wrI, rdL_wrI, Nat.reduceEqDiff, false_and, and_false, true_and, and_true, reduceIte, ite_self]; exact h.r_shift)
  · first | exact h.r_units | (simp only [rdI_wrI, rdP_wrI, rdL_wrI, Nat.reduceEqDiff, false_and, and_false, true_and, and_true, reduceIte, ite_self]; exact h.r_units)
  · first | exact h.r_funs | (simp only [rdI_wrI, rdP_wrI, rdL_wrI, Nat.reduceEqDiff, false_and, and_false, true_and, and_true, reduceIte, ite_self]; exact h.r_funs)
  · first | exact h.r_ownc | (simp only [rdI_wrI, rdP_wrI, rdL_wrI, Nat.reduceEqDiff, false_and, and_false, true_and, and_true, reduceIte, ite_self]; exact h.r_ownc)
  · first | exact h.r_cvtM | (simp only [rdI_wrI, rdP_wrI, rdL_wrI, Nat.reduceEqDiff, false_and, and_false, true_and, and_true, reduceIte, ite_self]; exact h.r_cvtM)
  · first | exact h.r_stoM | (simp only [rdI_wrI, rdP_wrI, rdL_wrI, Nat.reduceEqDiff, false_and, and_false, true_and, and_true, reduceIte, ite_self]; exact h.r_stoM)
  · first | exact h.r_twM | (simp only [rdI_wrI, rdP_wrI, rdL_wrI, Nat.reduceEqDiff, false_and, and_false, true_and, and_true, reduceIte, ite_self]; exact h.r_twM)
  · first | exact h.r_glM | (simp only [rdI_wrI, rdP_wrI, rdL_wrI, Nat.reduceEqDiff, false_and, and_false, true_and, and_true, reduceIte, ite_self]; exact h.r_glM)
  · first | exact h.r_ppem | (simp only [rdI_wrI, rdP_wrI, rdL_wrI, Nat.reduceEqDiff, false_and, and_false, true_and, and_true, reduceIte, ite_self]; exact h.r_ppem)
  · first | exact h.r_steps | (simp only [rdI_wrI, rdP_wrI, rdL_wrI, Nat.reduceEqDiff, false_and, and_false, true_and, and_true, reduceIte, ite_self]; exact h.r_steps)
  · first | exact h.r_run | (simp only [rdI_wrI, rdP_wrI, rdL_wrI, Nat.reduceEqDiff, false_and, and_false, true_and, and_true, reduceIte, ite_self]; exact h.r_run)
  · first | exact h.r_prog | (simp only [rdI_wrI, rdP_wrI, rdL_wrI, Nat.reduceEqDiff, false_and, and_false, true_and, and_true, reduceIte, ite_self]; exact h.r_prog)
  · first | exact h.r_flip | (simp only [rdI_wrI, rdP_wrI, rdL_wrI, Nat.reduceEqDiff, false_and, and_false, true_and, and_true, reduceIte, ite_self]; exact h.r_flip)
  · first | exact h.rnd | (simp only [rdI_wrI, rdP_wrI, rdL_wrI, Nat.reduceEqDiff, false_and, and_false, true_and, and_true, reduceIte, ite_self]; exact h.rnd)
  · first | exact h.a_stk | (simp only [rdI_wrI, rdP_wrI, rdL_wrI, Nat.reduceEqDiff, false_and, and_false, true_and, and_true, reduceIte, ite_self]; exact h.a_stk)
  · first | exact h.a_cvt | (simp only [rdI_wrI, rdP_wrI, rdL_wrI, Nat.reduceEqDiff, false_and, and_false, true_and, and_true, reduceIte, ite_self]; exact h.a_cvt)
  · first | exact h.a_sto | (simp only [rdI_wrI, rdP_wrI, rdL_wrI, Nat.reduceEqDiff, false_and, and_false, true_and, and_true, reduceIte, ite_self]; exact h.a_sto)
  · first | exact h.z_tw_ox | (simp only [rdI_wrI, rdP_wrI, rdL_wrI, Nat.reduceEqDiff, false_and, and_false, true_and, and_true, reduceIte, ite_self]; exact h.z_tw_ox)
  · first | exact h.z_tw_oy | (simp only [rdI_wrI, rdP_wrI, rdL_wrI, Nat.reduceEqDiff, false_and, and_false, true_and, and_true, reduceIte, ite_self]; exact h.z_tw_oy)
  · first | exact h.z_tw_x | (simp only [rdI_wrI, rdP_wrI, rdL_wrI, Nat.reduceEqDiff, false_and, and_false, true_and, and_true, reduceIte, ite_self]; exact h.z_tw_x)
  · first | exact h.z_tw_y | (simp only [rdI_wrI, rdP_wrI, rdL_wrI, Nat.reduceEqDiff, false_and, and_false, true_and, and_true, reduceIte, ite_self]; exact h.z_tw_y)
  · first | exact h.z_tw_t | (simp only [rdI_wrI, rdP_wrI, rdL_wrI, Nat.reduceEqDiff, false_and, and_false, true_and, and_true, reduceIte, ite_self]; exact h.z_tw_t)
  · first | exact h.z_gl_ox | (simp only [rdI_wrI, rdP_wrI, rdL_wrI, Nat.reduceEqDiff, false_and, and_false, true_and, and_true, reduceIte, ite_self]; exact h.z_gl_ox)
  · first | exact h.z_gl_oy | (simp only [rdI_wrI, rdP_wrI, rdL_wrI, Nat.reduceEqDiff, false_and, and_false, true_and, and_true, reduceIte, ite_self]; exact h.z_gl_oy)
  · first | exact h.z_gl_x | (simp only [rdI_wrI, rdP_wrI, rdL_wrI, Nat.reduceEqDiff, false_and, and_false, true_and, and_true, reduceIte, ite_self]; exact h.z_gl_x)
  · first | exact h.z_gl_y | (simp only [rdI_wrI, rdP_wrI, rdL_wrI, Nat.reduceEqDiff, false_and, and_false, true_and, and_true, reduceIte, ite_self]; exact h.z_gl_y)
  · first | exact h.z_gl_t | (simp only [rdI_wrI, rdP_wrI, rdL_wrI, Nat.reduceEqDiff, false_and, and_false, true_and, and_true, reduceIte, ite_self]; exact h.z_gl_t)
  · first | exact h.po | (have q := h.po; simp only [PO] at q ⊢; simp only [rdI_wrI, rdP_wrI, rdL_wrI, Nat.reduceEqDiff, false_and, and_false, true_and, and_true, reduceIte, ite_self]; exact q)
  · first | exact h.fr | (have q := h.fr; simp only [FR, PL, PO] at q ⊢; simp only [rdI_wrI, rdP_wrI, rdL_wrI, Nat.reduceEqDiff, false_and, and_false, true_and, and_true, reduceIte, ite_self]; exact q)
  · first | exact h.ft | (have q := h.ft; simp only [FT, PL, PO] at q ⊢; simp only [rdI_wrI, rdP_wrI, rdL_wrI, Nat.reduceEqDiff, false_and, and_false, true_and, and_true, reduceIte, ite_self]; exact q)
  · first | exact h.ow | (have q := h.ow; simp only [OW, PL, PO] at q ⊢; simp only [rdI_wrI, rdP_wrI, rdL_wrI, Nat.reduceEqDiff, false_and, and_false, true_and, and_true, reduceIte, ite_self]; exact q)
  · first | exact h.bys | (have q := h.bys; simp only [BY] at q ⊢; simp only [rdI_wrI, rdP_wrI, rdL_wrI, Nat.reduceEqDiff, false_and, and_false, true_and, and_true, reduceIte, ite_self]; exact q)
  · rcases h.ol with ⟨a, _, _⟩ | o
    · rw [hO] at a; exact absurd a (by decide)
    · refine Or.inr ?_
      show OLo _ _ (rdP hc 22 3)
      rw [hO] at o ⊢
      simp only [OLo, show rf 155 4 = 159 from rfl, show rf 155 2 = 158 from rfl] at o ⊢
      simp only [rdI_wrI, rdP_wrI, rdL_wrI, Nat.reduceEqDiff, false_and, and_false, true_and, and_true, reduceIte, ite_self]
      refine ⟨o.1, o.2.1, o.2.2.1, o.2.2.2.1, o.2.2.2.2.1, ?_⟩
      intro i hi
      by_cases e : i = k
      · simp only [e, reduceIte]; exact ⟨trivial, hv⟩
      · simp only [if_neg e]; exact o.2.2.2.2.2 i hi
theorem Rm.set_on {P : hH → hH → Prop} {hc hm : hH} (h : Rm P hc hm) (hO : isOut (rdP hc 22 3)) {k : Nat} {v : Int32} (hv : v = 0 ∨ v = 1) : Rm P (wrI hc (rf (rdP hc 22 3) 2) k v) (wrI hm 217 k v) := by
  rcases hO with e | e | e | e | e | e <;> rw [e]
  · exact h.set_on70 e hv
  · exact h.set_on87 e hv
  · exact h.set_on104 e hv
  · exact h.set_on121 e hv
  · exact h.set_on138 e hv
  · exact h.set_on155 e hv
theorem onPoint_T {O : Nat} {p : Int32} {h : hH} (e : rdP h 22 3 = O) (hO : isOut O) (hy : 0 ≤ rdI h O 3) (w : 0 ≤ p ∧ p < rdI h O 3) : f_Ma_onPoint p h = some (.inr (p, h)) := by
  have oi := out_ids hO
  unfold f_Ma_onPoint
  rw [e, if_neg oi.2.1, gd_pos oi.1, within_0 hy, if_pos w]
  rfl
theorem onPoint_F {O : Nat} {p : Int32} {h : hH} (e : rdP h 22 3 = O) (hO : isOut O) (hy : 0 ≤ rdI h O 3) (w : ¬ (0 ≤ p ∧ p < rdI h O 3)) : f_Ma_onPoint p h = some (.inl (failC 5 h)) := by
  have oi := out_ids hO
  unfold f_Ma_onPoint
  rw [e, if_neg oi.2.1, gd_pos oi.1, within_0 hy, if_neg w]
  rfl
theorem onPoint_0 {p : Int32} {h : hH} (e : rdP h 22 3 = 0) : f_Ma_onPoint p h = some (.inl (failC 5 h)) := by
  unfold f_Ma_onPoint
  rw [if_pos e]
  rfl
theorem L_128 {P : hH → hH → Prop} {hc hm : hH} (h : Rm P hc hm) : OK2 (f_Ma_others 128 hc) (f_Mo_more 128 hm) (Tr P) := by
  have rl := h.r_loop
  have t := h.top256
  by_cases q : rdI hc 22 38 ≤ rdI hc 22 15
  · by_cases b : rdI hc 55 0 = 1
    · unfold f_Ma_others f_Mo_more
      simp +decide only [h.s_loop, need_T q, has_T h q, if_pos b, f_Ma_want_1, bET_bJT, lz, bP_some, bS_some, bT_inl, bT_inr, bJT_inl, bJT_inr, bE_inl, bE_inr, bET_t, bET_inl, bET_inr, cO_t, cO_f, cS_t, cS_f, bE_bS, bE_bP, bE_gd, bET_bT, bET_bS, bET_bP, bET_gd, bJT_bT, bJT_bS, bJT_bP, bJT_gd, bJT_bJT, bP_bS, bP_bP, bP_gd, bT_bT, bT_bS, bT_bP, bT_gd, bS_bS, bS_bP, bS_gd, reduceIte]
      refine L_loop (fun g _ => rdI g 55 0 = 1) h q b ?_ ?_ ?_
      · intro g m k2 e
        dsimp only
        rw [if_pos (by rw [e]; exact Int32.le_refl _), if_neg (fun w => w.1 (by rw [k2.s_loop, e]; exact Int32.le_refl _))]
        exact ⟨rfl, rfl⟩
      · intro i m w
        dsimp only
        rw [if_neg (fun v => w v.2)]
      · intro i g m k j e q i0 i1
        have k1 := k.pop q
        have j1 : rdI (popC g) 55 0 = 1 := (g1_o (by decide)).symm.trans j
        have n0 : rdI m 192 72 = 1 := k.s_zp0.trans j
        have n1 : rdI (popM m) 192 72 = 1 := k1.s_zp0.trans j1
        dsimp only
        rw [if_neg (show ¬ rdI g 22 38 ≤ i by grind), if_pos (show ¬ rdI m 192 75 ≤ i ∧ rdI m 192 59 = 0 from ⟨by rw [k.s_loop]; grind, k.fail⟩)]
        rcases k1.ol with ⟨o1, o2, o3⟩ | o
        · have p : ¬ PT (popC g) 34 (tpC g) := by
            unfold PT
            rw [o3]
            grind
          simp +decide only [f_Ma_pop_eq q k.top256, f_Mo_pop_eq k q, n0, onPoint_0 o1, f_Mo_pointOf_F k1 isZ34 p, failM_F, lz, bP_some, bS_some, bT_inl, bT_inr, bJT_inl, bJT_inr, bE_inl, bE_inr, bET_t, bET_inl, bET_inr, cO_t, cO_f, cS_t, cS_f, bE_bS, bE_bP, bE_gd, bET_bT, bET_bS, bET_bP, bET_gd, bJT_bT, bJT_bS, bJT_bP, bJT_gd, bJT_bJT, bP_bS, bP_bP, bP_gd, bT_bT, bT_bS, bT_bP, bT_gd, bS_bS, bS_bP, bS_gd, reduceIte]
          exact OK2_of rfl rfl (k1.fails (by decide))
        · have oi := out_ids o.1
          obtain ⟨en1, en2, en3, en4, _⟩ := o.2.2.1
          have gm : rdI (popM m) 192 52 = rdI (popC g) (rdP (popC g) 22 3) 3 + 2 := k1.s_glM.trans o.2.2.2.2.1
          by_cases w : 0 ≤ tpC g ∧ tpC g < rdI (popC g) (rdP (popC g) 22 3) 3
          · have p : PT (popC g) 34 (tpC g) := ⟨w.1, by rw [o.2.2.2.2.1]; grind⟩
            have vc : vp_in (tpC g) 100 := vp_lt (n := 100) (m := 100) w.1 (by grind) rfl
            have vm : vp_in (tpC g) 102 := vp_lt (n := 102) (m := 102) w.1 (by grind) rfl
            have em : 102 * (1 : Int32) + tpC g - 102 = tpC g := by grind
            have lt : tpC g < rdI (popC g) (rdP (popC g) 22 3) 3 + 2 - 2 := by grind
            have xo := o.2.2.2.2.2 _ ((xI_lt w.1 en3).mpr w.2)
            simp +decide only [f_Ma_pop_eq q k.top256, f_Mo_pop_eq k q, n0, n1, onPoint_T rfl o.1 en3 w, f_Mo_pointOf_T k1 isZ34 p, k1.fail, gm, em, gd_pos (And.intro oi.1 vc), gd_pos vc, gd_pos vm, true_and, if_pos lt, xo.1, lz, bP_some, bS_some, bT_inl, bT_inr, bJT_inl, bJT_inr, bE_inl, bE_inr, bET_t, bET_inl, bET_inr, cO_t, cO_f, cS_t, cS_f, bE_bS, bE_bP, bE_gd, bET_bT, bET_bS, bET_bP, bET_gd, bJT_bT, bJT_bS, bJT_bP, bJT_gd, bJT_bJT, bP_bS, bP_bP, bP_gd, bT_bT, bT_bS, bT_bP, bT_gd, bS_bS, bS_bP, bS_gd, reduceIte]
            generalize hx : rdI (popC g) (rf (rdP (popC g) 22 3) 2) (tpC g).toNatClampNeg = x
            have hv : ((if x = 0 then (1 : Int32) else 0) &&& 1) = 0 ∨ ((if x = 0 then (1 : Int32) else 0) &&& 1) = 1 := and1 _
            refine OK2_of rfl rfl ⟨rfl, rfl, k1.set_on o.1 hv, ?_, ?_, ?_⟩
            · show rdI (wrI _ _ _ _) 55 0 = 1
              rw [rdI_o (by omega)]; exact j1
            · show rdI (wrI _ _ _ _) 22 38 = _
              rw [rdI_o (by omega)]; exact popC_o (by decide)
            · show rdI (wrI _ _ _ _) 22 15 = _
              rw [rdI_o (by omega)]; exact popC_top
          · by_cases p : PT (popC g) 34 (tpC g)
            · have em : 102 * (1 : Int32) + tpC g - 102 = tpC g := by grind
              have p0 := p.1
              have lt : ¬ tpC g < rdI (popC g) (rdP (popC g) 22 3) 3 + 2 - 2 := by grind
              simp +decide only [f_Ma_pop_eq q k.top256, f_Mo_pop_eq k q, n0, n1, onPoint_F rfl o.1 en3 w, f_Mo_pointOf_T k1 isZ34 p, k1.fail, gm, em, true_and, if_neg lt, f_Mo_fail_eq k1.fail, lz, bP_some, bS_some, bT_inl, bT_inr, bJT_inl, bJT_inr, bE_inl, bE_inr, bET_t, bET_inl, bET_inr, cO_t, cO_f, cS_t, cS_f, bE_bS, bE_bP, bE_gd, bET_bT, bET_bS, bET_bP, bET_gd, bJT_bT, bJT_bS, bJT_bP, bJT_gd, bJT_bJT, bP_bS, bP_bP, bP_gd, bT_bT, bT_bS, bT_bP, bT_gd, bS_bS, bS_bP, bS_gd, reduceIte]
              exact OK2_of rfl rfl (k1.fails (by decide))
            · simp +decide only [f_Ma_pop_eq q k.top256, f_Mo_pop_eq k q, n0, onPoint_F rfl o.1 en3 w, f_Mo_pointOf_F k1 isZ34 p, failM_F, lz, bP_some, bS_some, bT_inl, bT_inr, bJT_inl, bJT_inr, bE_inl, bE_inr, bET_t, bET_inl, bET_inr, cO_t, cO_f, cS_t, cS_f, bE_bS, bE_bP, bE_gd, bET_bT, bET_bS, bET_bP, bET_gd, bJT_bT, bJT_bS, bJT_bP, bJT_gd, bJT_bJT, bP_bS, bP_bP, bP_gd, bT_bT, bT_bS, bT_bP, bT_gd, bS_bS, bS_bP, bS_gd, reduceIte]
              exact OK2_of rfl rfl (k1.fails (by decide))
    · have q1 : 1 ≤ rdI hc 22 15 := by grind
      have k := h.pop q1
      have b0 : rdI hc 55 0 = 0 := by rcases h.r_zp0 with e | e; exact e; exact absurd e b
      have z0 : isZ 26 (0 : Int32) := Or.inl ⟨rfl, rfl⟩
      have n0 : rdI hm 192 72 = 0 := h.s_zp0.trans b0
      have n1 : rdI (popM hm) 192 72 = 0 := k.s_zp0.trans ((g1_o (by decide)).symm.trans b0)
      unfold f_Ma_others f_Mo_more
      simp +decide only [h.s_loop, need_T q, has_T h q, if_neg b, f_Ma_want_0, lz, bP_some, bS_some, bT_inl, bT_inr, bJT_inl, bJT_inr, bE_inl, bE_inr, bET_t, bET_inl, bET_inr, cO_t, cO_f, cS_t, cS_f, bE_bS, bE_bP, bE_gd, bET_bT, bET_bS, bET_bP, bET_gd, bJT_bT, bJT_bS, bJT_bP, bJT_gd, bJT_bJT, bP_bS, bP_bP, bP_gd, bT_bT, bT_bS, bT_bP, bT_gd, bS_bS, bS_bP, bS_gd, reduceIte]
      rw [wh_eq]
      dsimp only
      rw [if_pos (show ¬ rdI hm 192 75 ≤ 0 ∧ rdI hm 192 59 = 0 from ⟨by rw [h.s_loop]; grind, h.fail⟩)]
      by_cases p : PT (popC hc) 26 (tpC hc)
      · simp +decide only [f_Mo_pop_eq h q1, n0, n1, f_Mo_pointOf_T k z0 p, k.fail, false_and, f_Mo_fail_eq k.fail, lz, bP_some, bS_some, bT_inl, bT_inr, bJT_inl, bJT_inr, bE_inl, bE_inr, bET_t, bET_inl, bET_inr, cO_t, cO_f, cS_t, cS_f, bE_bS, bE_bP, bE_gd, bET_bT, bET_bS, bET_bP, bET_gd, bJT_bT, bJT_bS, bJT_bP, bJT_gd, bJT_bJT, bP_bS, bP_bP, bP_gd, bT_bT, bT_bS, bT_bP, bT_gd, bS_bS, bS_bP, bS_gd, reduceIte]
        rw [wh_eq]
        simp +decide only [failM_F, and_false, lz, bP_some, bS_some, bT_inl, bT_inr, bJT_inl, bJT_inr, bE_inl, bE_inr, bET_t, bET_inl, bET_inr, cO_t, cO_f, cS_t, cS_f, bE_bS, bE_bP, bE_gd, bET_bT, bET_bS, bET_bP, bET_gd, bJT_bT, bJT_bS, bJT_bP, bJT_gd, bJT_bJT, bP_bS, bP_bP, bP_gd, bT_bT, bT_bS, bT_bP, bT_gd, bS_bS, bS_bP, bS_gd, reduceIte]
        exact OK2_of rfl rfl (Tr_f ((h.fails1 (by decide)).mw _ rfl (by decide)))
      · simp +decide only [f_Mo_pop_eq h q1, n0, f_Mo_pointOf_F k z0 p, failM_F, lz, bP_some, bS_some, bT_inl, bT_inr, bJT_inl, bJT_inr, bE_inl, bE_inr, bET_t, bET_inl, bET_inr, cO_t, cO_f, cS_t, cS_f, bE_bS, bE_bP, bE_gd, bET_bT, bET_bS, bET_bP, bET_gd, bJT_bT, bJT_bS, bJT_bP, bJT_gd, bJT_bJT, bP_bS, bP_bP, bP_gd, bT_bT, bT_bS, bT_bP, bT_gd, bS_bS, bS_bP, bS_gd, reduceIte]
        rw [wh_eq]
        simp +decide only [failM_F, and_false, lz, bP_some, bS_some, bT_inl, bT_inr, bJT_inl, bJT_inr, bE_inl, bE_inr, bET_t, bET_inl, bET_inr, cO_t, cO_f, cS_t, cS_f, bE_bS, bE_bP, bE_gd, bET_bT, bET_bS, bET_bP, bET_gd, bJT_bT, bJT_bS, bJT_bP, bJT_gd, bJT_bJT, bP_bS, bP_bP, bP_gd, bT_bT, bT_bS, bT_bP, bT_gd, bS_bS, bS_bP, bS_gd, reduceIte]
        exact OK2_of rfl rfl (Tr_f ((h.fails1 (by decide)).mw _ rfl (by decide)))
  · have q' := le_of_not q
    unfold f_Ma_others f_Mo_more
    simp +decide only [h.s_loop, need_F q', has_F h q', lz, bP_some, bS_some, bT_inl, bT_inr, bJT_inl, bJT_inr, bE_inl, bE_inr, bET_t, bET_inl, bET_inr, cO_t, cO_f, cS_t, cS_f, bE_bS, bE_bP, bE_gd, bET_bT, bET_bS, bET_bP, bET_gd, bJT_bT, bJT_bS, bJT_bP, bJT_gd, bJT_bJT, bP_bS, bP_bP, bP_gd, bT_bT, bT_bS, bT_bP, bT_gd, bS_bS, bS_bP, bS_gd, reduceIte]
    exact OK2_of rfl rfl (Tr_f (h.fails (by decide)))
theorem op_128 {P : hH → hH → Prop} {hc hm : hH} (h : Rm P hc hm) : OK2 (f_Ma_upper 128 hc) (f_Mo_high 128 hm) (Tr P) := by
  unfold f_Ma_upper f_Mo_high
  simp +decide only [lz, bP_some, bS_some, bT_inl, bT_inr, bJT_inl, bJT_inr, bE_inl, bE_inr, bET_t, bET_inl, bET_inr, cO_t, cO_f, cS_t, cS_f, bE_bS, bE_bP, bE_gd, bET_bT, bET_bS, bET_bP, bET_gd, bJT_bT, bJT_bS, bJT_bP, bJT_gd, bJT_bJT, bP_bS, bP_bP, bP_gd, bT_bT, bT_bS, bT_bP, bT_gd, bS_bS, bS_bP, bS_gd, reduceIte]
  exact E_T (hc := hc) (hm := hm) (L_128 h)
