/-! LAYER 3h: calls, jumps, pushes (printed by gen/mk46.py) -/
theorem PO_vp {hc hm : hH} {p : Int32} (h : PO hc hm p) : vp_in p 3 := by
  rcases h.1 with rfl | rfl | rfl <;> exact vp_lit ⟨by decide, by decide⟩
theorem Rm.set_call {P : hH → hH → Prop} {hc hm : hH} (h : Rm P hc hm) {p a t : Int32} (hn : rdI hc 22 16 < 32) (hl : PL hc hm (rdI hc 22 8) p a) (ht : 0 ≤ t) : Rm P (wrI (wrI (wrI (wrI (wrI (wrI (wrI (wrI hc 44 (rdI hc 22 16).toNatClampNeg (rdI hc 22 7)) 45 (rdI hc 22 16).toNatClampNeg (rdI hc 22 11)) 46 (rdI hc 22 16).toNatClampNeg t) 47 (rdI hc 22 16).toNatClampNeg a) 48 (rdI hc 22 16).toNatClampNeg p) 22 16 (rdI hc 22 16 + 1)) 22 7 p) 22 11 a) (wrI (wrI (wrI (wrI (wrI (wrI (wrI (wrI hm 226 (rdI hc 22 16).toNatClampNeg (rdI hc 22 7)) 227 (rdI hc 22 16).toNatClampNeg (rdI hc 22 11)) 228 (rdI hc 22 16).toNatClampNeg p) 229 (rdI hc 22 16).toNatClampNeg a) 230 (rdI hc 22 16).toNatClampNeg t) 192 99 (rdI hc 22 16 + 1)) 192 92 p) 192 93 a) := by
  refine Rm.mk h.cl ?_ ?_ ?_ ?_ ?_ ?_ ?_ ?_ ?_ ?_ ?_ ?_ ?_ ?_ ?_ ?_ ?_ ?_ ?_ ?_ ?_ ?_ ?_ ?_ ?_ ?_ ?_ ?_ ?_ ?_ ?_ ?_ ?_ ?_ ?_ ?_ ?_ ?_ ?_ ?_ ?_ ?_ ?_ ?_ ?_ ?_ ?_ ?_ ?_ ?_ ?_ ?_ ?_ ?_ ?_ ?_ ?_ ?_ ?_ ?_ ?_ ?_ ?_ ?_ ?_ ?_ ?_ ?_ ?_ ?_ ?_ ?_ ?_ ?_ ?_ ?_ ?_ ?_ ?_ ?_ ?_ ?_ ?_ ?_ ?_ ?_ ?_ ?_ ?_
  · exact h.cl.m rfl (h.cl.m rfl (h.cl.m rfl (h.cl.m rfl (h.cl.m rfl (h.cl.m rfl (h.cl.m rfl (h.cl.m rfl (h.cl.c rfl (h.cl.c rfl (h.cl.c rfl (h.cl.c rfl (h.cl.c rfl (h.cl.c rfl (h.cl.c rfl (h.cl.c rfl (h.out))))))))))))))))
  · first | exact h.s_ppem | (simp only [rdI_wrI, rdP_wrI, rdL_wrI, Nat.reduceEqDiff, false_and, and_false, true_and, and_true, reduceIte, ite_self]; exact h.s_ppem)
  · first | exact h.s_steps | (simp only [rdI_wrI, rdP_wrI, rdL_wrI, Nat.reduceEqDiff, false_and, and_false, true_and, and_true, reduceIte, ite_self]; exact h.s_steps)
  · first | exact h.s_high | (simp only [rdI_wrI, rdP_wrI, rdL_wrI, Nat.reduceEqDiff, false_and, and_false, true_and, and_true, reduceIte, ite_self]; exact h.s_high)
  · exact rfl
  · first | exact h.s_run | (simp only [rdI_wrI, rdP_wrI, rdL_wrI, Nat.reduceEqDiff, false_and, and_false, true_and, and_true, reduceIte, ite_self]; exact h.s_run)
  · exact rfl
  · first | exact h.s_at | (simp only [rdI_wrI, rdP_wrI, rdL_wrI, Nat.reduceEqDiff, false_and, and_false, true_and, and_true, reduceIte, ite_self]; exact h.s_at)
  · first | exact h.s_top | (simp only [rdI_wrI, rdP_wrI, rdL_wrI, Nat.reduceEqDiff, false_and, and_false, true_and, and_true, reduceIte, ite_self]; exact h.s_top)
  · exact rfl
  · first | exact h.s_owns | (simp only [rdI_wrI, rdP_wrI, rdL_wrI, Nat.reduceEqDiff, false_and, and_false, true_and, and_true, reduceIte, ite_self]; exact h.s_owns)
  · first | exact h.s_fx | (simp only [rdI_wrI, rdP_wrI, rdL_wrI, Nat.reduceEqDiff, false_and, and_false, true_and, and_true, reduceIte, ite_self]; exact h.s_fx)
  · first | exact h.s_fy | (simp only [rdI_wrI, rdP_wrI, rdL_wrI, Nat.reduceEqDiff, false_and, and_false, true_and, and_true, reduceIte, ite_self]; exact h.s_fy)
  · first | exact h.s_px | (simp only [rdI_wrI, rdP_wrI, rdL_wrI, Nat.reduceEqDiff, false_and, and_false, true_and, and_true, reduceIte, ite_self]; exact h.s_px)
  · first | exact h.s_py | (simp only [rdI_wrI, rdP_wrI, rdL_wrI, Nat.reduceEqDiff, false_and, and_false, true_and, and_true, reduceIte, ite_self]; exact h.s_py)
  · first | exact h.s_dx | (simp only [rdI_wrI, rdP_wrI, rdL_wrI, Nat.reduceEqDiff, false_and, and_false, true_and, and_true, reduceIte, ite_self]; exact h.s_dx)
  · first | exact h.s_dy | (simp only [rdI_wrI, rdP_wrI, rdL_wrI, Nat.reduceEqDiff, false_and, and_false, true_and, and_true, reduceIte, ite_self]; exact h.s_dy)
  · first | exact h.s_rp0 | (simp only [rdI_wrI, rdP_wrI, rdL_wrI, Nat.reduceEqDiff, false_and, and_false, true_and, and_true, reduceIte, ite_self]; exact h.s_rp0)
  · first | exact h.s_rp1 | (simp only [rdI_wrI, rdP_wrI, rdL_wrI, Nat.reduceEqDiff, false_and, and_false, true_and, and_true, reduceIte, ite_self]; exact h.s_rp1)
  · first | exact h.s_rp2 | (simp only [rdI_wrI, rdP_wrI, rdL_wrI, Nat.reduceEqDiff, false_and, and_false, true_and, and_true, reduceIte, ite_self]; exact h.s_rp2)
  · first | exact h.s_zp0 | (simp only [rdI_wrI, rdP_wrI, rdL_wrI, Nat.reduceEqDiff, false_and, and_false, true_and, and_true, reduceIte, ite_self]; exact h.s_zp0)
  · first | exact h.s_zp1 | (simp only [rdI_wrI, rdP_wrI, rdL_wrI, Nat.reduceEqDiff, false_and, and_false, true_and, and_true, reduceIte, ite_self]; exact h.s_zp1)
  · first | exact h.s_zp2 | (simp only [rdI_wrI, rdP_wrI, rdL_wrI, Nat.reduceEqDiff, false_and, and_false, true_and, and_true, reduceIte, ite_self]; exact h.s_zp2)
  · first | exact h.s_loop | (simp only [rdI_wrI, rdP_wrI, rdL_wrI, Nat.reduceEqDiff, false_and, and_false, true_and, and_true, reduceIte, ite_self]; exact h.s_loop)
  · first | exact h.s_period | (simp only [rdI_wrI, rdP_wrI, rdL_wrI, Nat.reduceEqDiff, false_and, and_false, true_and, and_true, reduceIte, ite_self]; exact h.s_period)
  · first | exact h.s_phase | (simp only [rdI_wrI, rdP_wrI, rdL_wrI, Nat.reduceEqDiff, false_and, and_false, true_and, and_true, reduceIte, ite_self]; exact h.s_phase)
  · first | exact h.s_thr | (simp only [rdI_wrI, rdP_wrI, rdL_wrI, Nat.reduceEqDiff, false_and, and_false, true_and, and_true, reduceIte, ite_self]; exact h.s_thr)
  · first | exact h.s_cut | (simp only [rdI_wrI, rdP_wrI, rdL_wrI, Nat.reduceEqDiff, false_and, and_false, true_and, and_true, reduceIte, ite_self]; exact h.s_cut)
  · first | exact h.s_single | (simp only [rdI_wrI, rdP_wrI, rdL_wrI, Nat.reduceEqDiff, false_and, and_false, true_and, and_true, reduceIte, ite_self]; exact h.s_single)
  · first | exact h.s_scut | (simp only [rdI_wrI, rdP_wrI, rdL_wrI, Nat.reduceEqDiff, false_and, and_false, true_and, and_true, reduceIte, ite_self]; exact h.s_scut)
  · first | exact h.s_least | (simp only [rdI_wrI, rdP_wrI, rdL_wrI, Nat.reduceEqDiff, false_and, and_false, true_and, and_true, reduceIte, ite_self]; exact h.s_least)
  · first | exact h.s_flip | (simp only [rdI_wrI, rdP_wrI, rdL_wrI, Nat.reduceEqDiff, false_and, and_false, true_and, and_true, reduceIte, ite_self]; exact h.s_flip)
  · first | exact h.s_base | (simp only [rdI_wrI, rdP_wrI, rdL_wrI, Nat.reduceEqDiff, false_and, and_false, true_and, and_true, reduceIte, ite_self]; exact h.s_base)
  · first | exact h.s_shift | (simp only [rdI_wrI, rdP_wrI, rdL_wrI, Nat.reduceEqDiff, false_and, and_false, true_and, and_true, reduceIte, ite_self]; exact h.s_shift)
  · first | exact h.s_scan | (simp only [rdI_wrI, rdP_wrI, rdL_wrI, Nat.reduceEqDiff, false_and, and_false, true_and, and_true, reduceIte, ite_self]; exact h.s_scan)
  · first | exact h.s_kind | (simp only [rdI_wrI, rdP_wrI, rdL_wrI, Nat.reduceEqDiff, false_and, and_false, true_and, and_true, reduceIte, ite_self]; exact h.s_kind)
  · first | exact h.s_units | (simp only [rdI_wrI, rdP_wrI, rdL_wrI, Nat.reduceEqDiff, false_and, and_false, true_and, and_true, reduceIte, ite_self]; exact h.s_units)
  · first | exact h.s_zones | (simp only [rdI_wrI, rdP_wrI, rdL_wrI, Nat.reduceEqDiff, false_and, and_false, true_and, and_true, reduceIte, ite_self]; exact h.s_zones)
  · first | exact h.s_funs | (simp only [rdI_wrI, rdP_wrI, rdL_wrI, Nat.reduceEqDiff, false_and, and_false, true_and, and_true, reduceIte, ite_self]; exact h.s_funs)
  · first | exact h.s_ownc | (simp only [rdI_wrI, rdP_wrI, rdL_wrI, Nat.reduceEqDiff, false_and, and_false, true_and, and_true, reduceIte, ite_self]; exact h.s_ownc)
  · first | exact h.s_stk | (simp only [rdI_wrI, rdP_wrI, rdL_wrI, Nat.reduceEqDiff, false_and, and_false, true_and, and_true, reduceIte, ite_self]; exact h.s_stk)
  · first | exact h.s_cvtM | (simp only [rdI_wrI, rdP_wrI, rdL_wrI, Nat.reduceEqDiff, false_and, and_false, true_and, and_true, reduceIte, ite_self]; exact h.s_cvtM)
  · first | exact h.s_stoM | (simp only [rdI_wrI, rdP_wrI, rdL_wrI, Nat.reduceEqDiff, false_and, and_false, true_and, and_true, reduceIte, ite_self]; exact h.s_stoM)
  · first | exact h.s_twM | (simp only [rdI_wrI, rdP_wrI, rdL_wrI, Nat.reduceEqDiff, false_and, and_false, true_and, and_true, reduceIte, ite_self]; exact h.s_twM)
  · first | exact h.s_glM | (simp only [rdI_wrI, rdP_wrI, rdL_wrI, Nat.reduceEqDiff, false_and, and_false, true_and, and_true, reduceIte, ite_self]; exact h.s_glM)
  · first | exact h.fail | (simp only [rdI_wrI, rdP_wrI, rdL_wrI, Nat.reduceEqDiff, false_and, and_false, true_and, and_true, reduceIte, ite_self]; exact h.fail)
  · first | exact h.r_top | (simp only [rdI_wrI, rdP_wrI, rdL_wrI, Nat.reduceEqDiff, false_and, and_false, true_and, and_true, reduceIte, ite_self]; exact h.r_top)
  · first | exact h.r_high | (simp only [rdI_wrI, rdP_wrI, rdL_wrI, Nat.reduceEqDiff, false_and, and_false, true_and, and_true, reduceIte, ite_self]; exact h.r_high)
  · first | exact h.r_stk | (simp only [rdI_wrI, rdP_wrI, rdL_wrI, Nat.reduceEqDiff, false_and, and_false, true_and, and_true, reduceIte, ite_self]; exact h.r_stk)
  · have a := h.r_calls; simp only [rdI_wrI, rdP_wrI, rdL_wrI, Nat.reduceEqDiff, false_and, and_false, true_and, and_true, reduceIte, ite_self]; constructor <;> grind
  · simp only [rdI_wrI, rdP_wrI, rdL_wrI, Nat.reduceEqDiff, false_and, and_false, true_and, and_true, reduceIte, ite_self]; exact hl.2.2
  · first | exact h.r_zp0 | (simp only [rdI_wrI, rdP_wrI, rdL_wrI, Nat.reduceEqDiff, false_and, and_false, true_and, and_true, reduceIte, ite_self]; exact h.r_zp0)
  · first | exact h.r_zp1 | (simp only [rdI_wrI, rdP_wrI, rdL_wrI, Nat.reduceEqDiff, false_and, and_false, true_and, and_true, reduceIte, ite_self]; exact h.r_zp1)
  · first | exact h.r_zp2 | (simp only [rdI_wrI, rdP_wrI, rdL_wrI, Nat.reduceEqDiff, false_and, and_false, true_and, and_true, reduceIte, ite_self]; exact h.r_zp2)
  · first | exact h.r_loop | (simp only [rdI_wrI, rdP_wrI, rdL_wrI, Nat.reduceEqDiff, false_and, and_false, true_and, and_true, reduceIte, ite_self]; exact h.r_loop)
  · first | exact h.r_period | (simp only [rdI_wrI, rdP_wrI, rdL_wrI, Nat.reduceEqDiff, false_and, and_false, true_and, and_true, reduceIte, ite_self]; exact h.r_period)
  · first | exact h.r_shift | (simp only [rdI_wrI, rdP_wrI, rdL_wrI, Nat.reduceEqDiff, false_and, and_false, true_and, and_true, reduceIte, ite_self]; exact h.r_shift)
  · first | exact h.r_units | (simp only [rdI_wrI, rdP_wrI, rdL_wrI, Nat.reduceEqDiff, false_and, and_false, true_and, and_true, reduceIte, ite_self]; exact h.r_units)
  · first | exact h.r_funs | (simp only [rdI_wrI, rdP_wrI, rdL_wrI, Nat.reduceEqDiff, false_and, and_false, true_and, and_true, reduceIte, ite_self]; exact h.r_funs)
  · first | exact h.r_ownc | (simp only [rdI_wrI, rdP_wrI, rdL_wrI, Nat.reduceEqDiff, false_and, and_false, true_and, and_true, reduceIte, ite_self]; exact h.r_ownc)
  · first | exact h.r_cvtM | (simp only [rdI_wrI, rdP_wrI, rdL_wrI, Nat.reduceEqDiff, false_and, and_false, true_and, and_true, reduceIte, ite_self]; exact h.r_cvtM)
  · first | exact h.r_stoM | (simp only [rdI_wrI, rdP_wrI, rdL_wrI, Nat.reduceEqDiff, false_and, and_false, true_and, and_true, reduceIte, ite_self]; exact h.r_stoM)
  · first | exact h.r_twM | (simp only [rdI_wrI, rdP_wrI, rdL_wrI, Nat.reduceEqDiff, false_and, and_false, true_and, and_true, reduceIte, ite_self]; exact h.r_twM)
  · first | exact h.r_glM | (simp only [rdI_wrI, rdP_wrI, rdL_wrI, Nat.reduceEqDiff, false_and, and_false, true_and, and_true, reduceIte, ite_self]; exact h.r_glM)
  · first | exact h.r_ppem | (simp only [rdI_wrI, rdP_wrI, rdL_wrI, Nat.reduceEqDiff, false_and, and_false, true_and, and_true, reduceIte, ite_self]; exact h.r_ppem)
  · first | exact h.r_steps | (simp only [rdI_wrI, rdP_wrI, rdL_wrI, Nat.reduceEqDiff, false_and, and_false, true_and, and_true, reduceIte, ite_self]; exact h.r_steps)
  · first | exact h.r_run | (simp only [rdI_wrI, rdP_wrI, rdL_wrI, Nat.reduceEqDiff, false_and, and_false, true_and, and_true, reduceIte, ite_self]; exact h.r_run)
  · simp only [rdI_wrI, rdP_wrI, rdL_wrI, Nat.reduceEqDiff, false_and, and_false, true_and, and_true, reduceIte, ite_self]; exact hl.2.1
  · first | exact h.r_flip | (simp only [rdI_wrI, rdP_wrI, rdL_wrI, Nat.reduceEqDiff, false_and, and_false, true_and, and_true, reduceIte, ite_self]; exact h.r_flip)
  · first | exact h.rnd | (simp only [rdI_wrI, rdP_wrI, rdL_wrI, Nat.reduceEqDiff, false_and, and_false, true_and, and_true, reduceIte, ite_self]; exact h.rnd)
  · first | exact h.a_stk | (simp only [rdI_wrI, rdP_wrI, rdL_wrI, Nat.reduceEqDiff, false_and, and_false, true_and, and_true, reduceIte, ite_self]; exact h.a_stk)
  · first | exact h.a_cvt | (simp only [rdI_wrI, rdP_wrI, rdL_wrI, Nat.reduceEqDiff, false_and, and_false, true_and, and_true, reduceIte, ite_self]; exact h.a_cvt)
  · first | exact h.a_sto | (simp only [rdI_wrI, rdP_wrI, rdL_wrI, Nat.reduceEqDiff, false_and, and_false, true_and, and_true, reduceIte, ite_self]; exact h.a_sto)
  · first | exact h.z_tw_ox | (simp only [rdI_wrI, rdP_wrI, rdL_wrI, Nat.reduceEqDiff, false_and, and_false, true_and, and_true, reduceIte, ite_self]; exact h.z_tw_ox)
  · first | exact h.z_tw_oy | (simp only [rdI_wrI, rdP_wrI, rdL_wrI, Nat.reduceEqDiff, false_and, and_false, true_and, and_true, reduceIte, ite_self]; exact h.z_tw_oy)
  · first | exact h.z_tw_x | (simp only [rdI_wrI, rdP_wrI, rdL_wrI, Nat.reduceEqDiff, false_and, and_false, true_and, and_true, reduceIte, ite_self]; exact h.z_tw_x)
  · first | exact h.z_tw_y | (simp only [rdI_wrI, rdP_wrI, rdL_wrI, Nat.reduceEqDiff, false_and, and_false, true_and, and_true, reduceIte, ite_self]; exact h.z_tw_y)
  · first | exact h.z_tw_t | (simp only [rdI_wrI, rdP_wrI, rdL_wrI, Nat.reduceEqDiff, false_and, and_false, true_and, and_true, reduceIte, ite_self]; exact h.z_tw_t)
  · first | exact h.z_gl_ox | (simp only [rdI_wrI, rdP_wrI, rdL_wrI, Nat.reduceEqDiff, false_and, and_false, true_and, and_true, reduceIte, ite_self]; exact h.z_gl_ox)
  · first | exact h.z_gl_oy | (simp only [rdI_wrI, rdP_wrI, rdL_wrI, Nat.reduceEqDiff, false_and, and_false, true_and, and_true, reduceIte, ite_self]; exact h.z_gl_oy)
  · first | exact h.z_gl_x | (simp only [rdI_wrI, rdP_wrI, rdL_wrI, Nat.reduceEqDiff, false_and, and_false, true_and, and_true, reduceIte, ite_self]; exact h.z_gl_x)
  · first | exact h.z_gl_y | (simp only [rdI_wrI, rdP_wrI, rdL_wrI, Nat.reduceEqDiff, false_and, and_false, true_and, and_true, reduceIte, ite_self]; exact h.z_gl_y)
  · first | exact h.z_gl_t | (simp only [rdI_wrI, rdP_wrI, rdL_wrI, Nat.reduceEqDiff, false_and, and_false, true_and, and_true, reduceIte, ite_self]; exact h.z_gl_t)
  · have q := hl.1; simp only [PO] at q ⊢; simp only [rdI_wrI, rdP_wrI, rdL_wrI, Nat.reduceEqDiff, false_and, and_false, true_and, and_true, reduceIte, ite_self]; exact q
  · intro i hi; have q := h.fr i; have a := h.r_calls; have l1 := hl; have l2 := h.po; have l3 := h.r_prog; have l4 := h.r_pc; simp only [PL, PO] at q l1 l2 ⊢; simp only [rdI_wrI, rdP_wrI, rdL_wrI, Nat.reduceEqDiff, false_and, and_false, true_and, and_true, reduceIte, ite_self] at hi ⊢; by_cases e : i = (rdI hc 22 16).toNatClampNeg
    · simp only [e, reduceIte]; exact ⟨trivial, trivial, trivial, trivial, trivial, ⟨l2, l3, l4⟩, l1, ht⟩
    · simp only [if_neg e]; refine q ?_; have e1 : (rdI hc 22 16 + 1).toNatClampNeg = (rdI hc 22 16).toNatClampNeg + 1 := xI_succ a.1 a.2 (by decide)
      omega
  · first | exact h.ft | (have q := h.ft; simp only [FT, PL, PO] at q ⊢; simp only [rdI_wrI, rdP_wrI, rdL_wrI, Nat.reduceEqDiff, false_and, and_false, true_and, and_true, reduceIte, ite_self]; exact q)
  · first | exact h.ow | (have q := h.ow; simp only [OW, PL, PO] at q ⊢; simp only [rdI_wrI, rdP_wrI, rdL_wrI, Nat.reduceEqDiff, false_and, and_false, true_and, and_true, reduceIte, ite_self]; exact q)
  · first | exact h.bys | (have q := h.bys; simp only [BY] at q ⊢; simp only [rdI_wrI, rdP_wrI, rdL_wrI, Nat.reduceEqDiff, false_and, and_false, true_and, and_true, reduceIte, ite_self]; exact q)
  · exact OL_m (by omega) (OL_m (by omega) (OL_m (by omega) (OL_m (by omega) (OL_m (by omega) (OL_m (by omega) (OL_m (by omega) (OL_m (by omega) (OL_c rfl (OL_c rfl (OL_c rfl (OL_c rfl (OL_c rfl (OL_c rfl (OL_c rfl (OL_c rfl (h.ol))))))))))))))))
theorem toL_ne {x : Int32} (h : 1 ≤ x) : ¬ x.toInt64 = 0 := by
  intro q
  have e := congrArg Int64.toInt q
  rw [Int32.toInt_toInt64] at e
  have e0 : (0 : Int64).toInt = 0 := rfl
  have e1 : (1 : Int32).toInt = 1 := rfl
  have := Int32.le_iff_toInt_le.mp h
  omega
theorem toL_small (x : Int32) : x.toInt64.toInt.natAbs ≤ 2 ^ 62 := by
  rw [Int32.toInt_toInt64]
  have := i32_rng x
  omega
noncomputable def scV (v : Int64) (h : hH) : Int32 := (ov (v * (rdI h 22 4).toInt64 * 64) (rdI h 4 6).toInt64).toInt32
theorem Rm.scaledC {P : hH → hH → Prop} {hc hm : hH} (h : Rm P hc hm) (v : Int64) : f_Ma_scaled v hc = some (scV v hc) := by
  unfold f_Ma_scaled scV
  rw [f_HH_over_eq (toL_ne (by have := h.r_units; grind))]
  rfl
theorem Rm.scaledM {P : hH → hH → Prop} {hc hm : hH} (h : Rm P hc hm) (v : Int64) : f_Mo_scaled v hm = some (scV v hc) := by
  unfold f_Mo_scaled scV
  rw [h.s_ppem, h.s_units, f_Mo_over_eq (toL_ne (by have := h.r_units; grind)) (toL_small _)]
  rfl
theorem L_push {P : hH → hH → Prop} {hc hm : hH} (h : Rm P hc hm) (v : Int64) : OK2 (f_Ma_push v hc) (f_Mo_push v hm) (Tr P) := by
  by_cases q : rdI hc 22 15 < rdI hc 4 14
  · rw [f_Ma_push_T h.r_top.1 q h.r_stk.2, f_Mo_push_T h q]
    exact OK2_of rfl rfl (Tr_m (h.push q _))
  · rw [f_Ma_push_F (Int32.not_lt.mp q), f_Mo_push_F h (Int32.not_lt.mp q)]
    exact OK2_of rfl rfl (Tr_f (h.fails (by decide)))
/-- a push at the end of a code -/
theorem E_push {P : hH → hH → Prop} {hc hm : hH} (h : Rm P hc hm) (v : Int64) : OK2 (bT (f_Ma_push v hc) fun _ h1 => some (.inr ((), h1))) (bS (f_Mo_push v hm) fun _ h1 => some ((), h1)) (Tr P) := by
  refine OK2_bTS (OK2_mono (L_push h v) ?_)
  intro x y q
  rcases x with g | g
  · exact OK_some q
  · exact OK2_of rfl rfl q
theorem L_jump {P : hH → hH → Prop} {hc hm : hH} (h : Rm P hc hm) (n : Int64) : OK2 (f_Ma_jump n hc) (f_Mo_jump n hm) (Tr P) := by
  unfold f_Ma_jump f_Mo_jump
  have hp := h.po
  rw [gd_pos (PO_vp hp), f_HH_within_eq]
  simp only [lz, bP_some, h.s_prog, h.s_at, hp.2.2.1, gd_pos (PO_vp hp)]
  by_cases w : (0 : Int64) ≤ (rdI hc 22 12).toInt64 + n ∧ (rdI hc 22 12).toInt64 + n ≤ (rdI hc 42 (rdI hc 22 7).toNatClampNeg).toInt64
  · rw [if_pos w, if_neg (Int64.not_lt.mpr w.1), if_pos w.2, f_Ma_want_1]
    refine OK2_of rfl rfl (Tr_m (h.set_pc ?_))
    generalize (rdI hc 22 12).toInt64 + n = y at w ⊢
    generalize rdI hc 42 (rdI hc 22 7).toNatClampNeg = b at w ⊢
    rw [Int64.le_iff_toInt_le, Int64.le_iff_toInt_le, Int32.toInt_toInt64] at w
    rw [Int32.le_iff_toInt_le, Int32.le_iff_toInt_le, Int64.toInt_toInt32]
    have e0 : (0 : Int64).toInt = 0 := rfl
    have e1 : (0 : Int32).toInt = 0 := rfl
    have := i32_rng b
    rw [i32_bm (by omega) (by omega)]
    omega
  · rw [if_neg w, f_Ma_want_0]
    have e : (if (rdI hc 22 12).toInt64 + n < 0 then some true else if (rdI hc 22 12).toInt64 + n ≤ (rdI hc 42 (rdI hc 22 7).toNatClampNeg).toInt64 then some false else some true) = some true := by
      by_cases w1 : (rdI hc 22 12).toInt64 + n < 0
      · rw [if_pos w1]
      · rw [if_neg w1, if_neg (fun w2 => w ⟨Int64.not_lt.mp w1, w2⟩)]
    rw [e, f_Mo_fail_eq h.fail]
    exact OK2_of rfl rfl (Tr_f (h.fails (by decide)))
theorem L_call {P : hH → hH → Prop} {hc hm : hH} (h : Rm P hc hm) {p a t : Int32} (hl : PL hc hm (rdI hc 22 8) p a) (ht : 1 ≤ t) : OK2 (f_Ma_call p a t hc) (f_Mo_call p a t hm) (Tr P) := by
  have hr := h.r_calls
  unfold f_Ma_call f_Mo_call
  rw [if_pos ht, h.s_calls]
  by_cases q : rdI hc 22 16 = 32
  · rw [if_pos q]
    simp only [lz]
    rw [if_pos (by rw [q]; decide), f_Ma_want_0, f_Mo_fail_eq h.fail]
    exact OK2_of rfl rfl (Tr_f (h.fails (by decide)))
  · have q1 : rdI hc 22 16 < 32 := by grind
    have vp : vp_in (rdI hc 22 16) 32 := vp_lt (n := 32) (m := 32) hr.1 q1 rfl
    rw [if_neg q]
    simp only [lz]
    rw [if_neg (Int32.not_le.mpr q1), f_Ma_want_1]
    simp only [bT_inr, rdI_wrI, rdP_wrI, rdL_wrI, Nat.reduceEqDiff, false_and, and_false, true_and, and_true, eq_self, reduceIte, ite_self, h.s_calls, h.s_prog, h.s_pc, gd_pos vp]
    exact OK2_of rfl rfl (Tr_m (h.set_call q1 hl (by grind)))
/-- the search of a code of one's own -/
theorem ownOf_eq {P : hH → hH → Prop} {hc hm : hH} (h : Rm P hc hm) (c : Int32) : OK (f_Ma_ownOf c hc) (fun k => 0 ≤ k ∧ k ≤ rdI hc 22 24 ∧ (k < rdI hc 22 24 → rdI hc 51 k.toNatClampNeg = c) ∧ (k = rdI hc 22 24 → ∀ i, i < (rdI hc 22 24).toNatClampNeg → rdI hc 51 i ≠ c)) := by
  have ho := h.ow
  have o1 := ho.1
  have o2 := ho.2.1
  unfold f_Ma_ownOf
  refine OK_wh (fun k => 0 ≤ k ∧ k ≤ rdI hc 22 24 ∧ ∀ i, i < k.toNatClampNeg → rdI hc 51 i ≠ c) (fun k => (rdI hc 22 24).toNatClampNeg - k.toNatClampNeg) ?_ ⟨by decide, o1, fun i hi => absurd hi (Nat.not_lt_zero _)⟩
  intro k hk
  refine OK_ite (fun q => OK_some ?_) (fun q => OK_gd (vp_lt (n := 16) (m := 16) hk.1 (by grind) rfl) (OK_ite (fun q2 => OK_some ?_) (fun q2 => OK_some ?_)))
  · have e : k = rdI hc 22 24 := by grind
    exact ⟨hk.1, hk.2.1, fun w => absurd w (by grind), fun _ => e ▸ hk.2.2⟩
  · exact ⟨hk.1, hk.2.1, fun _ => q2, fun w => absurd w (by grind)⟩
  · have e1 : (k + 1).toNatClampNeg = k.toNatClampNeg + 1 := xI_succ (m := 16) hk.1 (by grind) (by decide)
    have e2 : k.toNatClampNeg < (rdI hc 22 24).toNatClampNeg := (xI_lt hk.1 o1).mpr (by grind)
    refine ⟨⟨by grind, by grind, ?_⟩, ?_⟩
    · intro i hi
      rw [e1] at hi
      by_cases w : i = k.toNatClampNeg
      · subst w; exact q2
      · exact hk.2.2 i (by omega)
    · show (rdI hc 22 24).toNatClampNeg - (k + 1).toNatClampNeg < (rdI hc 22 24).toNatClampNeg - k.toNatClampNeg
      omega
theorem L_unknown {P : hH → hH → Prop} {hc hm : hH} (h : Rm P hc hm) {c : Int32} (h0 : 0 ≤ c) (h1 : c ≤ 255) : OK2 (f_Ma_unknown c hc) (f_Mo_unknown c hm) (Tr P) := by
  have ho := h.ow
  obtain ⟨k, e, k0, k1, k2, k3⟩ := ownOf_eq h c
  have vc : vp_in c 256 := vp_lt (n := 256) (m := 256) h0 (by grind) rfl
  unfold f_Ma_unknown f_Mo_unknown
  rw [e, gd_pos vc]
  simp only [bP_some, lz]
  by_cases q : rdI hc 22 24 ≤ k
  · have q1 : k = rdI hc 22 24 := by grind
    have q2 : rdI hm 224 c.toNatClampNeg < 0 := by
      have e3 : c.toNatClampNeg < 256 := (xI_lt (y := 256) h0 (by decide)).mpr (by grind)
      rcases ho.2.2.2.2.1 _ e3 with w | ⟨i, hi, hj⟩
      · exact w
      · exact absurd (xI_inj (ho.2.2.1 i hi).1 h0 hj) (k3 q1 i hi)
    rw [if_pos q, if_neg (Int32.not_le.mpr q2), f_Ma_want_0, f_Mo_fail_eq h.fail]
    exact OK2_of rfl rfl (Tr_f (h.fails (by decide)))
  · have q1 : k < rdI hc 22 24 := Int32.not_le.mp q
    have q2 := k2 q1
    obtain ⟨a1, a2, a3, a4, a5, a6⟩ := ho.2.2.1 k.toNatClampNeg ((xI_lt k0 ho.1).mpr q1)
    rw [q2] at a3 a4
    have o2 := ho.2.1
    rw [if_neg q, f_Ma_want_1, a3, a4, if_pos a5.2.2.1, gd_pos vc]
    simp only [bT_inr]
    rw [gd_pos (vp_lt (n := 16) (m := 16) k0 (by grind) rfl)]
    refine OK2_bTS (OK2_mono (L_call h a5 (by decide)) ?_)
    intro x y z
    rcases x with g | g
    · exact OK_some z
    · exact OK2_of rfl rfl z
