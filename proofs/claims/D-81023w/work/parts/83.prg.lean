/-! LAYER 3S: the programs of a size (printed by gen/mk83.py) -/
theorem Rq.m_run {b : Int32} {P : hH → hH → Prop} {hc hm : hH} (h : Rq b P hc hm) (x : Int32) : Rq b P hc (runM x hm) := by
  unfold runM
  refine Rq.mk h.cl ?_ ?_ ?_ ?_ ?_ ?_ ?_ ?_ ?_ ?_ ?_ ?_ ?_ ?_ ?_ ?_ ?_ ?_ ?_ ?_ ?_ ?_ ?_ ?_ ?_ ?_ ?_ ?_ ?_ ?_ ?_ ?_ ?_ ?_ ?_ ?_ ?_ ?_ ?_ ?_ ?_ ?_ ?_ ?_ ?_ ?_ ?_ ?_ ?_ ?_ ?_ ?_ ?_
  · exact h.cl.m rfl (h.cl.m rfl (h.cl.m rfl (h.cl.m rfl (h.cl.m rfl (h.cl.m rfl (h.cl.m rfl (h.cl.m rfl (h.cl.m rfl (h.cl.m rfl (h.cl.m rfl (h.cl.m rfl (h.cl.m rfl (h.cl.m rfl (h.cl.m rfl (h.cl.m rfl (h.cl.m rfl (h.cl.m rfl (h.cl.m rfl (h.cl.m rfl (h.cl.m rfl (h.cl.m rfl (h.cl.m rfl (h.out)))))))))))))))))))))))
  · first | exact h.s_ppem | (simp only [rdI_wrI, rdP_wrI, rdL_wrI, Nat.reduceEqDiff, false_and, and_false, true_and, and_true, reduceIte, ite_self]; exact h.s_ppem)
  · first | exact h.s_steps | (simp only [rdI_wrI, rdP_wrI, rdL_wrI, Nat.reduceEqDiff, false_and, and_false, true_and, and_true, reduceIte, ite_self]; exact h.s_steps)
  · first | exact h.s_high | (simp only [rdI_wrI, rdP_wrI, rdL_wrI, Nat.reduceEqDiff, false_and, and_false, true_and, and_true, reduceIte, ite_self]; exact h.s_high)
  · first | exact h.s_owns | (simp only [rdI_wrI, rdP_wrI, rdL_wrI, Nat.reduceEqDiff, false_and, and_false, true_and, and_true, reduceIte, ite_self]; exact h.s_owns)
  · first | exact h.s_cut | (simp only [rdI_wrI, rdP_wrI, rdL_wrI, Nat.reduceEqDiff, false_and, and_false, true_and, and_true, reduceIte, ite_self]; exact h.s_cut)
  · first | exact h.s_single | (simp only [rdI_wrI, rdP_wrI, rdL_wrI, Nat.reduceEqDiff, false_and, and_false, true_and, and_true, reduceIte, ite_self]; exact h.s_single)
  · first | exact h.s_scut | (simp only [rdI_wrI, rdP_wrI, rdL_wrI, Nat.reduceEqDiff, false_and, and_false, true_and, and_true, reduceIte, ite_self]; exact h.s_scut)
  · first | exact h.s_least | (simp only [rdI_wrI, rdP_wrI, rdL_wrI, Nat.reduceEqDiff, false_and, and_false, true_and, and_true, reduceIte, ite_self]; exact h.s_least)
  · first | exact h.s_flip | (simp only [rdI_wrI, rdP_wrI, rdL_wrI, Nat.reduceEqDiff, false_and, and_false, true_and, and_true, reduceIte, ite_self]; exact h.s_flip)
  · first | exact h.s_base | (simp only [rdI_wrI, rdP_wrI, rdL_wrI, Nat.reduceEqDiff, false_and, and_false, true_and, and_true, reduceIte, ite_self]; exact h.s_base)
  · first | exact h.s_shift | (simp only [rdI_wrI, rdP_wrI, rdL_wrI, Nat.reduceEqDiff, false_and, and_false, true_and, and_true, reduceIte, ite_self]; exact h.s_shift)
  · first | exact h.s_scan | (simp only [rdI_wrI, rdP_wrI, rdL_wrI, Nat.reduceEqDiff, false_and, and_false, true_and, and_true, reduceIte, ite_self]; exact h.s_scan)
  · first | exact h.s_kind | (simp only [rdI_wrI, rdP_wrI, rdL_wrI, Nat.reduceEqDiff, false_and, and_false, true_and, and_true, reduceIte, ite_self]; exact h.s_kind)
  · first | exact h.s_units | (simp only [rdI_wrI, rdP_wrI, rdL_wrI, Nat.reduceEqDiff, false_and, and_false, true_and, and_true, reduceIte, ite_self]; exact h.s_units)
  · first | exact h.s_zones | (simp only [rdI_wrI, rdP_wrI, rdL_wrI, Nat.reduceEqDiff, false_and, and_false, true_and, and_true, reduceIte, ite_self]; exact h.s_zones)
  · first | exact h.s_funs | (simp only [rdI_wrI, rdP_wrI, rdL_wrI, Nat.reduceEqDiff, false_and, and_false, true_and, and_true, reduceIte, ite_self]; exact h.s_funs)
  · first | exact h.s_ownc | (simp only [rdI_wrI, rdP_wrI, rdL_wrI, Nat.reduceEqDiff, false_and, and_false, true_and, and_true, reduceIte, ite_self]; exact h.s_ownc)
  · first | exact h.s_stk | (simp only [rdI_wrI, rdP_wrI, rdL_wrI, Nat.reduceEqDiff, false_and, and_false, true_and, and_true, reduceIte, ite_self]; exact h.s_stk)
  · first | exact h.s_cvtM | (simp only [rdI_wrI, rdP_wrI, rdL_wrI, Nat.reduceEqDiff, false_and, and_false, true_and, and_true, reduceIte, ite_self]; exact h.s_cvtM)
  · first | exact h.s_stoM | (simp only [rdI_wrI, rdP_wrI, rdL_wrI, Nat.reduceEqDiff, false_and, and_false, true_and, and_true, reduceIte, ite_self]; exact h.s_stoM)
  · first | exact h.s_twM | (simp only [rdI_wrI, rdP_wrI, rdL_wrI, Nat.reduceEqDiff, false_and, and_false, true_and, and_true, reduceIte, ite_self]; exact h.s_twM)
  · first | exact h.s_glM | (simp only [rdI_wrI, rdP_wrI, rdL_wrI, Nat.reduceEqDiff, false_and, and_false, true_and, and_true, reduceIte, ite_self]; exact h.s_glM)
  · first | exact h.fail | (simp only [rdI_wrI, rdP_wrI, rdL_wrI, Nat.reduceEqDiff, false_and, and_false, true_and, and_true, reduceIte, ite_self]; exact h.fail)
  · first | exact h.r_stk | (simp only [rdI_wrI, rdP_wrI, rdL_wrI, Nat.reduceEqDiff, false_and, and_false, true_and, and_true, reduceIte, ite_self]; exact h.r_stk)
  · first | exact h.r_shift | (simp only [rdI_wrI, rdP_wrI, rdL_wrI, Nat.reduceEqDiff, false_and, and_false, true_and, and_true, reduceIte, ite_self]; exact h.r_shift)
  · first | exact h.r_units | (simp only [rdI_wrI, rdP_wrI, rdL_wrI, Nat.reduceEqDiff, false_and, and_false, true_and, and_true, reduceIte, ite_self]; exact h.r_units)
  · first | exact h.r_funs | (simp only [rdI_wrI, rdP_wrI, rdL_wrI, Nat.reduceEqDiff, false_and, and_false, true_and, and_true, reduceIte, ite_self]; exact h.r_funs)
  · first | exact h.r_ownc | (simp only [rdI_wrI, rdP_wrI, rdL_wrI, Nat.reduceEqDiff, false_and, and_false, true_and, and_true, reduceIte, ite_self]; exact h.r_ownc)
  · first | exact h.r_cvtM | (simp only [rdI_wrI, rdP_wrI, rdL_wrI, Nat.reduceEqDiff, false_and, and_false, true_and, and_true, reduceIte, ite_self]; exact h.r_cvtM)
  · first | exact h.r_stoM | (simp only [rdI_wrI, rdP_wrI, rdL_wrI, Nat.reduceEqDiff, false_and, and_false, true_and, and_true, reduceIte, ite_self]; exact h.r_stoM)
  · first | exact h.r_twM | (simp only [rdI_wrI, rdP_wrI, rdL_wrI, Nat.reduceEqDiff, false_and, and_false, true_and, and_true, reduceIte, ite_self]; exact h.r_twM)
  · first | exact h.r_glM | (simp only [rdI_wrI, rdP_wrI, rdL_wrI, Nat.reduceEqDiff, false_and, and_false, true_and, and_true, reduceIte, ite_self]; exact h.r_glM)
  · first | exact h.r_ppem | (simp only [rdI_wrI, rdP_wrI, rdL_wrI, Nat.reduceEqDiff, false_and, and_false, true_and, and_true, reduceIte, ite_self]; exact h.r_ppem)
  · first | exact h.r_steps | (simp only [rdI_wrI, rdP_wrI, rdL_wrI, Nat.reduceEqDiff, false_and, and_false, true_and, and_true, reduceIte, ite_self]; exact h.r_steps)
  · first | exact h.r_flip | (simp only [rdI_wrI, rdP_wrI, rdL_wrI, Nat.reduceEqDiff, false_and, and_false, true_and, and_true, reduceIte, ite_self]; exact h.r_flip)
  · first | exact h.a_cvt | (simp only [rdI_wrI, rdP_wrI, rdL_wrI, Nat.reduceEqDiff, false_and, and_false, true_and, and_true, reduceIte, ite_self]; exact h.a_cvt)
  · first | exact h.a_sto | (simp only [rdI_wrI, rdP_wrI, rdL_wrI, Nat.reduceEqDiff, false_and, and_false, true_and, and_true, reduceIte, ite_self]; exact h.a_sto)
  · first | exact h.z_tw_ox | (simp only [rdI_wrI, rdP_wrI, rdL_wrI, Nat.reduceEqDiff, false_and, and_false, true_and, and_true, reduceIte, ite_self]; exact h.z_tw_ox)
  · first | exact h.z_tw_oy | (simp only [rdI_wrI, rdP_wrI, rdL_wrI, Nat.reduceEqDiff, false_and, and_false, true_and, and_true, reduceIte, ite_self]; exact h.z_tw_oy)
  · first | exact h.z_tw_x | (simp only [rdI_wrI, rdP_wrI, rdL_wrI, Nat.reduceEqDiff, false_and, and_false, true_and, and_true, reduceIte, ite_self]; exact h.z_tw_x)
  · first | exact h.z_tw_y | (simp only [rdI_wrI, rdP_wrI, rdL_wrI, Nat.reduceEqDiff, false_and, and_false, true_and, and_true, reduceIte, ite_self]; exact h.z_tw_y)
  · first | exact h.z_tw_t | (simp only [rdI_wrI, rdP_wrI, rdL_wrI, Nat.reduceEqDiff, false_and, and_false, true_and, and_true, reduceIte, ite_self]; exact h.z_tw_t)
  · first | exact h.z_gl_ox | (simp only [rdI_wrI, rdP_wrI, rdL_wrI, Nat.reduceEqDiff, false_and, and_false, true_and, and_true, reduceIte, ite_self]; exact h.z_gl_ox)
  · first | exact h.z_gl_oy | (simp only [rdI_wrI, rdP_wrI, rdL_wrI, Nat.reduceEqDiff, false_and, and_false, true_and, and_true, reduceIte, ite_self]; exact h.z_gl_oy)
  · first | exact h.z_gl_x | (simp only [rdI_wrI, rdP_wrI, rdL_wrI, Nat.reduceEqDiff, false_and, and_false, true_and, and_true, reduceIte, ite_self]; exact h.z_gl_x)
  · first | exact h.z_gl_y | (simp only [rdI_wrI, rdP_wrI, rdL_wrI, Nat.reduceEqDiff, false_and, and_false, true_and, and_true, reduceIte, ite_self]; exact h.z_gl_y)
  · first | exact h.z_gl_t | (simp only [rdI_wrI, rdP_wrI, rdL_wrI, Nat.reduceEqDiff, false_and, and_false, true_and, and_true, reduceIte, ite_self]; exact h.z_gl_t)
  · first | exact h.bys | (have q := h.bys; simp only [BY] at q ⊢; simp only [rdI_wrI, rdP_wrI, rdL_wrI, Nat.reduceEqDiff, false_and, and_false, true_and, and_true, reduceIte, ite_self]; exact q)
  · exact OL_m (by omega) (OL_m (by omega) (OL_m (by omega) (OL_m (by omega) (OL_m (by omega) (OL_m (by omega) (OL_m (by omega) (OL_m (by omega) (OL_m (by omega) (OL_m (by omega) (OL_m (by omega) (OL_m (by omega) (OL_m (by omega) (OL_m (by omega) (OL_m (by omega) (OL_m (by omega) (OL_m (by omega) (OL_m (by omega) (OL_m (by omega) (OL_m (by omega) (OL_m (by omega) (OL_m (by omega) (OL_m (by omega) (h.ol)))))))))))))))))))))))
  · first | exact h.r_high | (simp only [rdI_wrI, rdP_wrI, rdL_wrI, Nat.reduceEqDiff, false_and, and_false, true_and, and_true, reduceIte, ite_self]; exact h.r_high)
  · first | exact h.ft | (have q := h.ft; simp only [FT, PL, PO] at q ⊢; simp only [rdI_wrI, rdP_wrI, rdL_wrI, Nat.reduceEqDiff, false_and, and_false, true_and, and_true, reduceIte, ite_self]; exact q)
  · first | exact h.ow | (have q := h.ow; simp only [OW, PL, PO] at q ⊢; simp only [rdI_wrI, rdP_wrI, rdL_wrI, Nat.reduceEqDiff, false_and, and_false, true_and, and_true, reduceIte, ite_self]; exact q)
theorem PG_loc {g0 m0 g m : hH} {t : Int32} {B S : Nat} (p : PF g0 m0 g m) (h : PG g0 m0 t B S) : PG g m t B S := by
  have c4 : ∀ k, rdI g 4 k = rdI g0 4 k := fun k => p.1 _ _ rfl
  have c5 : rdI g 5 1 = rdI g0 5 1 := p.1 _ _ rfl
  have m5 : rdI m 192 5 = rdI m0 192 5 := p.2.2.2.1 _ _ rfl
  have m195 : ∀ k, rdI m 195 k = rdI m0 195 k := fun k => p.2.2.2.1 _ _ rfl
  have l197 : ∀ k, rdL m 197 k = rdL m0 197 k := fun k => p.2.2.2.2.1 _ _
  have l198 : ∀ k, rdL m 198 k = rdL m0 198 k := fun k => p.2.2.2.2.1 _ _
  unfold PG at *
  rw [tableOf_loc m5 m195, beginOf_loc m5 m195 l197, lengthOf_loc m5 m195 l198, c4, c4, c5]
  exact h
/-- a program of a size, on each side -/
noncomputable def stC (x : Int32) (B S : Nat) (g : hH) : Option (hH ⊕ hH) :=
  if (rdI g 4 S) ≤ 0 then (
    some (.inr g)
  ) else (
    bT (f_Ma_run x (rdI g 4 B) (rdI g 4 S) g) fun _ h2 =>
    some (.inr h2)
  )
noncomputable def stM (p20 : Int32 × hH) : Option ((Int32 × hH) ⊕ hH) :=
  if (¬ ((2 : Int32) ≤ p20.1) ∧ (rdI p20.2 192 59) = 0) then (
    lz (A := Int32) (if p20.1 = 0 then (1718642541 : Int32) else (1886545264 : Int32)) fun p27 =>
    bP (f_Mo_beginOf p27 p20.2) fun a29 =>
    gd (vp_in p20.1 3) <|
    lz (wrI p20.2 220 (Int32.toNatClampNeg p20.1) a29) fun h24 =>
    bP (f_Mo_lengthOf p27 h24) fun a31 =>
    gd (vp_in p20.1 3) <|
    lz (wrI h24 221 (Int32.toNatClampNeg p20.1) a31) fun h25 =>
    bP (f_Mo_tableOf p27 h25) fun a33 =>
    bP (A := hH) (
      if a33 = (-1 : Int32) then (
        some h25
      ) else (
        bS (f_Mo_runProgram p20.1 h25) fun _ h26 =>
        some h26
      )
    ) fun p34 =>
    lz (A := Int32) (p20.1 + (1 : Int32)) fun v36 =>
    some (.inl (v36, p34))
  ) else (
    some (.inr p20.2)
  )
/-- an empty program -/
theorem Mo_run_0 {x : Int32} {h : hH} (vx : vp_in x 3) (hf : rdI h 192 59 = 0) (hs : rdI h 221 (Int32.toNatClampNeg x) = 0) : f_Mo_runProgram x h = some ((), runM x h) := by
  rw [f_Mo_run_eq, wh_eq]
  have e59 : rdI (runM x h) 192 59 = 0 := by unfold runM; simp only [rdI_wrI, rdP_wrI, rdL_wrI, Nat.reduceEqDiff, false_and, and_false, true_and, and_true, eq_self, reduceIte, ite_self]; exact hf
  have e92 : rdI (runM x h) 192 92 = x := by unfold runM; simp only [rdI_wrI, rdP_wrI, rdL_wrI, Nat.reduceEqDiff, false_and, and_false, true_and, and_true, eq_self, reduceIte, ite_self]
  have e93 : rdI (runM x h) 192 93 = 0 := by unfold runM; simp only [rdI_wrI, rdP_wrI, rdL_wrI, Nat.reduceEqDiff, false_and, and_false, true_and, and_true, eq_self, reduceIte, ite_self]
  have e99 : rdI (runM x h) 192 99 = 0 := by unfold runM; simp only [rdI_wrI, rdP_wrI, rdL_wrI, Nat.reduceEqDiff, false_and, and_false, true_and, and_true, eq_self, reduceIte, ite_self]
  have e221 : rdI (runM x h) 221 (Int32.toNatClampNeg x) = 0 := by unfold runM; simp only [rdI_wrI, rdP_wrI, rdL_wrI, Nat.reduceEqDiff, false_and, and_false, true_and, and_true, eq_self, reduceIte, ite_self]; exact hs
  rw [if_pos e59, e92, gd_pos vx, e93, e221, if_neg (by decide), e99, if_pos (by decide)]
  rfl
theorem L_prg {g0 m0 g m : hH} {b x t : Int32} {B S : Nat} (h : Rq b (PF g0 m0) g m) (hx : x = b + 1) (hb : b = -1 ∨ b = 0) (ht : t = if x = 0 then (1718642541 : Int32) else (1886545264 : Int32)) (pg0 : PG g0 m0 t B S) : ∃ y m', stC x B S g = some y ∧ stM (x, m) = some (.inl (x + 1, m')) ∧ TT (fun g' => Rf (PF g0 m0) g' m' ∧ rdI g' 22 8 = x) (fun g' => Rq x (PF g0 m0) g' m') y := by
  have pg := PG_loc h.out pg0
  obtain ⟨bo, lo, ⟨k, tk, kz⟩, b0, b1, s0, s1, bs⟩ := pg
  have x01 : x = 0 ∨ x = 1 := by rcases hb with rfl | rfl <;> subst hx <;> decide
  have vx : vp_in x 3 := by rcases x01 with e | e <;> rw [e] <;> exact vp_lit ⟨by decide, by decide⟩
  have hb3 : b = -1 ∨ b = 0 ∨ b = 1 := by rcases hb with e | e; exact Or.inl e; exact Or.inr (Or.inl e)
  have hbx : b < x := by rcases hb with rfl | rfl <;> subst hx <;> decide
  have x0 : 0 ≤ x := by rcases x01 with e | e <;> rw [e] <;> decide
  have x2 : ¬ (2 : Int32) ≤ x := by rcases x01 with e | e <;> rw [e] <;> decide
  have h1 := h.m_prog (rdI g 4 B) (rdI g 4 S) x0 hbx
  have lo' : f_Mo_lengthOf t (wrI m 220 x.toNatClampNeg (rdI g 4 B)) = some (rdI g 4 S) := by
    rw [← lo]
    exact lengthOf_loc (rdI_o (by decide)) (fun k => rdI_o (by decide)) (fun k => rfl)
  have tk' : f_Mo_tableOf t (wrI (wrI m 220 x.toNatClampNeg (rdI g 4 B)) 221 x.toNatClampNeg (rdI g 4 S)) = some k := by
    rw [← tk]
    exact tableOf_loc (by rw [rdI_o (by decide), rdI_o (by decide)]) (fun k => by rw [rdI_o (by decide), rdI_o (by decide)])
  have eM : stM (x, m) = bP (if k = (-1 : Int32) then some (wrI (wrI m 220 x.toNatClampNeg (rdI g 4 B)) 221 x.toNatClampNeg (rdI g 4 S)) else bS (f_Mo_runProgram x (wrI (wrI m 220 x.toNatClampNeg (rdI g 4 B)) 221 x.toNatClampNeg (rdI g 4 S))) fun _ h26 => some h26) fun p34 => some (.inl (x + 1, p34)) := by
    unfold stM
    dsimp only
    rw [if_pos ⟨x2, h.fail⟩]
    simp only [lz, ← ht, bo, bP_some, gd_pos vx, lo', tk']
  have e220 : rdI (wrI (wrI m 220 x.toNatClampNeg (rdI g 4 B)) 221 x.toNatClampNeg (rdI g 4 S)) 220 (Int32.toNatClampNeg x) = rdI g 4 B := by
    rw [rdI_o (by decide), rdI_wrI, if_pos ⟨rfl, rfl⟩]
  have e221 : rdI (wrI (wrI m 220 x.toNatClampNeg (rdI g 4 B)) 221 x.toNatClampNeg (rdI g 4 S)) 221 (Int32.toNatClampNeg x) = rdI g 4 S := by
    rw [rdI_wrI, if_pos ⟨rfl, rfl⟩]
  rw [eM]
  unfold stC
  by_cases q : rdI g 4 S ≤ 0
  · have q0 : rdI g 4 S = 0 := by grind
    rw [if_pos q]
    by_cases w : k = -1
    · rw [if_pos w]
      exact ⟨_, _, rfl, rfl, h1.up (Int32.le_of_lt hbx)⟩
    · rw [if_neg w, Mo_run_0 vx h1.fail (e221.trans q0)]
      exact ⟨_, _, rfl, rfl, (h1.m_run x).up (Int32.le_of_lt hbx)⟩
  · have w : ¬ k = -1 := fun e => q (by rw [kz e]; decide)
    rw [if_neg q, if_neg w]
    obtain ⟨y, z, ey, ez, r⟩ := L_run PF_5 PF_8 h1 hx hb3 ⟨b0, b1⟩ ⟨s0, by grind⟩ bs e220 e221
    rw [ey, ez]
    rcases y with g' | g'
    · exact ⟨_, _, rfl, rfl, r⟩
    · exact ⟨_, _, rfl, rfl, r.1⟩
