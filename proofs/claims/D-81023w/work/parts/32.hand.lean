/-! LAYER 2d: the methods that catch, and those that call them (printed by gen/dec.py hand) -/
/-! HintHouse.size(I)I -/
def M_HH_size : hM := (0, ⟨"HintHouse", "size", "(I)I"⟩, prog_1_method_17_code, 4, (Option.some Jvm.ClassFile.FieldType.int), [(37, 54, 57, 210)], [(58, [(.aload_n 0, 1, 0, 0, 0, .null)]), (62, [(.istore_n 3, 1, 0, 0, 0, .null), (.aload_n 0, 1, 0, 0, 0, .null), (.aload_n 0, 1, 0, 0, 0, .null), (.getfield 38, 3, 0, 3, 4, .null), (.getfield 215, 3, 4, 5, 0, .null), (.putfield 218, 3, 0, 10, 0, .null)]), (74, [(.iload_n 3, 1, 0, 0, 0, .null)]), (0, [(.aload_n 0, 1, 0, 0, 0, .null), (.getfield 111, 3, 0, 2, 1, .null)]), (10, [(.iload_n 1, 1, 0, 0, 0, .null), (.i2l, 1, 0, 0, 0, .null), (.ldc2_w 199, 3, 0, 0, 0, (.long (4 : Int64))), (.ldc2_w 201, 3, 0, 0, 0, (.long (48 : Int64)))]), (27, [(.aload_n 0, 1, 0, 0, 0, .null), (.aconst_null, 1, 0, 0, 0, .null), (.putfield 100, 3, 0, 7, 3, .null)]), (32, [(.aload_n 0, 1, 0, 0, 0, .null), (.iconst 0, 1, 0, 0, 0, (.int (0 : Int32))), (.putfield 97, 3, 0, 6, 0, .null)]), (37, [(.aload_n 0, 1, 0, 0, 0, .null), (.getfield 47, 3, 0, 4, 4, .null), (.iload_n 1, 1, 0, 0, 0, .null)]), (45, [(.aload_n 0, 1, 0, 0, 0, .null)]), (49, [(.aload_n 0, 1, 0, 0, 0, .null), (.iload_n 1, 1, 0, 0, 0, .null), (.putfield 97, 3, 0, 6, 0, .null)]), (76, [(.aload_n 0, 1, 0, 0, 0, .null), (.aload_n 0, 1, 0, 0, 0, .null), (.getfield 38, 3, 0, 3, 4, .null), (.getfield 215, 3, 4, 5, 0, .null), (.putfield 218, 3, 0, 10, 0, .null)]), (87, [(.aload_n 0, 1, 0, 0, 0, .null), (.getfield 218, 3, 0, 10, 0, .null)]), (24, [(.bipush (-2), 2, 0, 0, 0, (.int (-2 : Int32)))]), (7, [(.bipush (-3), 2, 0, 0, 0, (.int (-3 : Int32)))])], [(59, .invokevirtual 212, 3), (75, .ireturn, 1), (18, .invokestatic 79, 3), (42, .invokevirtual 203, 3), (57, .astore_n 2, 1), (46, .invokevirtual 207, 3), (91, .ireturn, 1), (54, .goto 22, 3), (26, .ireturn, 1), (21, .ifCond .ne 6, 3), (9, .ireturn, 1), (4, .ifCond .ne 6, 3)])
set_option maxRecDepth 100000 in
theorem m_HH_size : hx_mok M_HH_size = true := by decide +kernel
theorem pd_HH_size : (parseMethodDescriptor M_HH_size.2.1.desc).map (fun q => q.parameters.length) = some 1 := by decide +kernel
theorem y_HH_size : hx_okW M_HH_size := ⟨⟨lw_g (lw_at lw_m5 90 rfl) rfl, lw_g (lw_at lw_m5 88 rfl) rfl, lw_g (lw_at lw_m5 89 rfl) rfl, lw_g (lw_at lw_m1 1 rfl) rfl, rfl, by decide, by decide, by decide⟩, by decide, plainFor_of_name (by decide)⟩
noncomputable def f_HH_size_h (h : hH) : Option (Int32 × hH) :=
  bS (f_HH_fails h) fun a1 h1 =>
  lz (wrI h1 1 10 (rdI h1 22 5)) fun h2 =>
  some (a1, h2)
theorem kh_HH_size (h : hH) : hx_P S0 M_HH_size 16 58 [(0, (.ref 1))] [] NT h (f_HH_size_h h) (hx_Rc cvI NT) := by
  have hm := m_HH_size
  unfold f_HH_size_h
  refine hp_cVS (M2 := M_HH_fails) hm (at1 0 rfl) (as := []) (rest := []) (z := 1) rfl (by exact trivial) (pc' := 59) rfl 0 rfl (lw_g (lw_at lw_m7 24 rfl) rfl) y_HH_fails rfl (d2 := 1) ⟨le_b rfl, pd_HH_fails, le_b rfl⟩ (le_b rfl) og_1 (k_HH_fails h) (fun a1 h1 => ?_)
  refine hp_w hm (at1 1 rfl) (L' := [(3, (.int a1)), (0, (.ref 1))]) rfl (by exact ⟨⟨og_1, og_22⟩, og_1⟩) (pc' := 74) rfl (fun h2 => ?_)
  exact hp_ir hm (at1 2 rfl) rfl (by exact trivial) (pc' := 75) rfl 1 rfl rfl (vp_nar_int _) (fun _ e => e)
noncomputable def f_HH_size (x1 : Int32) (h : hH) : Option ((Int32 × hH) × Nat) :=
  if (rdI h 1 2) = 0 then (
    some (((-3 : Int32), h), 0)
  ) else (
    bP (f_HH_within (Int32.toInt64 x1) (4 : Int64) (48 : Int64)) fun a1 =>
    if a1 = 0 then (
      some (((-2 : Int32), h), 0)
    ) else (
      lz (wrP h 1 7 0) fun h1 =>
      lz (wrI h1 1 6 (0 : Int32)) fun h2 =>
      bH (f_Mk_setSize x1 h2) (fun hq => f_HH_size_h hq) fun _ h3 =>
      bS (f_HH_right h3) fun _ h4 =>
      lz (wrI h4 1 6 x1) fun h5 =>
      lz (wrI h5 1 10 (rdI h5 22 5)) fun h6 =>
      some (((rdI h6 1 10), h6), 0)
    )
  )
set_option maxRecDepth 20000 in
theorem k_HH_size (x1 : Int32) (h : hH) : hx_kN S0 M_HH_size 16 NT [(.ref 1), (.int x1)] h (f_HH_size x1 h) cvI := by
  have hm := m_HH_size
  show hx_P S0 M_HH_size 16 0 [(0, (.ref 1)), (1, (.int x1))] [] NT h (f_HH_size x1 h) (hx_Sh (hx_Rc cvI NT))
  unfold f_HH_size
  refine hp_if_ne hm (at1 3 rfl) rfl (by exact og_1) (pc' := 4) rfl 11 rfl (tgt := 10) rfl (fun c3 => ?_) (fun c3 => ?_)
  · refine hp_cSP (M2 := M_HH_within) hm (at1 4 rfl) (as := [(.long (Int32.toInt64 x1)), (.long (4 : Int64)), (.long (48 : Int64))]) (rest := []) rfl (by exact trivial) (pc' := 18) rfl 2 rfl (lw_g (lw_at lw_m4 39 rfl) rfl) y_HH_within rfl (d2 := 1) ⟨le_b rfl, pd_HH_within, le_b rfl⟩ (le_b rfl) (k_HH_within (Int32.toInt64 x1) (4 : Int64) (48 : Int64) h) (fun a1 => ?_)
    refine hp_if_ne hm at0 rfl (by exact trivial) (pc' := 21) rfl 9 rfl (tgt := 27) rfl (fun c2 => ?_) (fun c2 => ?_)
    · refine hp_w hm (at1 5 rfl) (L' := [(0, (.ref 1)), (1, (.int x1))]) rfl (by exact og_1) (pc' := 32) rfl (fun h1 => ?_)
      refine hp_w hm (at1 6 rfl) (L' := [(0, (.ref 1)), (1, (.int x1))]) rfl (by exact og_1) (pc' := 37) rfl (fun h2 => ?_)
      refine hp_cVH (M2 := M_Mk_setSize) hm (at1 7 rfl) (as := [(.int x1)]) (rest := []) (z := 56) rfl (by exact og_1) (pc' := 42) rfl 3 rfl (lw_g (lw_at lw_m5 94 rfl) rfl) y_Mk_setSize rfl (d2 := 15) ⟨le_b rfl, pd_Mk_setSize, le_b rfl⟩ (le_b rfl) og_56 rfl (by decide) (by decide) (lw_g (lw_at lw_m5 91 rfl) rfl) 4 rfl (by decide) (k_Mk_setSize x1 h2) (fun hq => hp_s [0] rfl (kh_HH_size hq)) (fun _ h3 => ?_)
      refine hp_cVS (M2 := M_HH_right) hm (at1 8 rfl) (as := []) (rest := []) (z := 1) rfl (by exact trivial) (pc' := 46) rfl 5 rfl (lw_g (lw_at lw_m7 20 rfl) rfl) y_HH_right rfl (d2 := 1) ⟨le_b rfl, pd_HH_right, le_b rfl⟩ (le_b rfl) og_1 (k_HH_right h3) (fun _ h4 => ?_)
      refine hp_w hm (at1 9 rfl) (L' := [(0, (.ref 1)), (1, (.int x1))]) rfl (by exact og_1) (pc' := 54) rfl (fun h5 => ?_)
      refine hp_goto hm 7 rfl (tgt := 76) rfl ?_
      refine hp_w hm (at1 10 rfl) (L' := [(0, (.ref 1)), (1, (.int x1))]) rfl (by exact ⟨⟨og_1, og_22⟩, og_1⟩) (pc' := 87) rfl (fun h6 => ?_)
      exact hp_ir hm (at1 11 rfl) rfl (by exact og_1) (pc' := 91) rfl 6 rfl rfl (vp_nar_int _) (sh0 (fun _ e => e))
    · exact hp_ir hm (at1 12 rfl) rfl (by exact trivial) (pc' := 26) rfl 8 rfl rfl (vp_nar_int _) (sh0 (fun _ e => e))
  · exact hp_ir hm (at1 13 rfl) rfl (by exact trivial) (pc' := 9) rfl 10 rfl rfl (vp_nar_int _) (sh0 (fun _ e => e))
/-! HintHouse.makeNow(I)I -/
def M_HH_makeNow : hM := (0, ⟨"HintHouse", "makeNow", "(I)I"⟩, prog_1_method_19_code, 3, (Option.some Jvm.ClassFile.FieldType.int), [(12, 79, 80, 210)], [(81, [(.aload_n 0, 1, 0, 0, 0, .null), (.aload_n 0, 1, 0, 0, 0, .null), (.getfield 38, 3, 0, 3, 4, .null), (.getfield 215, 3, 4, 5, 0, .null), (.putfield 218, 3, 0, 10, 0, .null)]), (92, [(.aload_n 0, 1, 0, 0, 0, .null)]), (0, [(.aload_n 0, 1, 0, 0, 0, .null), (.aconst_null, 1, 0, 0, 0, .null), (.putfield 100, 3, 0, 7, 3, .null)]), (5, [(.aload_n 0, 1, 0, 0, 0, .null), (.getfield 47, 3, 0, 4, 4, .null)]), (12, [(.aload_n 0, 1, 0, 0, 0, .null), (.getfield 47, 3, 0, 4, 4, .null), (.iload_n 1, 1, 0, 0, 0, .null), (.iconst 0, 1, 0, 0, 0, (.int (0 : Int32)))]), (21, [(.astore_n 2, 1, 0, 0, 0, .null), (.aload_n 0, 1, 0, 0, 0, .null), (.getfield 47, 3, 0, 4, 4, .null), (.aload_n 2, 1, 0, 0, 0, .null)]), (30, [(.aload_n 0, 1, 0, 0, 0, .null)]), (34, [(.aload_n 0, 1, 0, 0, 0, .null), (.aload_n 0, 1, 0, 0, 0, .null), (.getfield 38, 3, 0, 3, 4, .null), (.getfield 215, 3, 4, 5, 0, .null), (.putfield 218, 3, 0, 10, 0, .null)]), (45, [(.aload_n 0, 1, 0, 0, 0, .null), (.aload_n 2, 1, 0, 0, 0, .null), (.putfield 100, 3, 0, 7, 3, .null)]), (50, [(.aload_n 0, 1, 0, 0, 0, .null), (.aload_n 2, 1, 0, 0, 0, .null), (.getfield 233, 3, 9, 6, 4, .null), (.iconst 1, 1, 0, 0, 0, (.int (1 : Int32))), (.iaload, 1, 0, 0, 0, .null), (.aload_n 2, 1, 0, 0, 0, .null), (.getfield 233, 3, 9, 6, 4, .null), (.iconst 0, 1, 0, 0, 0, (.int (0 : Int32))), (.iaload, 1, 0, 0, 0, .null), (.isub, 1, 0, 0, 0, .null), (.putfield 238, 3, 0, 8, 0, .null)]), (67, [(.aload_n 0, 1, 0, 0, 0, .null), (.getfield 61, 3, 0, 9, 4, .null), (.aload_n 2, 1, 0, 0, 0, .null)]), (75, [(.aload_n 2, 1, 0, 0, 0, .null), (.getfield 243, 3, 9, 3, 0, .null)])], [(93, .invokevirtual 212, 3), (96, .ireturn, 1), (9, .invokevirtual 222, 3), (18, .invokevirtual 225, 3), (80, .astore_n 2, 1), (27, .invokevirtual 229, 3), (31, .invokevirtual 207, 3), (72, .invokevirtual 240, 3), (79, .ireturn, 1)])
set_option maxRecDepth 100000 in
theorem m_HH_makeNow : hx_mok M_HH_makeNow = true := by decide +kernel
theorem pd_HH_makeNow : (parseMethodDescriptor M_HH_makeNow.2.1.desc).map (fun q => q.parameters.length) = some 1 := by decide +kernel
theorem y_HH_makeNow : hx_okW M_HH_makeNow := ⟨⟨lw_g (lw_at lw_m7 35 rfl) rfl, lw_g (lw_at lw_m7 34 rfl) rfl, qs104, lw_g (lw_at lw_m1 1 rfl) rfl, rfl, by decide, by decide, by decide⟩, by decide, plainFor_of_name (by decide)⟩
noncomputable def f_HH_makeNow_h (h : hH) : Option (Int32 × hH) :=
  lz (wrI h 1 10 (rdI h 22 5)) fun h1 =>
  bS (f_HH_fails h1) fun a1 h2 =>
  some (a1, h2)
theorem kh_HH_makeNow (h : hH) : hx_P S0 M_HH_makeNow 24 81 [(0, (.ref 1))] [] NT h (f_HH_makeNow_h h) (hx_Rc cvI NT) := by
  have hm := m_HH_makeNow
  unfold f_HH_makeNow_h
  refine hp_w hm (at1 0 rfl) (L' := [(0, (.ref 1))]) rfl (by exact ⟨⟨og_1, og_22⟩, og_1⟩) (pc' := 92) rfl (fun h1 => ?_)
  refine hp_cVS (M2 := M_HH_fails) hm (at1 1 rfl) (as := []) (rest := []) (z := 1) rfl (by exact trivial) (pc' := 93) rfl 0 rfl (lw_g (lw_at lw_m7 24 rfl) rfl) y_HH_fails rfl (d2 := 1) ⟨le_b rfl, pd_HH_fails, le_b rfl⟩ (le_b rfl) og_1 (k_HH_fails h1) (fun a1 h2 => ?_)
  exact hp_ir hm at0 rfl (by exact trivial) (pc' := 96) rfl 1 rfl rfl (vp_nar_int _) (fun _ e => e)
noncomputable def f_HH_makeNow (x1 : Int32) (h : hH) : Option ((Int32 × hH) × Nat) :=
  lz (wrP h 1 7 0) fun h1 =>
  bS (f_Mk_begin h1) fun _ h2 =>
  bH (f_Mk_build 6 x1 (0 : Int32) h2) (fun hq => f_HH_makeNow_h hq) fun a1 h3 =>
  gd (isA 9 a1) <|
  bH (f_Mk_finish a1 h3) (fun hq => f_HH_makeNow_h hq) fun _ h4 =>
  bS (f_HH_right h4) fun _ h5 =>
  lz (wrI h5 1 10 (rdI h5 22 5)) fun h6 =>
  lz (wrP h6 1 7 a1) fun h7 =>
  lz (wrI h7 1 8 ((rdI h7 (rf a1 6) 1) - (rdI h7 (rf a1 6) 0))) fun h8 =>
  bS (f_In_lay a1 h8) fun _ h9 =>
  some (((rdI h9 a1 3), h9), 0)
set_option maxRecDepth 20000 in
theorem k_HH_makeNow (x1 : Int32) (h : hH) : hx_kN S0 M_HH_makeNow 24 NT [(.ref 1), (.int x1)] h (f_HH_makeNow x1 h) cvI := by
  have hm := m_HH_makeNow
  show hx_P S0 M_HH_makeNow 24 0 [(0, (.ref 1)), (1, (.int x1))] [] NT h (f_HH_makeNow x1 h) (hx_Sh (hx_Rc cvI NT))
  unfold f_HH_makeNow
  refine hp_w hm (at1 2 rfl) (L' := [(0, (.ref 1)), (1, (.int x1))]) rfl (by exact og_1) (pc' := 5) rfl (fun h1 => ?_)
  refine hp_cVS (M2 := M_Mk_begin) hm (at1 3 rfl) (as := []) (rest := []) (z := 56) rfl (by exact og_1) (pc' := 9) rfl 2 rfl (lw_g (lw_at lw_m7 36 rfl) rfl) y_Mk_begin rfl (d2 := 1) ⟨le_b rfl, pd_Mk_begin, le_b rfl⟩ (le_b rfl) og_56 (k_Mk_begin h1) (fun _ h2 => ?_)
  refine hp_cVH (M2 := M_Mk_build) hm (at1 4 rfl) (as := [(.int x1), (.int (0 : Int32))]) (rest := []) (z := 56) rfl (by exact og_1) (pc' := 18) rfl 3 rfl (lw_g (lw_at lw_m7 40 rfl) rfl) y_Mk_build rfl (d2 := 23) ⟨le_b rfl, pd_Mk_build, le_b rfl⟩ (le_b rfl) og_56 rfl (by decide) (by decide) (lw_g (lw_at lw_m5 91 rfl) rfl) 4 rfl (by decide) (k_Mk_build 6 x1 (0 : Int32) h2) (fun hq => hp_s [0] rfl (kh_HH_makeNow hq)) (fun a1 h3 => ?_)
  refine hp_b hm (at1 5 rfl) (L' := [(2, (.ref a1)), (0, (.ref 1)), (1, (.int x1))]) (st' := [(.ref a1), (.ref 56)]) rfl (by exact og_1) (pc' := 27) rfl ?_
  refine hp_G0 (fun q2 => ?_)
  refine hp_cVH (M2 := M_Mk_finish) hm at0 (as := [(.ref a1)]) (rest := []) (z := 56) rfl (by exact trivial) (pc' := 27) rfl 5 rfl (lw_g (lw_at lw_m7 90 rfl) rfl) y_Mk_finish rfl (d2 := 7) ⟨le_b rfl, pd_Mk_finish, le_b rfl⟩ (le_b rfl) og_56 rfl (by decide) (by decide) (lw_g (lw_at lw_m5 91 rfl) rfl) 4 rfl (by decide) (k_Mk_finish a1 h3 q2) (fun hq => hp_s [0] rfl (kh_HH_makeNow hq)) (fun _ h4 => ?_)
  refine hp_cVS (M2 := M_HH_right) hm (at1 6 rfl) (as := []) (rest := []) (z := 1) rfl (by exact trivial) (pc' := 31) rfl 6 rfl (lw_g (lw_at lw_m7 20 rfl) rfl) y_HH_right rfl (d2 := 1) ⟨le_b rfl, pd_HH_right, le_b rfl⟩ (le_b rfl) og_1 (k_HH_right h4) (fun _ h5 => ?_)
  refine hp_w hm (at1 7 rfl) (L' := [(2, (.ref a1)), (0, (.ref 1)), (1, (.int x1))]) rfl (by exact ⟨⟨og_1, og_22⟩, og_1⟩) (pc' := 45) rfl (fun h6 => ?_)
  refine hp_w hm (at1 8 rfl) (L' := [(2, (.ref a1)), (0, (.ref 1)), (1, (.int x1))]) rfl (by exact og_1) (pc' := 50) rfl (fun h7 => ?_)
  refine hp_w hm (at1 9 rfl) (L' := [(2, (.ref a1)), (0, (.ref 1)), (1, (.int x1))]) rfl (by exact ⟨⟨⟨⟨q2, ⟨(rt_9_6 q2), (vp_cst (rl_9_6 q2) (show vp_in (1 : Int32) 2 from vp_lit (by decide)))⟩⟩, q2⟩, ⟨(rt_9_6 q2), (vp_cst (rl_9_6 q2) (show vp_in (0 : Int32) 2 from vp_lit (by decide)))⟩⟩, og_1⟩) (pc' := 67) rfl (fun h8 => ?_)
  refine hp_cVS (M2 := M_In_lay) hm (at1 10 rfl) (as := [(.ref a1)]) (rest := []) (z := 182) rfl (by exact og_1) (pc' := 72) rfl 7 rfl (lw_g (lw_at lw_m7 94 rfl) rfl) y_In_lay rfl (d2 := 4) ⟨le_b rfl, pd_In_lay, le_b rfl⟩ (le_b rfl) og_182 (k_In_lay a1 h8 q2) (fun _ h9 => ?_)
  exact hp_ir hm (at1 11 rfl) rfl (by exact q2) (pc' := 79) rfl 8 rfl rfl (vp_nar_int _) (sh0 (fun _ e => e))
/-! HintHouse.make(I)I -/
def M_HH_make : hM := (0, ⟨"HintHouse", "make", "(I)I"⟩, prog_1_method_18_code, 2, (Option.some Jvm.ClassFile.FieldType.int), [], [(0, [(.aload_n 0, 1, 0, 0, 0, .null), (.getfield 97, 3, 0, 6, 0, .null)]), (10, [(.aload_n 0, 1, 0, 0, 0, .null), (.iload_n 1, 1, 0, 0, 0, .null)]), (26, [(.iconst (-1), 1, 0, 0, 0, (.int (-1 : Int32)))]), (18, [(.aload_n 0, 1, 0, 0, 0, .null), (.iload_n 1, 1, 0, 0, 0, .null)]), (7, [(.bipush (-3), 2, 0, 0, 0, (.int (-3 : Int32)))])], [(12, .invokevirtual 151, 3), (27, .ireturn, 1), (20, .invokevirtual 219, 3), (23, .goto 4, 3), (15, .ifCond .eq 11, 3), (9, .ireturn, 1), (4, .ifCond .ne 6, 3)])
set_option maxRecDepth 100000 in
theorem m_HH_make : hx_mok M_HH_make = true := by decide +kernel
theorem pd_HH_make : (parseMethodDescriptor M_HH_make.2.1.desc).map (fun q => q.parameters.length) = some 1 := by decide +kernel
theorem y_HH_make : hx_okW M_HH_make := ⟨⟨lw_g (lw_at lw_m7 31 rfl) rfl, lw_g (lw_at lw_m7 29 rfl) rfl, lw_g (lw_at lw_m7 30 rfl) rfl, lw_g (lw_at lw_m1 1 rfl) rfl, rfl, by decide, by decide, by decide⟩, by decide, plainFor_of_name (by decide)⟩
noncomputable def f_HH_make (x1 : Int32) (h : hH) : Option ((Int32 × hH) × Nat) :=
  if (rdI h 1 6) = 0 then (
    some (((-3 : Int32), h), 0)
  ) else (
    bP (f_HH_isGlyph x1 h) fun a1 =>
    if a1 = 0 then (
      some (((-1 : Int32), h), 0)
    ) else (
      bN (f_HH_makeNow x1 h) fun a2 h1 =>
      some (a2, h1)
    )
  )
set_option maxRecDepth 20000 in
theorem k_HH_make (x1 : Int32) (h : hH) : hx_kN S0 M_HH_make 25 NT [(.ref 1), (.int x1)] h (f_HH_make x1 h) cvI := by
  have hm := m_HH_make
  show hx_P S0 M_HH_make 25 0 [(0, (.ref 1)), (1, (.int x1))] [] NT h (f_HH_make x1 h) (hx_Sh (hx_Rc cvI NT))
  unfold f_HH_make
  refine hp_if_ne hm (at1 0 rfl) rfl (by exact og_1) (pc' := 4) rfl 6 rfl (tgt := 10) rfl (fun c4 => ?_) (fun c4 => ?_)
  · refine hp_cVP (M2 := M_HH_isGlyph) hm (at1 1 rfl) (as := [(.int x1)]) (rest := []) (z := 1) rfl (by exact trivial) (pc' := 12) rfl 0 rfl (lw_g (lw_at lw_m5 58 rfl) rfl) y_HH_isGlyph rfl (d2 := 2) ⟨le_b rfl, pd_HH_isGlyph, le_b rfl⟩ (le_b rfl) og_1 (k_HH_isGlyph x1 h) (fun a1 => ?_)
    refine hp_if_eq hm at0 rfl (by exact trivial) (pc' := 15) rfl 4 rfl (tgt := 26) rfl (fun c3 => ?_) (fun c3 => ?_)
    · refine hp_b hm (at1 2 rfl) (L' := [(0, (.ref 1)), (1, (.int x1))]) (st' := [(.int (-1 : Int32))]) rfl (by exact trivial) (pc' := 27) rfl ?_
      exact hp_ir hm at0 rfl (by exact trivial) (pc' := 27) rfl 1 rfl rfl (vp_nar_int _) (sh0 (fun _ e => e))
    · refine hp_cVN (M2 := M_HH_makeNow) hm (at1 3 rfl) (as := [(.int x1)]) (rest := []) (z := 1) rfl (by exact trivial) (pc' := 20) rfl 2 rfl (lw_g (lw_at lw_m7 32 rfl) rfl) y_HH_makeNow rfl (d2 := 24) ⟨le_b rfl, pd_HH_makeNow, le_b rfl⟩ (le_b rfl) og_1 (k_HH_makeNow x1 h) (fun a2 h1 => ?_)
      refine hp_goto hm 3 rfl (tgt := 27) rfl ?_
      exact hp_ir hm at0 rfl (by exact trivial) (pc' := 27) rfl 1 rfl rfl (vp_nar_int _) (fun _ e => e)
  · exact hp_ir hm (at1 4 rfl) rfl (by exact trivial) (pc' := 9) rfl 5 rfl rfl (vp_nar_int _) (sh0 (fun _ e => e))
/-! HintHouse.line(II)I -/
def M_HH_line : hM := (0, ⟨"HintHouse", "line", "(II)I"⟩, prog_1_method_30_code, 9, (Option.some Jvm.ClassFile.FieldType.int), [], [(0, [(.aload_n 0, 1, 0, 0, 0, .null), (.getfield 97, 3, 0, 6, 0, .null)]), (14, [(.bipush (-3), 2, 0, 0, 0, (.int (-3 : Int32)))]), (7, [(.aload_n 0, 1, 0, 0, 0, .null), (.getfield 315, 3, 0, 14, 0, .null)]), (17, [(.aload_n 0, 1, 0, 0, 0, .null), (.iload_n 1, 1, 0, 0, 0, .null), (.iload_n 2, 1, 0, 0, 0, .null)]), (29, [(.aload_n 0, 1, 0, 0, 0, .null), (.getfield 335, 3, 0, 18, 0, .null), (.istore_n 3, 1, 0, 0, 0, .null)]), (34, [(.aload_n 0, 1, 0, 0, 0, .null), (.iconst 0, 1, 0, 0, 0, (.int (0 : Int32))), (.putfield 335, 3, 0, 18, 0, .null)]), (39, [(.iload_n 1, 1, 0, 0, 0, .null), (.istore 4, 2, 0, 0, 0, .null), (.iconst (-1), 1, 0, 0, 0, (.int (-1 : Int32))), (.istore 5, 2, 0, 0, 0, .null), (.iconst 0, 1, 0, 0, 0, (.int (0 : Int32))), (.istore 6, 2, 0, 0, 0, .null)]), (48, [(.iload 6, 2, 0, 0, 0, .null), (.iload_n 3, 1, 0, 0, 0, .null)]), (165, [(.iload 4, 2, 0, 0, 0, .null)]), (54, [(.aload_n 0, 1, 0, 0, 0, .null), (.getfield 29, 3, 0, 1, 4, .null), (.aload_n 0, 1, 0, 0, 0, .null), (.getfield 69, 3, 0, 17, 4, .null), (.iload 6, 2, 0, 0, 0, .null), (.iaload, 1, 0, 0, 0, .null)]), (68, [(.istore 7, 2, 0, 0, 0, .null), (.iload 4, 2, 0, 0, 0, .null), (.iload 5, 2, 0, 0, 0, .null), (.iconst (-1), 1, 0, 0, 0, (.int (-1 : Int32)))]), (82, [(.aload_n 0, 1, 0, 0, 0, .null), (.getfield 38, 3, 0, 3, 4, .null), (.aload_n 0, 1, 0, 0, 0, .null), (.getfield 29, 3, 0, 1, 4, .null), (.iload 5, 2, 0, 0, 0, .null), (.iload 7, 2, 0, 0, 0, .null)]), (97, [(.i2l, 1, 0, 0, 0, .null)]), (78, [(.iconst 0, 1, 0, 0, 0, (.int (0 : Int32)))]), (101, [(.iadd, 1, 0, 0, 0, .null), (.istore 4, 2, 0, 0, 0, .null)]), (104, [(.aload_n 0, 1, 0, 0, 0, .null), (.iload 7, 2, 0, 0, 0, .null)]), (110, [(.istore 8, 2, 0, 0, 0, .null), (.iload 8, 2, 0, 0, 0, .null)]), (124, [(.aload_n 0, 1, 0, 0, 0, .null), (.iload 4, 2, 0, 0, 0, .null), (.iload_n 2, 1, 0, 0, 0, .null)]), (138, [(.aload_n 0, 1, 0, 0, 0, .null), (.iload 4, 2, 0, 0, 0, .null), (.iload_n 2, 1, 0, 0, 0, .null)]), (145, [(.pop, 1, 0, 0, 0, .null), (.iload 4, 2, 0, 0, 0, .null), (.aload_n 0, 1, 0, 0, 0, .null), (.getfield 238, 3, 0, 8, 0, .null), (.iadd, 1, 0, 0, 0, .null), (.istore 4, 2, 0, 0, 0, .null)]), (155, [(.iload 7, 2, 0, 0, 0, .null), (.istore 5, 2, 0, 0, 0, .null), (.iinc 6 1, 3, 0, 0, 0, (.int (1 : Int32)))]), (134, [(.ldc_w 343, 3, 0, 0, 0, (.int (-1000200 : Int32)))]), (117, [(.ldc_w 342, 3, 0, 0, 0, (.int (-1000000 : Int32))), (.iload 8, 2, 0, 0, 0, .null), (.iadd, 1, 0, 0, 0, .null)]), (26, [(.bipush (-2), 2, 0, 0, 0, (.int (-2 : Int32)))])], [(16, .ireturn, 1), (20, .invokevirtual 325, 3), (167, .ireturn, 1), (65, .invokevirtual 148, 3), (94, .invokevirtual 183, 3), (98, .invokevirtual 338, 3), (79, .goto 22, 3), (75, .if_icmp .ne 7, 3), (107, .invokevirtual 219, 3), (128, .invokevirtual 325, 3), (142, .invokevirtual 328, 3), (162, .goto (-114), 3), (137, .ireturn, 1), (131, .ifCond .ne 7, 3), (123, .ireturn, 1), (114, .ifCond .ge 10, 3), (51, .if_icmp .ge 114, 3), (28, .ireturn, 1), (23, .ifCond .ne 6, 3), (11, .ifCond .ne 6, 3), (4, .ifCond .eq 10, 3)])
set_option maxRecDepth 100000 in
theorem m_HH_line : hx_mok M_HH_line = true := by decide +kernel
theorem pd_HH_line : (parseMethodDescriptor M_HH_line.2.1.desc).map (fun q => q.parameters.length) = some 2 := by decide +kernel
theorem y_HH_line : hx_okW M_HH_line := ⟨⟨lw_g (lw_at lw_m7 209 rfl) rfl, lw_g (lw_at lw_m7 207 rfl) rfl, lw_g (lw_at lw_m7 208 rfl) rfl, lw_g (lw_at lw_m1 1 rfl) rfl, rfl, by decide, by decide, by decide⟩, by decide, plainFor_of_name (by decide)⟩
noncomputable def f_HH_line (x1 : Int32) (x2 : Int32) (h : hH) : Option ((Int32 × hH) × Nat) :=
  if (rdI h 1 6) = 0 then (
    some (((-3 : Int32), h), 0)
  ) else (
    if (rdI h 1 14) = 0 then (
      some (((-3 : Int32), h), 0)
    ) else (
      bP (f_HH_isPen x1 x2) fun a1 =>
      if a1 = 0 then (
        some (((-2 : Int32), h), 0)
      ) else (
        lz (A := Int32) (rdI h 1 18) fun v2 =>
        lz (wrI h 1 18 (0 : Int32)) fun h1 =>
        whN (A := (Int32 × Int32 × Int32 × hH)) (B := (Int32 × hH)) (fun p3 =>
            if v2 ≤ p3.2.2.1 then (
              some ((.inr (p3.1, p3.2.2.2)), 0)
            ) else (
              gd (vp_in p3.2.2.1 100) <|
              bP (f_Fo_glyphOf (rdI p3.2.2.2 191 (Int32.toNatClampNeg p3.2.2.1)) p3.2.2.2) fun a5 =>
              bP (A := Int32) (
                if p3.2.1 = (-1 : Int32) then (
                  some (0 : Int32)
                ) else (
                  bP (f_Fo_kern p3.2.1 a5 p3.2.2.2) fun a7 =>
                  bP (f_Ma_scaled (Int32.toInt64 a7) p3.2.2.2) fun a8 =>
                  some a8
                )
              ) fun p6 =>
              lz (A := Int32) (p3.1 + p6) fun v10 =>
              bN (f_HH_makeNow a5 p3.2.2.2) fun a11 h2 =>
              if 0 ≤ a11 then (
                bP (f_HH_isPen v10 x2) fun a12 =>
                if a12 = 0 then (
                  some (.inr ((-1000200 : Int32), h2))
                ) else (
                  bS (f_HH_drawNow v10 x2 h2) fun a13 h3 =>
                  lz (A := Int32) (v10 + (rdI h3 1 8)) fun v14 =>
                  lz (A := Int32) (p3.2.2.1 + (1 : Int32)) fun v15 =>
                  some (.inl (v14, a5, v15, h3))
                )
              ) else (
                some (.inr (((-1000000 : Int32) + a11), h2))
              )
            )
        ) (x1, (-1 : Int32), (0 : Int32), h1)
      )
    )
  )
set_option maxRecDepth 20000 in
theorem k_HH_line (x1 : Int32) (x2 : Int32) (h : hH) : hx_kN S0 M_HH_line 25 NT [(.ref 1), (.int x1), (.int x2)] h (f_HH_line x1 x2 h) cvI := by
  have hm := m_HH_line
  show hx_P S0 M_HH_line 25 0 [(0, (.ref 1)), (1, (.int x1)), (2, (.int x2))] [] NT h (f_HH_line x1 x2 h) (hx_Sh (hx_Rc cvI NT))
  unfold f_HH_line
  refine hp_if_eq hm (at1 0 rfl) rfl (by exact og_1) (pc' := 4) rfl 20 rfl (tgt := 14) rfl (fun c21 => ?_) (fun c21 => ?_)
  · exact hp_ir hm (at1 1 rfl) rfl (by exact trivial) (pc' := 16) rfl 0 rfl rfl (vp_nar_int _) (sh0 (fun _ e => e))
  · refine hp_if_ne hm (at1 2 rfl) rfl (by exact og_1) (pc' := 11) rfl 19 rfl (tgt := 17) rfl (fun c20 => ?_) (fun c20 => ?_)
    · refine hp_cVP (M2 := M_HH_isPen) hm (at1 3 rfl) (as := [(.int x1), (.int x2)]) (rest := []) (z := 1) rfl (by exact trivial) (pc' := 20) rfl 1 rfl (lw_g (lw_at lw_m7 186 rfl) rfl) y_HH_isPen rfl (d2 := 2) ⟨le_b rfl, pd_HH_isPen, le_b rfl⟩ (le_b rfl) og_1 (k_HH_isPen x1 x2 h) (fun a1 => ?_)
      refine hp_if_ne hm at0 rfl (by exact trivial) (pc' := 23) rfl 18 rfl (tgt := 29) rfl (fun c19 => ?_) (fun c19 => ?_)
      · refine hp_z hm (at1 4 rfl) (fun (v2 : Int32) => [(3, (.int v2)), (0, (.ref 1)), (1, (.int x1)), (2, (.int x2))]) (fun (v2 : Int32) => []) rfl (by exact og_1) (pc' := 34) rfl (fun v2 => ?_)
        refine hp_w hm (at1 5 rfl) (L' := [(3, (.int v2)), (0, (.ref 1)), (1, (.int x1)), (2, (.int x2))]) rfl (by exact og_1) (pc' := 39) rfl (fun h1 => ?_)
        refine hp_b hm (at1 6 rfl) (L' := [(6, (.int (0 : Int32))), (5, (.int (-1 : Int32))), (4, (.int x1)), (3, (.int v2)), (0, (.ref 1)), (1, (.int x1)), (2, (.int x2))]) (st' := []) rfl (by exact trivial) (pc' := 48) rfl ?_
        refine hp_s [4, 6, 3, 2, 1, 0] rfl (L' := [(0, (.ref 1)), (2, (.int x2)), (3, (.int v2)), (4, (.int x1)), (5, (.int (-1 : Int32))), (6, (.int (0 : Int32)))]) ?_
        refine hp_whN (fun (p3 : (Int32 × Int32 × Int32 × hH)) => [(0, (.ref 1)), (2, (.int x2)), (3, (.int v2)), (4, (.int p3.1)), (5, (.int p3.2.1)), (6, (.int p3.2.2.1))]) [] (fun (p3 : (Int32 × Int32 × Int32 × hH)) => p3.2.2.2) (fun p3 => ?_) (x1, (-1 : Int32), (0 : Int32), h1)
        refine hp_ic_ge hm (at1 7 rfl) rfl (by exact trivial) (pc' := 51) rfl 16 rfl (tgt := 165) rfl (fun c18 => ?_) (fun c18 => ?_)
        · exact hp_ir hm (at1 8 rfl) rfl (by exact trivial) (pc' := 167) rfl 2 rfl rfl (vp_nar_int _) (sh0 (fun _ e => e))
        · refine hp_G hm (at1 9 rfl) (L' := [(0, (.ref 1)), (2, (.int x2)), (3, (.int v2)), (4, (.int p3.1)), (5, (.int p3.2.1)), (6, (.int p3.2.2.1))]) (st' := [(.int (rdI p3.2.2.2 191 (Int32.toNatClampNeg p3.2.2.1))), (.ref 4)]) rfl (fun hP => (by exact ⟨⟨og_1, og_1⟩, ⟨og_191, hP⟩⟩)) (pc' := 65) rfl (fun q4 => ?_)
          refine hp_cVP (M2 := M_Fo_glyphOf) hm at0 (as := [(.int (rdI p3.2.2.2 191 (Int32.toNatClampNeg p3.2.2.1)))]) (rest := []) (z := 4) rfl (by exact trivial) (pc' := 65) rfl 3 rfl (lw_g (lw_at lw_m5 33 rfl) rfl) y_Fo_glyphOf rfl (d2 := 5) ⟨le_b rfl, pd_Fo_glyphOf, le_b rfl⟩ (le_b rfl) og_4 (k_Fo_glyphOf (rdI p3.2.2.2 191 (Int32.toNatClampNeg p3.2.2.1)) p3.2.2.2) (fun a5 => ?_)
          refine hp_b hm (at1 10 rfl) (L' := [(7, (.int a5)), (0, (.ref 1)), (2, (.int x2)), (3, (.int v2)), (4, (.int p3.1)), (5, (.int p3.2.1)), (6, (.int p3.2.2.1))]) (st' := [(.int (-1 : Int32)), (.int p3.2.1), (.int p3.1)]) rfl (by exact trivial) (pc' := 75) rfl ?_
          refine hp_J 101 (fun (p6 : Int32) => [(0, (.ref 1)), (2, (.int x2)), (3, (.int v2)), (6, (.int p3.2.2.1)), (7, (.int a5))]) (fun (p6 : Int32) => [(.int p6), (.int p3.1)]) (fun (p6 : Int32) => p3.2.2.2) ?_ (fun p6 => ?_)
          · refine hp_ic_ne hm at0 rfl (by exact trivial) (pc' := 75) rfl 7 rfl (tgt := 82) rfl (fun c9 => ?_) (fun c9 => ?_)
            · refine hp_cVP (M2 := M_Fo_kern) hm (at1 11 rfl) (as := [(.int p3.2.1), (.int a5)]) (rest := [(.ref 22), (.int p3.1)]) (z := 4) rfl (by exact ⟨og_1, og_1⟩) (pc' := 94) rfl 4 rfl (lw_g (lw_at lw_m5 83 rfl) rfl) y_Fo_kern rfl (d2 := 4) ⟨le_b rfl, pd_Fo_kern, le_b rfl⟩ (le_b rfl) og_4 (k_Fo_kern p3.2.1 a5 p3.2.2.2) (fun a7 => ?_)
              refine hp_cVP (M2 := M_Ma_scaled) hm (at1 12 rfl) (as := [(.long (Int32.toInt64 a7))]) (rest := [(.int p3.1)]) (z := 22) rfl (by exact trivial) (pc' := 98) rfl 5 rfl (lw_g (lw_at lw_m7 210 rfl) rfl) y_Ma_scaled rfl (d2 := 3) ⟨le_b rfl, pd_Ma_scaled, le_b rfl⟩ (le_b rfl) og_22 (k_Ma_scaled (Int32.toInt64 a7) p3.2.2.2) (fun a8 => ?_)
              exact hp_lf [1, 2, 3, 6, 0] rfl (fun _ e => e)
            · refine hp_b hm (at1 13 rfl) (L' := [(7, (.int a5)), (0, (.ref 1)), (2, (.int x2)), (3, (.int v2)), (4, (.int p3.1)), (5, (.int p3.2.1)), (6, (.int p3.2.2.1))]) (st' := [(.int (0 : Int32)), (.int p3.1)]) rfl (by exact trivial) (pc' := 79) rfl ?_
              refine hp_goto hm 6 rfl (tgt := 101) rfl ?_
              exact hp_lf [1, 2, 3, 6, 0] rfl (fun _ e => e)
          · refine hp_z hm (at1 14 rfl) (fun (v10 : Int32) => [(4, (.int v10)), (0, (.ref 1)), (2, (.int x2)), (3, (.int v2)), (6, (.int p3.2.2.1)), (7, (.int a5))]) (fun (v10 : Int32) => []) rfl (by exact trivial) (pc' := 104) rfl (fun v10 => ?_)
            refine hp_cVN (M2 := M_HH_makeNow) hm (at1 15 rfl) (as := [(.int a5)]) (rest := []) (z := 1) rfl (by exact trivial) (pc' := 107) rfl 8 rfl (lw_g (lw_at lw_m7 32 rfl) rfl) y_HH_makeNow rfl (d2 := 24) ⟨le_b rfl, pd_HH_makeNow, le_b rfl⟩ (le_b rfl) og_1 (k_HH_makeNow a5 p3.2.2.2) (fun a11 h2 => ?_)
            refine hp_b hm (at1 16 rfl) (L' := [(8, (.int a11)), (4, (.int v10)), (0, (.ref 1)), (2, (.int x2)), (3, (.int v2)), (6, (.int p3.2.2.1)), (7, (.int a5))]) (st' := [(.int a11)]) rfl (by exact trivial) (pc' := 114) rfl ?_
            refine hp_if_ge hm at0 rfl (by exact trivial) (pc' := 114) rfl 15 rfl (tgt := 124) rfl (fun c17 => ?_) (fun c17 => ?_)
            · refine hp_cVP (M2 := M_HH_isPen) hm (at1 17 rfl) (as := [(.int v10), (.int x2)]) (rest := []) (z := 1) rfl (by exact trivial) (pc' := 128) rfl 9 rfl (lw_g (lw_at lw_m7 186 rfl) rfl) y_HH_isPen rfl (d2 := 2) ⟨le_b rfl, pd_HH_isPen, le_b rfl⟩ (le_b rfl) og_1 (k_HH_isPen v10 x2 h2) (fun a12 => ?_)
              refine hp_if_ne hm at0 rfl (by exact trivial) (pc' := 131) rfl 13 rfl (tgt := 138) rfl (fun c16 => ?_) (fun c16 => ?_)
              · refine hp_cVS (M2 := M_HH_drawNow) hm (at1 18 rfl) (as := [(.int v10), (.int x2)]) (rest := []) (z := 1) rfl (by exact trivial) (pc' := 142) rfl 10 rfl (lw_g (lw_at lw_m7 192 rfl) rfl) y_HH_drawNow rfl (d2 := 7) ⟨le_b rfl, pd_HH_drawNow, le_b rfl⟩ (le_b rfl) og_1 (k_HH_drawNow v10 x2 h2) (fun a13 h3 => ?_)
                refine hp_z hm (at1 19 rfl) (fun (v14 : Int32) => [(4, (.int v14)), (8, (.int a11)), (0, (.ref 1)), (2, (.int x2)), (3, (.int v2)), (6, (.int p3.2.2.1)), (7, (.int a5))]) (fun (v14 : Int32) => []) rfl (by exact og_1) (pc' := 155) rfl (fun v14 => ?_)
                refine hp_z hm (at1 20 rfl) (fun (v15 : Int32) => [(6, (.int v15)), (5, (.int a5)), (4, (.int v14)), (8, (.int a11)), (0, (.ref 1)), (2, (.int x2)), (3, (.int v2)), (7, (.int a5))]) (fun (v15 : Int32) => []) rfl (by exact trivial) (pc' := 162) rfl (fun v15 => ?_)
                refine hp_goto hm 11 rfl (tgt := 48) rfl ?_
                exact hp_lf [4, 5, 6, 2, 1, 0] rfl (fun _ e => e)
              · exact hp_ir hm (at1 21 rfl) rfl (by exact trivial) (pc' := 137) rfl 12 rfl rfl (vp_nar_int _) (fun _ e => e)
            · exact hp_ir hm (at1 22 rfl) rfl (by exact trivial) (pc' := 123) rfl 14 rfl rfl (vp_nar_int _) (fun _ e => e)
      · exact hp_ir hm (at1 23 rfl) rfl (by exact trivial) (pc' := 28) rfl 17 rfl rfl (vp_nar_int _) (sh0 (fun _ e => e))
    · exact hp_ir hm (at1 1 rfl) rfl (by exact trivial) (pc' := 16) rfl 0 rfl rfl (vp_nar_int _) (sh0 (fun _ e => e))
