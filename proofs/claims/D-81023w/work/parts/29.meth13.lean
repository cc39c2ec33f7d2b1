/-! LAYER 2b: methods (printed by gen/dec.py): Mo_pixel Mo_type Mo_mapped Mo_glyphAt Mo_kernOf Mo_line Mo_feed Mo_wipe Mo_directory Mo_sumOf Mo_head Mo_maxp Mo_areWithin Mo_setMany Mo_segments Mo_groups Mo_map Mo_kerns Mo_checkGlyphs -/
/-! HintHouseModel.pixel(II)I -/
def M_Mo_pixel : hM := (11, ⟨"HintHouseModel", "pixel", "(II)I"⟩, prog_13_method_119_code, 3, (Option.some Jvm.ClassFile.FieldType.int), [], [(0, [(.iload_n 1, 1, 0, 0, 0, .null), (.i2l, 1, 0, 0, 0, .null), (.lconst 0, 1, 0, 0, 0, (.long (0 : Int64))), (.aload_n 0, 1, 0, 0, 0, .null), (.getfield 881, 3, 11, 141, 0, .null), (.iconst 1, 1, 0, 0, 0, (.int (1 : Int32))), (.isub, 1, 0, 0, 0, .null), (.i2l, 1, 0, 0, 0, .null)]), (32, [(.iconst (-1), 1, 0, 0, 0, (.int (-1 : Int32)))]), (16, [(.iload_n 2, 1, 0, 0, 0, .null), (.i2l, 1, 0, 0, 0, .null), (.lconst 0, 1, 0, 0, 0, (.long (0 : Int64))), (.aload_n 0, 1, 0, 0, 0, .null), (.getfield 884, 3, 11, 142, 0, .null), (.iconst 1, 1, 0, 0, 0, (.int (1 : Int32))), (.isub, 1, 0, 0, 0, .null), (.i2l, 1, 0, 0, 0, .null)]), (36, [(.aload_n 0, 1, 0, 0, 0, .null), (.getfield 188, 3, 11, 143, 4, .null), (.sipush 128, 3, 0, 0, 0, (.int (128 : Int32))), (.iload_n 2, 1, 0, 0, 0, .null), (.imul, 1, 0, 0, 0, .null), (.iload_n 1, 1, 0, 0, 0, .null), (.iadd, 1, 0, 0, 0, .null), (.baload, 1, 101, 0, 0, .null)]), (55, [(.iconst 0, 1, 0, 0, 0, (.int (0 : Int32)))]), (51, [(.iconst 1, 1, 0, 0, 0, (.int (1 : Int32)))])], [(10, .invokestatic 263, 3), (56, .ireturn, 1), (33, .goto 23, 3), (26, .invokestatic 263, 3), (52, .goto 4, 3), (48, .ifCond .eq 7, 3), (29, .ifCond .ne 7, 3), (13, .ifCond .eq 19, 3)])
set_option maxRecDepth 100000 in
theorem m_Mo_pixel : hx_mok M_Mo_pixel = true := by decide +kernel
theorem pd_Mo_pixel : (parseMethodDescriptor M_Mo_pixel.2.1.desc).map (fun q => q.parameters.length) = some 2 := by decide +kernel
theorem y_Mo_pixel : hx_okV M_Mo_pixel := ⟨⟨lw_g (lw_at lw_m11 129 rfl) rfl, lw_g (lw_at lw_m11 127 rfl) rfl, lw_g (lw_at lw_m11 128 rfl) rfl, lw_g (lw_at lw_m1 12 rfl) rfl, rfl, by decide, by decide, by decide⟩, rfl, by decide, plainFor_of_name (by decide)⟩
noncomputable def f_Mo_pixel (x1 : Int32) (x2 : Int32) (h : hH) : Option Int32 :=
  bP (f_Mo_in (Int32.toInt64 x1) (0 : Int64) (Int32.toInt64 ((rdI h 192 141) - (1 : Int32)))) fun a1 =>
  if a1 = 0 then (
    some (-1 : Int32)
  ) else (
    bP (f_Mo_in (Int32.toInt64 x2) (0 : Int64) (Int32.toInt64 ((rdI h 192 142) - (1 : Int32)))) fun a2 =>
    if a2 = 0 then (
      some (-1 : Int32)
    ) else (
      gd (vp_in (((128 : Int32) * x2) + x1) 16384) <|
      if (rdI h 250 (Int32.toNatClampNeg (((128 : Int32) * x2) + x1))) = 0 then (
        some (0 : Int32)
      ) else (
        some (1 : Int32)
      )
    )
  )
set_option maxRecDepth 20000 in
theorem k_Mo_pixel (x1 : Int32) (x2 : Int32) (h : hH) : hx_kP S0 M_Mo_pixel 2 NT [(.ref 192), (.int x1), (.int x2)] h (f_Mo_pixel x1 x2 h) cvI := by
  have hm := m_Mo_pixel
  show hx_P S0 M_Mo_pixel 2 0 [(0, (.ref 192)), (1, (.int x1)), (2, (.int x2))] [] NT h (f_Mo_pixel x1 x2 h) (hx_Rp cvI NT h)
  unfold f_Mo_pixel
  refine hp_cSP (M2 := M_Mo_in) hm (at1 0 rfl) (as := [(.long (Int32.toInt64 x1)), (.long (0 : Int64)), (.long (Int32.toInt64 ((rdI h 192 141) - (1 : Int32))))]) (rest := []) rfl (by exact og_192) (pc' := 10) rfl 0 rfl (lw_g (lw_at lw_m9 184 rfl) rfl) y_Mo_in rfl (d2 := 1) ⟨le_b rfl, pd_Mo_in, le_b rfl⟩ (le_b rfl) (k_Mo_in (Int32.toInt64 x1) (0 : Int64) (Int32.toInt64 ((rdI h 192 141) - (1 : Int32))) h) (fun a1 => ?_)
  refine hp_if_eq hm at0 rfl (by exact trivial) (pc' := 13) rfl 7 rfl (tgt := 32) rfl (fun c6 => ?_) (fun c6 => ?_)
  · refine hp_b hm (at1 1 rfl) (L' := [(0, (.ref 192)), (1, (.int x1)), (2, (.int x2))]) (st' := [(.int (-1 : Int32))]) rfl (by exact trivial) (pc' := 33) rfl ?_
    refine hp_goto hm 2 rfl (tgt := 56) rfl ?_
    exact hp_ir hm at0 rfl (by exact trivial) (pc' := 56) rfl 1 rfl rfl (vp_nar_int _) (fun _ e => e)
  · refine hp_cSP (M2 := M_Mo_in) hm (at1 2 rfl) (as := [(.long (Int32.toInt64 x2)), (.long (0 : Int64)), (.long (Int32.toInt64 ((rdI h 192 142) - (1 : Int32))))]) (rest := []) rfl (by exact og_192) (pc' := 26) rfl 3 rfl (lw_g (lw_at lw_m9 184 rfl) rfl) y_Mo_in rfl (d2 := 1) ⟨le_b rfl, pd_Mo_in, le_b rfl⟩ (le_b rfl) (k_Mo_in (Int32.toInt64 x2) (0 : Int64) (Int32.toInt64 ((rdI h 192 142) - (1 : Int32))) h) (fun a2 => ?_)
    refine hp_if_ne hm at0 rfl (by exact trivial) (pc' := 29) rfl 6 rfl (tgt := 36) rfl (fun c5 => ?_) (fun c5 => ?_)
    · refine hp_G hm (at1 3 rfl) (L' := [(0, (.ref 192)), (1, (.int x1)), (2, (.int x2))]) (st' := [(.int (rdI h 250 (Int32.toNatClampNeg (((128 : Int32) * x2) + x1))))]) rfl (fun hP => (by exact ⟨og_192, ⟨og_250, hP⟩⟩)) (pc' := 48) rfl (fun q3 => ?_)
      refine hp_if_eq hm at0 rfl (by exact trivial) (pc' := 48) rfl 5 rfl (tgt := 55) rfl (fun c4 => ?_) (fun c4 => ?_)
      · refine hp_b hm (at1 4 rfl) (L' := [(0, (.ref 192)), (1, (.int x1)), (2, (.int x2))]) (st' := [(.int (0 : Int32))]) rfl (by exact trivial) (pc' := 56) rfl ?_
        exact hp_ir hm at0 rfl (by exact trivial) (pc' := 56) rfl 1 rfl rfl (vp_nar_int _) (fun _ e => e)
      · refine hp_b hm (at1 5 rfl) (L' := [(0, (.ref 192)), (1, (.int x1)), (2, (.int x2))]) (st' := [(.int (1 : Int32))]) rfl (by exact trivial) (pc' := 52) rfl ?_
        refine hp_goto hm 4 rfl (tgt := 56) rfl ?_
        exact hp_ir hm at0 rfl (by exact trivial) (pc' := 56) rfl 1 rfl rfl (vp_nar_int _) (fun _ e => e)
    · refine hp_b hm (at1 1 rfl) (L' := [(0, (.ref 192)), (1, (.int x1)), (2, (.int x2))]) (st' := [(.int (-1 : Int32))]) rfl (by exact trivial) (pc' := 33) rfl ?_
      refine hp_goto hm 2 rfl (tgt := 56) rfl ?_
      exact hp_ir hm at0 rfl (by exact trivial) (pc' := 56) rfl 1 rfl rfl (vp_nar_int _) (fun _ e => e)
/-! HintHouseModel.type(I)I -/
def M_Mo_type : hM := (11, ⟨"HintHouseModel", "type", "(I)I"⟩, prog_13_method_120_code, 2, (Option.some Jvm.ClassFile.FieldType.int), [], [(0, [(.iload_n 1, 1, 0, 0, 0, .null), (.i2l, 1, 0, 0, 0, .null), (.lconst 0, 1, 0, 0, 0, (.long (0 : Int64))), (.ldc2_w 894, 3, 0, 0, 0, (.long (1114111 : Int64)))]), (15, [(.aload_n 0, 1, 0, 0, 0, .null), (.getfield 896, 3, 11, 144, 0, .null), (.bipush 100, 2, 0, 0, 0, (.int (100 : Int32)))]), (27, [(.aload_n 0, 1, 0, 0, 0, .null), (.getfield 191, 3, 11, 145, 4, .null), (.aload_n 0, 1, 0, 0, 0, .null), (.getfield 896, 3, 11, 144, 0, .null), (.iload_n 1, 1, 0, 0, 0, .null), (.iastore, 1, 0, 0, 0, .null)]), (37, [(.aload_n 0, 1, 0, 0, 0, .null), (.dup, 1, 0, 0, 0, .null), (.getfield 896, 3, 11, 144, 0, .null), (.iconst 1, 1, 0, 0, 0, (.int (1 : Int32))), (.iadd, 1, 0, 0, 0, .null), (.putfield 896, 3, 11, 144, 0, .null)]), (47, [(.aload_n 0, 1, 0, 0, 0, .null), (.getfield 896, 3, 11, 144, 0, .null)]), (24, [(.bipush (-4), 2, 0, 0, 0, (.int (-4 : Int32)))]), (12, [(.bipush (-2), 2, 0, 0, 0, (.int (-2 : Int32)))])], [(6, .invokestatic 263, 3), (51, .ireturn, 1), (26, .ireturn, 1), (21, .if_icmp .ne 6, 3), (14, .ireturn, 1), (9, .ifCond .ne 6, 3)])
set_option maxRecDepth 100000 in
theorem m_Mo_type : hx_mok M_Mo_type = true := by decide +kernel
theorem pd_Mo_type : (parseMethodDescriptor M_Mo_type.2.1.desc).map (fun q => q.parameters.length) = some 1 := by decide +kernel
theorem y_Mo_type : hx_okV M_Mo_type := ⟨⟨lw_g (lw_at lw_m11 133 rfl) rfl, lw_g (lw_at lw_m11 131 rfl) rfl, lw_g (lw_at lw_m11 132 rfl) rfl, lw_g (lw_at lw_m1 12 rfl) rfl, rfl, by decide, by decide, by decide⟩, rfl, by decide, plainFor_of_name (by decide)⟩
noncomputable def f_Mo_type (x1 : Int32) (h : hH) : Option (Int32 × hH) :=
  bP (f_Mo_in (Int32.toInt64 x1) (0 : Int64) (1114111 : Int64)) fun a1 =>
  if a1 = 0 then (
    some ((-2 : Int32), h)
  ) else (
    if (rdI h 192 144) = (100 : Int32) then (
      some ((-4 : Int32), h)
    ) else (
      gd (vp_in (rdI h 192 144) 100) <|
      lz (wrI h 251 (Int32.toNatClampNeg (rdI h 192 144)) x1) fun h1 =>
      lz (wrI h1 192 144 ((rdI h1 192 144) + (1 : Int32))) fun h2 =>
      some ((rdI h2 192 144), h2)
    )
  )
set_option maxRecDepth 20000 in
theorem k_Mo_type (x1 : Int32) (h : hH) : hx_kS S0 M_Mo_type 2 NT [(.ref 192), (.int x1)] h (f_Mo_type x1 h) cvI := by
  have hm := m_Mo_type
  show hx_P S0 M_Mo_type 2 0 [(0, (.ref 192)), (1, (.int x1))] [] NT h (f_Mo_type x1 h) (hx_Rc cvI NT)
  unfold f_Mo_type
  refine hp_cSP (M2 := M_Mo_in) hm (at1 0 rfl) (as := [(.long (Int32.toInt64 x1)), (.long (0 : Int64)), (.long (1114111 : Int64))]) (rest := []) rfl (by exact trivial) (pc' := 6) rfl 0 rfl (lw_g (lw_at lw_m9 184 rfl) rfl) y_Mo_in rfl (d2 := 1) ⟨le_b rfl, pd_Mo_in, le_b rfl⟩ (le_b rfl) (k_Mo_in (Int32.toInt64 x1) (0 : Int64) (1114111 : Int64) h) (fun a1 => ?_)
  refine hp_if_ne hm at0 rfl (by exact trivial) (pc' := 9) rfl 5 rfl (tgt := 15) rfl (fun c4 => ?_) (fun c4 => ?_)
  · refine hp_ic_ne hm (at1 1 rfl) rfl (by exact og_192) (pc' := 21) rfl 3 rfl (tgt := 27) rfl (fun c3 => ?_) (fun c3 => ?_)
    · refine hp_GW hm (at1 2 rfl) (L' := [(0, (.ref 192)), (1, (.int x1))]) rfl (fun hP => (by exact ⟨⟨og_192, og_192⟩, ⟨og_251, hP⟩⟩)) (pc' := 37) rfl (fun q2 h1 => ?_)
      refine hp_w hm (at1 3 rfl) (L' := [(0, (.ref 192)), (1, (.int x1))]) rfl (by exact ⟨og_192, og_192⟩) (pc' := 47) rfl (fun h2 => ?_)
      exact hp_ir hm (at1 4 rfl) rfl (by exact og_192) (pc' := 51) rfl 1 rfl rfl (vp_nar_int _) (fun _ e => e)
    · exact hp_ir hm (at1 5 rfl) rfl (by exact trivial) (pc' := 26) rfl 2 rfl rfl (vp_nar_int _) (fun _ e => e)
  · exact hp_ir hm (at1 6 rfl) rfl (by exact trivial) (pc' := 14) rfl 4 rfl rfl (vp_nar_int _) (fun _ e => e)
/-! HintHouseModel.mapped(I)J -/
def M_Mo_mapped : hM := (11, ⟨"HintHouseModel", "mapped", "(I)J"⟩, prog_13_method_33_code, 10, (Option.some Jvm.ClassFile.FieldType.long), [], [(0, [(.aload_n 0, 1, 0, 0, 0, .null), (.getfield 387, 3, 11, 22, 0, .null)]), (33, [(.aload_n 0, 1, 0, 0, 0, .null), (.getfield 399, 3, 11, 23, 0, .null), (.istore_n 2, 1, 0, 0, 0, .null)]), (38, [(.aload_n 0, 1, 0, 0, 0, .null), (.getfield 387, 3, 11, 22, 0, .null), (.bipush 12, 2, 0, 0, 0, (.int (12 : Int32)))]), (122, [(.iload_n 1, 1, 0, 0, 0, .null), (.ldc_w 404, 3, 0, 0, 0, (.int (65535 : Int32)))]), (131, [(.iconst 0, 1, 0, 0, 0, (.int (0 : Int32))), (.istore_n 3, 1, 0, 0, 0, .null)]), (133, [(.aload_n 0, 1, 0, 0, 0, .null), (.aload_n 0, 1, 0, 0, 0, .null), (.getfield 384, 3, 11, 21, 0, .null), (.bipush 14, 2, 0, 0, 0, (.int (14 : Int32))), (.iadd, 1, 0, 0, 0, .null), (.iconst 2, 1, 0, 0, 0, (.int (2 : Int32))), (.iload_n 3, 1, 0, 0, 0, .null), (.imul, 1, 0, 0, 0, .null), (.iadd, 1, 0, 0, 0, .null)]), (148, [(.iload_n 1, 1, 0, 0, 0, .null)]), (152, [(.iinc 3 1, 3, 0, 0, 0, (.int (1 : Int32)))]), (158, [(.aload_n 0, 1, 0, 0, 0, .null), (.aload_n 0, 1, 0, 0, 0, .null), (.getfield 384, 3, 11, 21, 0, .null), (.bipush 16, 2, 0, 0, 0, (.int (16 : Int32))), (.iadd, 1, 0, 0, 0, .null), (.iconst 2, 1, 0, 0, 0, (.int (2 : Int32))), (.iload_n 2, 1, 0, 0, 0, .null), (.imul, 1, 0, 0, 0, .null), (.iadd, 1, 0, 0, 0, .null), (.iconst 2, 1, 0, 0, 0, (.int (2 : Int32))), (.iload_n 3, 1, 0, 0, 0, .null), (.imul, 1, 0, 0, 0, .null), (.iadd, 1, 0, 0, 0, .null)]), (177, [(.istore 4, 2, 0, 0, 0, .null), (.iload 4, 2, 0, 0, 0, .null), (.iload_n 1, 1, 0, 0, 0, .null)]), (187, [(.aload_n 0, 1, 0, 0, 0, .null), (.aload_n 0, 1, 0, 0, 0, .null), (.getfield 384, 3, 11, 21, 0, .null), (.bipush 16, 2, 0, 0, 0, (.int (16 : Int32))), (.iadd, 1, 0, 0, 0, .null), (.iconst 4, 1, 0, 0, 0, (.int (4 : Int32))), (.iload_n 2, 1, 0, 0, 0, .null), (.imul, 1, 0, 0, 0, .null), (.iadd, 1, 0, 0, 0, .null), (.iconst 2, 1, 0, 0, 0, (.int (2 : Int32))), (.iload_n 3, 1, 0, 0, 0, .null), (.imul, 1, 0, 0, 0, .null), (.iadd, 1, 0, 0, 0, .null)]), (206, [(.istore 5, 2, 0, 0, 0, .null), (.bipush 16, 2, 0, 0, 0, (.int (16 : Int32))), (.bipush 6, 2, 0, 0, 0, (.int (6 : Int32))), (.iload_n 2, 1, 0, 0, 0, .null), (.imul, 1, 0, 0, 0, .null), (.iadd, 1, 0, 0, 0, .null), (.iconst 2, 1, 0, 0, 0, (.int (2 : Int32))), (.iload_n 3, 1, 0, 0, 0, .null), (.imul, 1, 0, 0, 0, .null), (.iadd, 1, 0, 0, 0, .null), (.istore 6, 2, 0, 0, 0, .null)]), (221, [(.aload_n 0, 1, 0, 0, 0, .null), (.aload_n 0, 1, 0, 0, 0, .null), (.getfield 384, 3, 11, 21, 0, .null), (.iload 6, 2, 0, 0, 0, .null), (.iadd, 1, 0, 0, 0, .null)]), (232, [(.istore 7, 2, 0, 0, 0, .null), (.iload 7, 2, 0, 0, 0, .null)]), (249, [(.iload 6, 2, 0, 0, 0, .null), (.iload 7, 2, 0, 0, 0, .null), (.iadd, 1, 0, 0, 0, .null), (.iconst 2, 1, 0, 0, 0, (.int (2 : Int32))), (.iload_n 1, 1, 0, 0, 0, .null), (.iload 4, 2, 0, 0, 0, .null), (.isub, 1, 0, 0, 0, .null), (.imul, 1, 0, 0, 0, .null), (.iadd, 1, 0, 0, 0, .null), (.istore 8, 2, 0, 0, 0, .null)]), (263, [(.iload 8, 2, 0, 0, 0, .null), (.iconst 2, 1, 0, 0, 0, (.int (2 : Int32))), (.iadd, 1, 0, 0, 0, .null), (.aload_n 0, 1, 0, 0, 0, .null), (.aload_n 0, 1, 0, 0, 0, .null), (.getfield 384, 3, 11, 21, 0, .null), (.iconst 2, 1, 0, 0, 0, (.int (2 : Int32))), (.iadd, 1, 0, 0, 0, .null)]), (294, [(.iconst 0, 1, 0, 0, 0, (.int (0 : Int32)))]), (280, [(.aload_n 0, 1, 0, 0, 0, .null), (.aload_n 0, 1, 0, 0, 0, .null), (.getfield 384, 3, 11, 21, 0, .null), (.iload 8, 2, 0, 0, 0, .null), (.iadd, 1, 0, 0, 0, .null)]), (295, [(.istore 9, 2, 0, 0, 0, .null), (.iload 9, 2, 0, 0, 0, .null)]), (306, [(.iload 9, 2, 0, 0, 0, .null), (.iload 5, 2, 0, 0, 0, .null), (.iadd, 1, 0, 0, 0, .null), (.ldc_w 404, 3, 0, 0, 0, (.int (65535 : Int32))), (.iand, 1, 0, 0, 0, .null), (.i2l, 1, 0, 0, 0, .null)]), (302, [(.lconst 0, 1, 0, 0, 0, (.long (0 : Int64)))]), (239, [(.iload_n 1, 1, 0, 0, 0, .null), (.iload 5, 2, 0, 0, 0, .null), (.iadd, 1, 0, 0, 0, .null), (.ldc_w 404, 3, 0, 0, 0, (.int (65535 : Int32))), (.iand, 1, 0, 0, 0, .null), (.i2l, 1, 0, 0, 0, .null)]), (185, [(.lconst 0, 1, 0, 0, 0, (.long (0 : Int64)))]), (129, [(.lconst 0, 1, 0, 0, 0, (.long (0 : Int64)))]), (47, [(.iconst 0, 1, 0, 0, 0, (.int (0 : Int32))), (.istore_n 3, 1, 0, 0, 0, .null)]), (49, [(.iload_n 3, 1, 0, 0, 0, .null), (.iload_n 2, 1, 0, 0, 0, .null)]), (54, [(.aload_n 0, 1, 0, 0, 0, .null), (.getfield 384, 3, 11, 21, 0, .null), (.bipush 16, 2, 0, 0, 0, (.int (16 : Int32))), (.iadd, 1, 0, 0, 0, .null), (.bipush 12, 2, 0, 0, 0, (.int (12 : Int32))), (.iload_n 3, 1, 0, 0, 0, .null), (.imul, 1, 0, 0, 0, .null), (.iadd, 1, 0, 0, 0, .null), (.istore 4, 2, 0, 0, 0, .null)]), (68, [(.iload_n 1, 1, 0, 0, 0, .null), (.i2l, 1, 0, 0, 0, .null), (.aload_n 0, 1, 0, 0, 0, .null), (.iload 4, 2, 0, 0, 0, .null)]), (76, [(.lcmp, 1, 0, 0, 0, .null)]), (80, [(.iload_n 1, 1, 0, 0, 0, .null), (.i2l, 1, 0, 0, 0, .null), (.aload_n 0, 1, 0, 0, 0, .null), (.iload 4, 2, 0, 0, 0, .null), (.iconst 4, 1, 0, 0, 0, (.int (4 : Int32))), (.iadd, 1, 0, 0, 0, .null)]), (90, [(.lcmp, 1, 0, 0, 0, .null)]), (94, [(.aload_n 0, 1, 0, 0, 0, .null), (.iload 4, 2, 0, 0, 0, .null), (.bipush 8, 2, 0, 0, 0, (.int (8 : Int32))), (.iadd, 1, 0, 0, 0, .null)]), (103, [(.iload_n 1, 1, 0, 0, 0, .null), (.i2l, 1, 0, 0, 0, .null), (.ladd, 1, 0, 0, 0, .null), (.aload_n 0, 1, 0, 0, 0, .null), (.iload 4, 2, 0, 0, 0, .null)]), (112, [(.lsub, 1, 0, 0, 0, .null)]), (114, [(.iinc 3 1, 3, 0, 0, 0, (.int (1 : Int32)))]), (120, [(.lconst 0, 1, 0, 0, 0, (.long (0 : Int64)))]), (7, [(.iload_n 1, 1, 0, 0, 0, .null), (.sipush 256, 3, 0, 0, 0, (.int (256 : Int32)))]), (31, [(.lconst 0, 1, 0, 0, 0, (.long (0 : Int64)))]), (14, [(.aload_n 0, 1, 0, 0, 0, .null), (.aload_n 0, 1, 0, 0, 0, .null), (.getfield 384, 3, 11, 21, 0, .null), (.bipush 6, 2, 0, 0, 0, (.int (6 : Int32))), (.iadd, 1, 0, 0, 0, .null), (.iload_n 1, 1, 0, 0, 0, .null), (.iadd, 1, 0, 0, 0, .null)]), (27, [(.i2l, 1, 0, 0, 0, .null)])], [(145, .invokevirtual 213, 3), (155, .goto (-22), 3), (149, .if_icmp .ge 9, 3), (174, .invokevirtual 213, 3), (203, .invokevirtual 213, 3), (229, .invokevirtual 213, 3), (274, .invokevirtual 213, 3), (288, .invokevirtual 213, 3), (291, .goto 4, 3), (277, .if_icmp .gt 17, 3), (316, .lreturn, 1), (303, .goto 13, 3), (299, .ifCond .ne 7, 3), (248, .lreturn, 1), (236, .ifCond .ne 13, 3), (186, .lreturn, 1), (182, .if_icmp .le 5, 3), (130, .lreturn, 1), (126, .if_icmp .le 5, 3), (73, .invokevirtual 297, 3), (87, .invokevirtual 297, 3), (91, .ifCond .gt 23, 3), (77, .ifCond .lt 37, 3), (100, .invokevirtual 297, 3), (109, .invokevirtual 297, 3), (113, .lreturn, 1), (117, .goto (-68), 3), (51, .if_icmp .ge 69, 3), (121, .lreturn, 1), (44, .if_icmp .ne 78, 3), (32, .lreturn, 1), (24, .invokevirtual 209, 3), (28, .goto 4, 3), (11, .if_icmp .ge 20, 3), (4, .ifCond .ne 29, 3)])
set_option maxRecDepth 100000 in
theorem m_Mo_mapped : hx_mok M_Mo_mapped = true := by decide +kernel
theorem pd_Mo_mapped : (parseMethodDescriptor M_Mo_mapped.2.1.desc).map (fun q => q.parameters.length) = some 1 := by decide +kernel
theorem y_Mo_mapped : hx_okV M_Mo_mapped := ⟨⟨lw_g (lw_at lw_m11 146 rfl) rfl, lw_g (lw_at lw_m11 145 rfl) rfl, qs207, lw_g (lw_at lw_m1 12 rfl) rfl, rfl, by decide, by decide, by decide⟩, rfl, by decide, plainFor_of_name (by decide)⟩
noncomputable def f_Mo_mapped (x1 : Int32) (h : hH) : Option Int64 :=
  if (rdI h 192 22) = 0 then (
    if (256 : Int32) ≤ x1 then (
      some (0 : Int64)
    ) else (
      bP (f_Mo_u1 (((rdI h 192 21) + (6 : Int32)) + x1) h) fun a35 =>
      some (Int32.toInt64 a35)
    )
  ) else (
    lz (A := Int32) (rdI h 192 23) fun v1 =>
    if (rdI h 192 22) = (12 : Int32) then (
      bE (P := Unit) (X := Int64) (
        wh (A := Int32) (B := (Unit ⊕ Int64)) (fun p20 =>
            if v1 ≤ p20 then (
              some (.inr (.inl ()))
            ) else (
              lz (A := Int32) (((rdI h 192 21) + (16 : Int32)) + ((12 : Int32) * p20)) fun v22 =>
              bP (f_Mo_u4 v22 h) fun a23 =>
              cO (
                if (Int32.toInt64 x1) < a23 then (
                  some false
                ) else (
                  bP (f_Mo_u4 (v22 + (4 : Int32)) h) fun a24 =>
                  if a24 < (Int32.toInt64 x1) then (
                    some false
                  ) else (
                    some true
                  )
                )
              ) (
                bP (f_Mo_u4 (v22 + (8 : Int32)) h) fun a30 =>
                bP (f_Mo_u4 v22 h) fun a31 =>
                some (.inr (.inr ((a30 + (Int32.toInt64 x1)) - a31)))
              ) (
                lz (A := Int32) (p20 + (1 : Int32)) fun v32 =>
                some (.inl v32)
              )
            )
        ) (0 : Int32)
      ) fun p21 =>
      some (0 : Int64)
    ) else (
      if x1 ≤ (65535 : Int32) then (
        bP (A := Int32) (
          wh (A := Int32) (B := Int32) (fun p2 =>
              bP (f_Mo_u2 (((rdI h 192 21) + (14 : Int32)) + ((2 : Int32) * p2)) h) fun a4 =>
              if x1 ≤ a4 then (
                some (.inr p2)
              ) else (
                lz (A := Int32) (p2 + (1 : Int32)) fun v5 =>
                some (.inl v5)
              )
          ) (0 : Int32)
        ) fun p3 =>
        bP (f_Mo_u2 ((((rdI h 192 21) + (16 : Int32)) + ((2 : Int32) * v1)) + ((2 : Int32) * p3)) h) fun a7 =>
        if a7 ≤ x1 then (
          bP (f_Mo_u2 ((((rdI h 192 21) + (16 : Int32)) + ((4 : Int32) * v1)) + ((2 : Int32) * p3)) h) fun a8 =>
          lz (A := Int32) (((16 : Int32) + ((6 : Int32) * v1)) + ((2 : Int32) * p3)) fun v9 =>
          bP (f_Mo_u2 ((rdI h 192 21) + v9) h) fun a10 =>
          if a10 = 0 then (
            some (Int32.toInt64 ((x1 + a8) &&& (65535 : Int32)))
          ) else (
            lz (A := Int32) ((v9 + a10) + ((2 : Int32) * (x1 - a7))) fun v11 =>
            bP (f_Mo_u2 ((rdI h 192 21) + (2 : Int32)) h) fun a12 =>
            bP (A := Int32) (
              if a12 < (v11 + (2 : Int32)) then (
                some (0 : Int32)
              ) else (
                bP (f_Mo_u2 ((rdI h 192 21) + v11) h) fun a14 =>
                some a14
              )
            ) fun p13 =>
            if p13 = 0 then (
              some (0 : Int64)
            ) else (
              some (Int32.toInt64 ((p13 + a8) &&& (65535 : Int32)))
            )
          )
        ) else (
          some (0 : Int64)
        )
      ) else (
        some (0 : Int64)
      )
    )
  )
set_option maxRecDepth 20000 in
theorem k_Mo_mapped (x1 : Int32) (h : hH) : hx_kP S0 M_Mo_mapped 4 NT [(.ref 192), (.int x1)] h (f_Mo_mapped x1 h) cvL := by
  have hm := m_Mo_mapped
  show hx_P S0 M_Mo_mapped 4 0 [(0, (.ref 192)), (1, (.int x1))] [] NT h (f_Mo_mapped x1 h) (hx_Rp cvL NT h)
  unfold f_Mo_mapped
  refine hp_if_ne hm (at1 0 rfl) rfl (by exact og_192) (pc' := 4) rfl 34 rfl (tgt := 33) rfl (fun c37 => ?_) (fun c37 => ?_)
  · refine hp_z hm (at1 1 rfl) (fun (v1 : Int32) => [(2, (.int v1)), (0, (.ref 192)), (1, (.int x1))]) (fun (v1 : Int32) => []) rfl (by exact og_192) (pc' := 38) rfl (fun v1 => ?_)
    refine hp_ic_ne hm (at1 2 rfl) rfl (by exact og_192) (pc' := 44) rfl 29 rfl (tgt := 122) rfl (fun c34 => ?_) (fun c34 => ?_)
    · refine hp_ic_le hm (at1 3 rfl) rfl (by exact trivial) (pc' := 126) rfl 18 rfl (tgt := 131) rfl (fun c19 => ?_) (fun c19 => ?_)
      · refine hp_b hm (at1 4 rfl) (L' := [(3, (.int (0 : Int32))), (2, (.int v1)), (0, (.ref 192)), (1, (.int x1))]) (st' := []) rfl (by exact trivial) (pc' := 133) rfl ?_
        refine hp_J 158 (fun (p3 : Int32) => [(0, (.ref 192)), (1, (.int x1)), (2, (.int v1)), (3, (.int p3))]) (fun (p3 : Int32) => []) (fun (p3 : Int32) => h) ?_ (fun p3 => ?_)
        · refine hp_s [2, 3, 1, 0] rfl (L' := [(0, (.ref 192)), (1, (.int x1)), (2, (.int v1)), (3, (.int (0 : Int32)))]) ?_
          refine hp_wh (fun (p2 : Int32) => [(0, (.ref 192)), (1, (.int x1)), (2, (.int v1)), (3, (.int p2))]) [] (fun (p2 : Int32) => h) (fun p2 => ?_) (0 : Int32)
          refine hp_cVP (M2 := M_Mo_u2) hm (at1 5 rfl) (as := [(.int (((rdI h 192 21) + (14 : Int32)) + ((2 : Int32) * p2)))]) (rest := []) (z := 192) rfl (by exact og_192) (pc' := 145) rfl 0 rfl (lw_g (lw_at lw_m9 204 rfl) rfl) y_Mo_u2 rfl (d2 := 2) ⟨le_b rfl, pd_Mo_u2, le_b rfl⟩ (le_b rfl) og_192 (k_Mo_u2 (((rdI h 192 21) + (14 : Int32)) + ((2 : Int32) * p2)) h) (fun a4 => ?_)
          refine hp_ic_ge hm (at1 6 rfl) rfl (by exact trivial) (pc' := 149) rfl 2 rfl (tgt := 158) rfl (fun c6 => ?_) (fun c6 => ?_)
          · exact hp_lf [0, 1, 2, 3] rfl (fun _ e => e)
          · refine hp_z hm (at1 7 rfl) (fun (v5 : Int32) => [(3, (.int v5)), (0, (.ref 192)), (1, (.int x1)), (2, (.int v1))]) (fun (v5 : Int32) => []) rfl (by exact trivial) (pc' := 155) rfl (fun v5 => ?_)
            refine hp_goto hm 1 rfl (tgt := 133) rfl ?_
            exact hp_lf [1, 2, 3, 0] rfl (fun _ e => e)
        · refine hp_cVP (M2 := M_Mo_u2) hm (at1 8 rfl) (as := [(.int ((((rdI h 192 21) + (16 : Int32)) + ((2 : Int32) * v1)) + ((2 : Int32) * p3)))]) (rest := []) (z := 192) rfl (by exact og_192) (pc' := 174) rfl 3 rfl (lw_g (lw_at lw_m9 204 rfl) rfl) y_Mo_u2 rfl (d2 := 2) ⟨le_b rfl, pd_Mo_u2, le_b rfl⟩ (le_b rfl) og_192 (k_Mo_u2 ((((rdI h 192 21) + (16 : Int32)) + ((2 : Int32) * v1)) + ((2 : Int32) * p3)) h) (fun a7 => ?_)
          refine hp_b hm (at1 9 rfl) (L' := [(4, (.int a7)), (0, (.ref 192)), (1, (.int x1)), (2, (.int v1)), (3, (.int p3))]) (st' := [(.int x1), (.int a7)]) rfl (by exact trivial) (pc' := 182) rfl ?_
          refine hp_ic_le hm at0 rfl (by exact trivial) (pc' := 182) rfl 16 rfl (tgt := 187) rfl (fun c18 => ?_) (fun c18 => ?_)
          · refine hp_cVP (M2 := M_Mo_u2) hm (at1 10 rfl) (as := [(.int ((((rdI h 192 21) + (16 : Int32)) + ((4 : Int32) * v1)) + ((2 : Int32) * p3)))]) (rest := []) (z := 192) rfl (by exact og_192) (pc' := 203) rfl 4 rfl (lw_g (lw_at lw_m9 204 rfl) rfl) y_Mo_u2 rfl (d2 := 2) ⟨le_b rfl, pd_Mo_u2, le_b rfl⟩ (le_b rfl) og_192 (k_Mo_u2 ((((rdI h 192 21) + (16 : Int32)) + ((4 : Int32) * v1)) + ((2 : Int32) * p3)) h) (fun a8 => ?_)
            refine hp_z hm (at1 11 rfl) (fun (v9 : Int32) => [(6, (.int v9)), (5, (.int a8)), (4, (.int a7)), (0, (.ref 192)), (1, (.int x1)), (2, (.int v1)), (3, (.int p3))]) (fun (v9 : Int32) => []) rfl (by exact trivial) (pc' := 221) rfl (fun v9 => ?_)
            refine hp_cVP (M2 := M_Mo_u2) hm (at1 12 rfl) (as := [(.int ((rdI h 192 21) + v9))]) (rest := []) (z := 192) rfl (by exact og_192) (pc' := 229) rfl 5 rfl (lw_g (lw_at lw_m9 204 rfl) rfl) y_Mo_u2 rfl (d2 := 2) ⟨le_b rfl, pd_Mo_u2, le_b rfl⟩ (le_b rfl) og_192 (k_Mo_u2 ((rdI h 192 21) + v9) h) (fun a10 => ?_)
            refine hp_b hm (at1 13 rfl) (L' := [(7, (.int a10)), (6, (.int v9)), (5, (.int a8)), (4, (.int a7)), (0, (.ref 192)), (1, (.int x1)), (2, (.int v1)), (3, (.int p3))]) (st' := [(.int a10)]) rfl (by exact trivial) (pc' := 236) rfl ?_
            refine hp_if_ne hm at0 rfl (by exact trivial) (pc' := 236) rfl 14 rfl (tgt := 249) rfl (fun c17 => ?_) (fun c17 => ?_)
            · refine hp_z hm (at1 14 rfl) (fun (v11 : Int32) => [(8, (.int v11)), (7, (.int a10)), (6, (.int v9)), (5, (.int a8)), (4, (.int a7)), (0, (.ref 192)), (1, (.int x1)), (2, (.int v1)), (3, (.int p3))]) (fun (v11 : Int32) => []) rfl (by exact trivial) (pc' := 263) rfl (fun v11 => ?_)
              refine hp_cVP (M2 := M_Mo_u2) hm (at1 15 rfl) (as := [(.int ((rdI h 192 21) + (2 : Int32)))]) (rest := [(.int (v11 + (2 : Int32)))]) (z := 192) rfl (by exact og_192) (pc' := 274) rfl 6 rfl (lw_g (lw_at lw_m9 204 rfl) rfl) y_Mo_u2 rfl (d2 := 2) ⟨le_b rfl, pd_Mo_u2, le_b rfl⟩ (le_b rfl) og_192 (k_Mo_u2 ((rdI h 192 21) + (2 : Int32)) h) (fun a12 => ?_)
              refine hp_J 295 (fun (p13 : Int32) => [(5, (.int a8))]) (fun (p13 : Int32) => [(.int p13)]) (fun (p13 : Int32) => h) ?_ (fun p13 => ?_)
              · refine hp_ic_gt hm at0 rfl (by exact trivial) (pc' := 277) rfl 9 rfl (tgt := 294) rfl (fun c15 => ?_) (fun c15 => ?_)
                · refine hp_b hm (at1 16 rfl) (L' := [(8, (.int v11)), (7, (.int a10)), (6, (.int v9)), (5, (.int a8)), (4, (.int a7)), (0, (.ref 192)), (1, (.int x1)), (2, (.int v1)), (3, (.int p3))]) (st' := [(.int (0 : Int32))]) rfl (by exact trivial) (pc' := 295) rfl ?_
                  exact hp_lf [3] rfl (fun _ e => e)
                · refine hp_cVP (M2 := M_Mo_u2) hm (at1 17 rfl) (as := [(.int ((rdI h 192 21) + v11))]) (rest := []) (z := 192) rfl (by exact og_192) (pc' := 288) rfl 7 rfl (lw_g (lw_at lw_m9 204 rfl) rfl) y_Mo_u2 rfl (d2 := 2) ⟨le_b rfl, pd_Mo_u2, le_b rfl⟩ (le_b rfl) og_192 (k_Mo_u2 ((rdI h 192 21) + v11) h) (fun a14 => ?_)
                  refine hp_goto hm 8 rfl (tgt := 295) rfl ?_
                  exact hp_lf [3] rfl (fun _ e => e)
              · refine hp_b hm (at1 18 rfl) (L' := [(9, (.int p13)), (5, (.int a8))]) (st' := [(.int p13)]) rfl (by exact trivial) (pc' := 299) rfl ?_
                refine hp_if_ne hm at0 rfl (by exact trivial) (pc' := 299) rfl 12 rfl (tgt := 306) rfl (fun c16 => ?_) (fun c16 => ?_)
                · refine hp_b hm (at1 19 rfl) (L' := [(9, (.int p13)), (5, (.int a8))]) (st' := [(.long (Int32.toInt64 ((p13 + a8) &&& (65535 : Int32))))]) rfl (by exact trivial) (pc' := 316) rfl ?_
                  exact hp_lr hm at0 rfl (by exact trivial) (pc' := 316) rfl 10 rfl rfl (fun _ e => e)
                · refine hp_b hm (at1 20 rfl) (L' := [(9, (.int p13)), (5, (.int a8))]) (st' := [(.long (0 : Int64))]) rfl (by exact trivial) (pc' := 303) rfl ?_
                  refine hp_goto hm 11 rfl (tgt := 316) rfl ?_
                  exact hp_lr hm at0 rfl (by exact trivial) (pc' := 316) rfl 10 rfl rfl (fun _ e => e)
            · exact hp_lr hm (at1 21 rfl) rfl (by exact trivial) (pc' := 248) rfl 13 rfl rfl (fun _ e => e)
          · exact hp_lr hm (at1 22 rfl) rfl (by exact trivial) (pc' := 186) rfl 15 rfl rfl (fun _ e => e)
      · exact hp_lr hm (at1 23 rfl) rfl (by exact trivial) (pc' := 130) rfl 17 rfl rfl (fun _ e => e)
    · refine hp_b hm (at1 24 rfl) (L' := [(3, (.int (0 : Int32))), (2, (.int v1)), (0, (.ref 192)), (1, (.int x1))]) (st' := []) rfl (by exact trivial) (pc' := 49) rfl ?_
      refine hp_E 120 (fun (p21 : Unit) => []) (fun (p21 : Unit) => []) (fun (p21 : Unit) => h) ?_ (fun p21 => ?_)
      · refine hp_s [2, 3, 1, 0] rfl (L' := [(0, (.ref 192)), (1, (.int x1)), (2, (.int v1)), (3, (.int (0 : Int32)))]) ?_
        refine hp_wh (fun (p20 : Int32) => [(0, (.ref 192)), (1, (.int x1)), (2, (.int v1)), (3, (.int p20))]) [] (fun (p20 : Int32) => h) (fun p20 => ?_) (0 : Int32)
        refine hp_ic_ge hm (at1 25 rfl) rfl (by exact trivial) (pc' := 51) rfl 27 rfl (tgt := 120) rfl (fun c33 => ?_) (fun c33 => ?_)
        · exact hp_lf [] rfl (fun _ e => e)
        · refine hp_z hm (at1 26 rfl) (fun (v22 : Int32) => [(4, (.int v22)), (0, (.ref 192)), (1, (.int x1)), (2, (.int v1)), (3, (.int p20))]) (fun (v22 : Int32) => []) rfl (by exact og_192) (pc' := 68) rfl (fun v22 => ?_)
          refine hp_cVP (M2 := M_Mo_u4) hm (at1 27 rfl) (as := [(.int v22)]) (rest := [(.long (Int32.toInt64 x1))]) (z := 192) rfl (by exact trivial) (pc' := 73) rfl 19 rfl (lw_g (lw_at lw_m11 18 rfl) rfl) y_Mo_u4 rfl (d2 := 3) ⟨le_b rfl, pd_Mo_u4, le_b rfl⟩ (le_b rfl) og_192 (k_Mo_u4 v22 h) (fun a23 => ?_)
          refine hp_cO (L0 := [(4, (.int v22)), (0, (.ref 192)), (1, (.int x1)), (2, (.int v1)), (3, (.int p20))]) (s0 := []) 94 114 ?_ ?_ ?_
          · refine hp_lc_lt hm (at1 28 rfl) rfl (by exact trivial) (pc' := 77) rfl 22 rfl (tgt := 114) rfl (fun c26 => ?_) (fun c26 => ?_)
            · exact hp_l0 (fun _ e => e)
            · refine hp_cVP (M2 := M_Mo_u4) hm (at1 29 rfl) (as := [(.int (v22 + (4 : Int32)))]) (rest := [(.long (Int32.toInt64 x1))]) (z := 192) rfl (by exact trivial) (pc' := 87) rfl 20 rfl (lw_g (lw_at lw_m11 18 rfl) rfl) y_Mo_u4 rfl (d2 := 3) ⟨le_b rfl, pd_Mo_u4, le_b rfl⟩ (le_b rfl) og_192 (k_Mo_u4 (v22 + (4 : Int32)) h) (fun a24 => ?_)
              refine hp_lc_gt hm (at1 30 rfl) rfl (by exact trivial) (pc' := 91) rfl 21 rfl (tgt := 114) rfl (fun c25 => ?_) (fun c25 => ?_)
              · exact hp_l0 (fun _ e => e)
              · exact hp_l0 (fun _ e => e)
          · refine hp_cVP (M2 := M_Mo_u4) hm (at1 31 rfl) (as := [(.int (v22 + (8 : Int32)))]) (rest := []) (z := 192) rfl (by exact trivial) (pc' := 100) rfl 23 rfl (lw_g (lw_at lw_m11 18 rfl) rfl) y_Mo_u4 rfl (d2 := 3) ⟨le_b rfl, pd_Mo_u4, le_b rfl⟩ (le_b rfl) og_192 (k_Mo_u4 (v22 + (8 : Int32)) h) (fun a30 => ?_)
            refine hp_cVP (M2 := M_Mo_u4) hm (at1 32 rfl) (as := [(.int v22)]) (rest := [(.long (a30 + (Int32.toInt64 x1)))]) (z := 192) rfl (by exact trivial) (pc' := 109) rfl 24 rfl (lw_g (lw_at lw_m11 18 rfl) rfl) y_Mo_u4 rfl (d2 := 3) ⟨le_b rfl, pd_Mo_u4, le_b rfl⟩ (le_b rfl) og_192 (k_Mo_u4 v22 h) (fun a31 => ?_)
            exact hp_lr hm (at1 33 rfl) rfl (by exact trivial) (pc' := 113) rfl 25 rfl rfl (fun _ e => e)
          · refine hp_z hm (at1 34 rfl) (fun (v32 : Int32) => [(3, (.int v32)), (4, (.int v22)), (0, (.ref 192)), (1, (.int x1)), (2, (.int v1))]) (fun (v32 : Int32) => []) rfl (by exact trivial) (pc' := 117) rfl (fun v32 => ?_)
            refine hp_goto hm 26 rfl (tgt := 49) rfl ?_
            exact hp_lf [2, 3, 4, 0] rfl (fun _ e => e)
      · exact hp_lr hm (at1 35 rfl) rfl (by exact trivial) (pc' := 121) rfl 28 rfl rfl (fun _ e => e)
  · refine hp_ic_ge hm (at1 36 rfl) rfl (by exact trivial) (pc' := 11) rfl 33 rfl (tgt := 31) rfl (fun c36 => ?_) (fun c36 => ?_)
    · refine hp_b hm (at1 37 rfl) (L' := [(0, (.ref 192)), (1, (.int x1))]) (st' := [(.long (0 : Int64))]) rfl (by exact trivial) (pc' := 32) rfl ?_
      exact hp_lr hm at0 rfl (by exact trivial) (pc' := 32) rfl 30 rfl rfl (fun _ e => e)
    · refine hp_cVP (M2 := M_Mo_u1) hm (at1 38 rfl) (as := [(.int (((rdI h 192 21) + (6 : Int32)) + x1))]) (rest := []) (z := 192) rfl (by exact og_192) (pc' := 24) rfl 31 rfl (lw_g (lw_at lw_m9 208 rfl) rfl) y_Mo_u1 rfl (d2 := 1) ⟨le_b rfl, pd_Mo_u1, le_b rfl⟩ (le_b rfl) og_192 (k_Mo_u1 (((rdI h 192 21) + (6 : Int32)) + x1) h) (fun a35 => ?_)
      refine hp_b hm (at1 39 rfl) (L' := [(0, (.ref 192)), (1, (.int x1))]) (st' := [(.long (Int32.toInt64 a35))]) rfl (by exact trivial) (pc' := 28) rfl ?_
      refine hp_goto hm 32 rfl (tgt := 32) rfl ?_
      exact hp_lr hm at0 rfl (by exact trivial) (pc' := 32) rfl 30 rfl rfl (fun _ e => e)
/-! HintHouseModel.glyphAt(I)I -/
def M_Mo_glyphAt : hM := (11, ⟨"HintHouseModel", "glyphAt", "(I)I"⟩, prog_13_method_121_code, 4, (Option.some Jvm.ClassFile.FieldType.int), [], [(0, [(.aload_n 0, 1, 0, 0, 0, .null), (.iload_n 1, 1, 0, 0, 0, .null)]), (5, [(.lstore_n 2, 1, 0, 0, 0, .null), (.lload_n 2, 1, 0, 0, 0, .null), (.aload_n 0, 1, 0, 0, 0, .null), (.getfield 260, 3, 11, 12, 0, .null), (.i2l, 1, 0, 0, 0, .null), (.lcmp, 1, 0, 0, 0, .null)]), (21, [(.iconst 0, 1, 0, 0, 0, (.int (0 : Int32)))]), (16, [(.lload_n 2, 1, 0, 0, 0, .null), (.l2i, 1, 0, 0, 0, .null)])], [(2, .invokevirtual 899, 3), (22, .ireturn, 1), (18, .goto 4, 3), (13, .ifCond .ge 8, 3)])
set_option maxRecDepth 100000 in
theorem m_Mo_glyphAt : hx_mok M_Mo_glyphAt = true := by decide +kernel
theorem pd_Mo_glyphAt : (parseMethodDescriptor M_Mo_glyphAt.2.1.desc).map (fun q => q.parameters.length) = some 1 := by decide +kernel
theorem y_Mo_glyphAt : hx_okV M_Mo_glyphAt := ⟨⟨lw_g (lw_at lw_m11 142 rfl) rfl, lw_g (lw_at lw_m11 141 rfl) rfl, qs206, lw_g (lw_at lw_m1 12 rfl) rfl, rfl, by decide, by decide, by decide⟩, rfl, by decide, plainFor_of_name (by decide)⟩
noncomputable def f_Mo_glyphAt (x1 : Int32) (h : hH) : Option Int32 :=
  bP (f_Mo_mapped x1 h) fun a1 =>
  if (Int32.toInt64 (rdI h 192 12)) ≤ a1 then (
    some (0 : Int32)
  ) else (
    some (Int64.toInt32 a1)
  )
set_option maxRecDepth 20000 in
theorem k_Mo_glyphAt (x1 : Int32) (h : hH) : hx_kP S0 M_Mo_glyphAt 5 NT [(.ref 192), (.int x1)] h (f_Mo_glyphAt x1 h) cvI := by
  have hm := m_Mo_glyphAt
  show hx_P S0 M_Mo_glyphAt 5 0 [(0, (.ref 192)), (1, (.int x1))] [] NT h (f_Mo_glyphAt x1 h) (hx_Rp cvI NT h)
  unfold f_Mo_glyphAt
  refine hp_cVP (M2 := M_Mo_mapped) hm (at1 0 rfl) (as := [(.int x1)]) (rest := []) (z := 192) rfl (by exact trivial) (pc' := 2) rfl 0 rfl (lw_g (lw_at lw_m11 143 rfl) rfl) y_Mo_mapped rfl (d2 := 4) ⟨le_b rfl, pd_Mo_mapped, le_b rfl⟩ (le_b rfl) og_192 (k_Mo_mapped x1 h) (fun a1 => ?_)
  refine hp_b hm (at1 1 rfl) (L' := [(2, (.long a1)), (0, (.ref 192)), (1, (.int x1))]) (st' := [(.int (lg_cmp a1 (Int32.toInt64 (rdI h 192 12))))]) rfl (by exact og_192) (pc' := 13) rfl ?_
  refine hp_lc_ge hm at0 rfl (by exact trivial) (pc' := 13) rfl 3 rfl (tgt := 21) rfl (fun c2 => ?_) (fun c2 => ?_)
  · refine hp_b hm (at1 2 rfl) (L' := [(2, (.long a1)), (0, (.ref 192)), (1, (.int x1))]) (st' := [(.int (0 : Int32))]) rfl (by exact trivial) (pc' := 22) rfl ?_
    exact hp_ir hm at0 rfl (by exact trivial) (pc' := 22) rfl 1 rfl rfl (vp_nar_int _) (fun _ e => e)
  · refine hp_b hm (at1 3 rfl) (L' := [(2, (.long a1)), (0, (.ref 192)), (1, (.int x1))]) (st' := [(.int (Int64.toInt32 a1))]) rfl (by exact trivial) (pc' := 18) rfl ?_
    refine hp_goto hm 2 rfl (tgt := 22) rfl ?_
    exact hp_ir hm at0 rfl (by exact trivial) (pc' := 22) rfl 1 rfl rfl (vp_nar_int _) (fun _ e => e)
/-! HintHouseModel.kernOf(II)I -/
def M_Mo_kernOf : hM := (11, ⟨"HintHouseModel", "kernOf", "(II)I"⟩, prog_13_method_35_code, 6, (Option.some Jvm.ClassFile.FieldType.int), [], [(0, [(.aload_n 0, 1, 0, 0, 0, .null), (.ldc_w 408, 3, 0, 0, 0, (.int (1801810542 : Int32)))]), (7, [(.istore_n 3, 1, 0, 0, 0, .null), (.iconst 0, 1, 0, 0, 0, (.int (0 : Int32))), (.istore 4, 2, 0, 0, 0, .null)]), (11, [(.iload 4, 2, 0, 0, 0, .null), (.aload_n 0, 1, 0, 0, 0, .null), (.getfield 405, 3, 11, 24, 0, .null)]), (20, [(.iload_n 3, 1, 0, 0, 0, .null), (.bipush 18, 2, 0, 0, 0, (.int (18 : Int32))), (.iadd, 1, 0, 0, 0, .null), (.bipush 6, 2, 0, 0, 0, (.int (6 : Int32))), (.iload 4, 2, 0, 0, 0, .null), (.imul, 1, 0, 0, 0, .null), (.iadd, 1, 0, 0, 0, .null), (.istore 5, 2, 0, 0, 0, .null)]), (32, [(.aload_n 0, 1, 0, 0, 0, .null), (.iload 5, 2, 0, 0, 0, .null)]), (38, [(.iload_n 1, 1, 0, 0, 0, .null)]), (42, [(.aload_n 0, 1, 0, 0, 0, .null), (.iload 5, 2, 0, 0, 0, .null), (.iconst 2, 1, 0, 0, 0, (.int (2 : Int32))), (.iadd, 1, 0, 0, 0, .null)]), (50, [(.iload_n 2, 1, 0, 0, 0, .null)]), (54, [(.aload_n 0, 1, 0, 0, 0, .null), (.iload 5, 2, 0, 0, 0, .null), (.iconst 4, 1, 0, 0, 0, (.int (4 : Int32))), (.iadd, 1, 0, 0, 0, .null)]), (63, [(.iinc 4 1, 3, 0, 0, 0, (.int (1 : Int32)))]), (69, [(.iconst 0, 1, 0, 0, 0, (.int (0 : Int32)))])], [(4, .invokevirtual 251, 3), (35, .invokevirtual 213, 3), (47, .invokevirtual 213, 3), (51, .if_icmp .ne 12, 3), (39, .if_icmp .ne 24, 3), (59, .invokevirtual 305, 3), (62, .ireturn, 1), (66, .goto (-55), 3), (17, .if_icmp .ge 52, 3), (70, .ireturn, 1)])
set_option maxRecDepth 100000 in
theorem m_Mo_kernOf : hx_mok M_Mo_kernOf = true := by decide +kernel
theorem pd_Mo_kernOf : (parseMethodDescriptor M_Mo_kernOf.2.1.desc).map (fun q => q.parameters.length) = some 2 := by decide +kernel
theorem y_Mo_kernOf : hx_okV M_Mo_kernOf := ⟨⟨lw_g (lw_at lw_m11 151 rfl) rfl, lw_g (lw_at lw_m11 150 rfl) rfl, qs208, lw_g (lw_at lw_m1 12 rfl) rfl, rfl, by decide, by decide, by decide⟩, rfl, by decide, plainFor_of_name (by decide)⟩
noncomputable def f_Mo_kernOf (x1 : Int32) (x2 : Int32) (h : hH) : Option Int32 :=
  bP (f_Mo_beginOf (1801810542 : Int32) h) fun a1 =>
  bE (P := Unit) (X := Int32) (
    wh (A := Int32) (B := (Unit ⊕ Int32)) (fun p2 =>
        if (rdI h 192 24) ≤ p2 then (
          some (.inr (.inl ()))
        ) else (
          lz (A := Int32) ((a1 + (18 : Int32)) + ((6 : Int32) * p2)) fun v4 =>
          bP (f_Mo_u2 v4 h) fun a5 =>
          cO (
            if a5 = x1 then (
              bP (f_Mo_u2 (v4 + (2 : Int32)) h) fun a6 =>
              if a6 = x2 then (
                some true
              ) else (
                some false
              )
            ) else (
              some false
            )
          ) (
            bP (f_Mo_s2 (v4 + (4 : Int32)) h) fun a12 =>
            some (.inr (.inr a12))
          ) (
            lz (A := Int32) (p2 + (1 : Int32)) fun v13 =>
            some (.inl v13)
          )
        )
    ) (0 : Int32)
  ) fun p3 =>
  some (0 : Int32)
set_option maxRecDepth 20000 in
theorem k_Mo_kernOf (x1 : Int32) (x2 : Int32) (h : hH) : hx_kP S0 M_Mo_kernOf 4 NT [(.ref 192), (.int x1), (.int x2)] h (f_Mo_kernOf x1 x2 h) cvI := by
  have hm := m_Mo_kernOf
  show hx_P S0 M_Mo_kernOf 4 0 [(0, (.ref 192)), (1, (.int x1)), (2, (.int x2))] [] NT h (f_Mo_kernOf x1 x2 h) (hx_Rp cvI NT h)
  unfold f_Mo_kernOf
  refine hp_cVP (M2 := M_Mo_beginOf) hm (at1 0 rfl) (as := [(.int (1801810542 : Int32))]) (rest := []) (z := 192) rfl (by exact trivial) (pc' := 4) rfl 0 rfl (lw_g (lw_at lw_m9 192 rfl) rfl) y_Mo_beginOf rfl (d2 := 2) ⟨le_b rfl, pd_Mo_beginOf, le_b rfl⟩ (le_b rfl) og_192 (k_Mo_beginOf (1801810542 : Int32) h) (fun a1 => ?_)
  refine hp_b hm (at1 1 rfl) (L' := [(4, (.int (0 : Int32))), (3, (.int a1)), (0, (.ref 192)), (1, (.int x1)), (2, (.int x2))]) (st' := []) rfl (by exact trivial) (pc' := 11) rfl ?_
  refine hp_E 69 (fun (p3 : Unit) => []) (fun (p3 : Unit) => []) (fun (p3 : Unit) => h) ?_ (fun p3 => ?_)
  · refine hp_s [2, 3, 4, 1, 0] rfl (L' := [(0, (.ref 192)), (1, (.int x1)), (2, (.int x2)), (3, (.int a1)), (4, (.int (0 : Int32)))]) ?_
    refine hp_wh (fun (p2 : Int32) => [(0, (.ref 192)), (1, (.int x1)), (2, (.int x2)), (3, (.int a1)), (4, (.int p2))]) [] (fun (p2 : Int32) => h) (fun p2 => ?_) (0 : Int32)
    refine hp_ic_ge hm (at1 2 rfl) rfl (by exact og_192) (pc' := 17) rfl 8 rfl (tgt := 69) rfl (fun c14 => ?_) (fun c14 => ?_)
    · exact hp_lf [] rfl (fun _ e => e)
    · refine hp_z hm (at1 3 rfl) (fun (v4 : Int32) => [(5, (.int v4)), (0, (.ref 192)), (1, (.int x1)), (2, (.int x2)), (3, (.int a1)), (4, (.int p2))]) (fun (v4 : Int32) => []) rfl (by exact trivial) (pc' := 32) rfl (fun v4 => ?_)
      refine hp_cVP (M2 := M_Mo_u2) hm (at1 4 rfl) (as := [(.int v4)]) (rest := []) (z := 192) rfl (by exact trivial) (pc' := 35) rfl 1 rfl (lw_g (lw_at lw_m9 204 rfl) rfl) y_Mo_u2 rfl (d2 := 2) ⟨le_b rfl, pd_Mo_u2, le_b rfl⟩ (le_b rfl) og_192 (k_Mo_u2 v4 h) (fun a5 => ?_)
      refine hp_cO (L0 := [(5, (.int v4)), (0, (.ref 192)), (1, (.int x1)), (2, (.int x2)), (3, (.int a1)), (4, (.int p2))]) (s0 := []) 54 63 ?_ ?_ ?_
      · refine hp_ic_ne hm (at1 5 rfl) rfl (by exact trivial) (pc' := 39) rfl 4 rfl (tgt := 63) rfl (fun c8 => ?_) (fun c8 => ?_)
        · exact hp_l0 (fun _ e => e)
        · refine hp_cVP (M2 := M_Mo_u2) hm (at1 6 rfl) (as := [(.int (v4 + (2 : Int32)))]) (rest := []) (z := 192) rfl (by exact trivial) (pc' := 47) rfl 2 rfl (lw_g (lw_at lw_m9 204 rfl) rfl) y_Mo_u2 rfl (d2 := 2) ⟨le_b rfl, pd_Mo_u2, le_b rfl⟩ (le_b rfl) og_192 (k_Mo_u2 (v4 + (2 : Int32)) h) (fun a6 => ?_)
          refine hp_ic_ne hm (at1 7 rfl) rfl (by exact trivial) (pc' := 51) rfl 3 rfl (tgt := 63) rfl (fun c7 => ?_) (fun c7 => ?_)
          · exact hp_l0 (fun _ e => e)
          · exact hp_l0 (fun _ e => e)
      · refine hp_cVP (M2 := M_Mo_s2) hm (at1 8 rfl) (as := [(.int (v4 + (4 : Int32)))]) (rest := []) (z := 192) rfl (by exact trivial) (pc' := 59) rfl 5 rfl (lw_g (lw_at lw_m9 200 rfl) rfl) y_Mo_s2 rfl (d2 := 3) ⟨le_b rfl, pd_Mo_s2, le_b rfl⟩ (le_b rfl) og_192 (k_Mo_s2 (v4 + (4 : Int32)) h) (fun a12 => ?_)
        exact hp_ir hm at0 rfl (by exact trivial) (pc' := 62) rfl 6 rfl rfl (vp_nar_int _) (fun _ e => e)
      · refine hp_z hm (at1 9 rfl) (fun (v13 : Int32) => [(4, (.int v13)), (5, (.int v4)), (0, (.ref 192)), (1, (.int x1)), (2, (.int x2)), (3, (.int a1))]) (fun (v13 : Int32) => []) rfl (by exact trivial) (pc' := 66) rfl (fun v13 => ?_)
        refine hp_goto hm 7 rfl (tgt := 11) rfl ?_
        exact hp_lf [2, 3, 4, 5, 0] rfl (fun _ e => e)
  · exact hp_ir hm (at1 10 rfl) rfl (by exact trivial) (pc' := 70) rfl 9 rfl rfl (vp_nar_int _) (fun _ e => e)
/-! HintHouseModel.line(II)I -/
def M_Mo_line : hM := (11, ⟨"HintHouseModel", "line", "(II)I"⟩, prog_13_method_122_code, 10, (Option.some Jvm.ClassFile.FieldType.int), [], [(0, [(.aload_n 0, 1, 0, 0, 0, .null), (.getfield 759, 3, 11, 4, 1, .null)]), (21, [(.bipush (-3), 2, 0, 0, 0, (.int (-3 : Int32)))]), (7, [(.aload_n 0, 1, 0, 0, 0, .null), (.getfield 767, 3, 11, 107, 1, .null)]), (14, [(.aload_n 0, 1, 0, 0, 0, .null), (.getfield 881, 3, 11, 141, 0, .null)]), (24, [(.iload_n 1, 1, 0, 0, 0, .null), (.i2l, 1, 0, 0, 0, .null), (.ldc2_w 887, 3, 0, 0, 0, (.long (-20000 : Int64))), (.ldc2_w 889, 3, 0, 0, 0, (.long (20000 : Int64)))]), (52, [(.bipush (-2), 2, 0, 0, 0, (.int (-2 : Int32)))]), (38, [(.iload_n 2, 1, 0, 0, 0, .null), (.i2l, 1, 0, 0, 0, .null), (.ldc2_w 887, 3, 0, 0, 0, (.long (-20000 : Int64))), (.ldc2_w 889, 3, 0, 0, 0, (.long (20000 : Int64)))]), (55, [(.aload_n 0, 1, 0, 0, 0, .null), (.getfield 896, 3, 11, 144, 0, .null), (.istore_n 3, 1, 0, 0, 0, .null)]), (60, [(.aload_n 0, 1, 0, 0, 0, .null), (.iconst 0, 1, 0, 0, 0, (.int (0 : Int32))), (.putfield 896, 3, 11, 144, 0, .null)]), (65, [(.iload_n 1, 1, 0, 0, 0, .null), (.istore 4, 2, 0, 0, 0, .null), (.iconst (-1), 1, 0, 0, 0, (.int (-1 : Int32))), (.istore 5, 2, 0, 0, 0, .null), (.iconst 0, 1, 0, 0, 0, (.int (0 : Int32))), (.istore 6, 2, 0, 0, 0, .null)]), (74, [(.iload 6, 2, 0, 0, 0, .null), (.iload_n 3, 1, 0, 0, 0, .null)]), (80, [(.aload_n 0, 1, 0, 0, 0, .null), (.aload_n 0, 1, 0, 0, 0, .null), (.getfield 191, 3, 11, 145, 4, .null), (.iload 6, 2, 0, 0, 0, .null), (.iaload, 1, 0, 0, 0, .null)]), (91, [(.istore 7, 2, 0, 0, 0, .null), (.iload 4, 2, 0, 0, 0, .null), (.iload 5, 2, 0, 0, 0, .null), (.iconst (-1), 1, 0, 0, 0, (.int (-1 : Int32)))]), (105, [(.aload_n 0, 1, 0, 0, 0, .null), (.aload_n 0, 1, 0, 0, 0, .null), (.iload 5, 2, 0, 0, 0, .null), (.iload 7, 2, 0, 0, 0, .null)]), (114, [(.i2l, 1, 0, 0, 0, .null)]), (101, [(.iconst 0, 1, 0, 0, 0, (.int (0 : Int32)))]), (118, [(.iadd, 1, 0, 0, 0, .null), (.istore 4, 2, 0, 0, 0, .null)]), (121, [(.aload_n 0, 1, 0, 0, 0, .null), (.iload 7, 2, 0, 0, 0, .null)]), (127, [(.istore 8, 2, 0, 0, 0, .null), (.iload 8, 2, 0, 0, 0, .null)]), (141, [(.iload 4, 2, 0, 0, 0, .null), (.i2l, 1, 0, 0, 0, .null), (.ldc2_w 887, 3, 0, 0, 0, (.long (-20000 : Int64))), (.ldc2_w 889, 3, 0, 0, 0, (.long (20000 : Int64)))]), (160, [(.aload_n 0, 1, 0, 0, 0, .null), (.iload 4, 2, 0, 0, 0, .null), (.iload_n 2, 1, 0, 0, 0, .null)]), (167, [(.istore 9, 2, 0, 0, 0, .null), (.iload 4, 2, 0, 0, 0, .null), (.aload_n 0, 1, 0, 0, 0, .null), (.getfield 829, 3, 11, 134, 0, .null), (.iadd, 1, 0, 0, 0, .null), (.istore 4, 2, 0, 0, 0, .null)]), (178, [(.iload 7, 2, 0, 0, 0, .null), (.istore 5, 2, 0, 0, 0, .null), (.iinc 6 1, 3, 0, 0, 0, (.int (1 : Int32)))]), (156, [(.ldc_w 909, 3, 0, 0, 0, (.int (-1000200 : Int32)))]), (134, [(.ldc_w 908, 3, 0, 0, 0, (.int (-1000000 : Int32))), (.iload 8, 2, 0, 0, 0, .null), (.iadd, 1, 0, 0, 0, .null)]), (188, [(.iload 4, 2, 0, 0, 0, .null)])], [(23, .ireturn, 1), (32, .invokestatic 263, 3), (54, .ireturn, 1), (46, .invokestatic 263, 3), (88, .invokevirtual 902, 3), (111, .invokevirtual 905, 3), (115, .invokevirtual 611, 3), (102, .goto 16, 3), (98, .if_icmp .ne 7, 3), (124, .invokevirtual 832, 3), (150, .invokestatic 263, 3), (164, .invokevirtual 891, 3), (185, .goto (-111), 3), (159, .ireturn, 1), (153, .ifCond .ne 7, 3), (140, .ireturn, 1), (131, .ifCond .ge 10, 3), (77, .if_icmp .ge 111, 3), (190, .ireturn, 1), (49, .ifCond .ne 6, 3), (35, .ifCond .eq 17, 3), (18, .ifCond .ne 6, 3), (11, .ifCond .eq 10, 3), (4, .ifCond .eq 17, 3)])
set_option maxRecDepth 100000 in
theorem m_Mo_line : hx_mok M_Mo_line = true := by decide +kernel
theorem pd_Mo_line : (parseMethodDescriptor M_Mo_line.2.1.desc).map (fun q => q.parameters.length) = some 2 := by decide +kernel
theorem y_Mo_line : hx_okV M_Mo_line := ⟨⟨lw_g (lw_at lw_m11 138 rfl) rfl, lw_g (lw_at lw_m11 136 rfl) rfl, lw_g (lw_at lw_m11 137 rfl) rfl, lw_g (lw_at lw_m1 12 rfl) rfl, rfl, by decide, by decide, by decide⟩, rfl, by decide, plainFor_of_name (by decide)⟩
noncomputable def f_Mo_line (x1 : Int32) (x2 : Int32) (h : hH) : Option (Int32 × hH) :=
  if (rdI h 192 4) = 0 then (
    some ((-3 : Int32), h)
  ) else (
    if (rdI h 192 107) = 0 then (
      some ((-3 : Int32), h)
    ) else (
      if (rdI h 192 141) = 0 then (
        some ((-3 : Int32), h)
      ) else (
        bP (f_Mo_in (Int32.toInt64 x1) (-20000 : Int64) (20000 : Int64)) fun a1 =>
        if a1 = 0 then (
          some ((-2 : Int32), h)
        ) else (
          bP (f_Mo_in (Int32.toInt64 x2) (-20000 : Int64) (20000 : Int64)) fun a2 =>
          if a2 = 0 then (
            some ((-2 : Int32), h)
          ) else (
            lz (A := Int32) (rdI h 192 144) fun v3 =>
            lz (wrI h 192 144 (0 : Int32)) fun h1 =>
            bE (P := (Int32 × hH)) (X := (Int32 × hH)) (
              wh (A := (Int32 × Int32 × Int32 × hH)) (B := ((Int32 × hH) ⊕ (Int32 × hH))) (fun p4 =>
                  if v3 ≤ p4.2.2.1 then (
                    some (.inr (.inl (p4.1, p4.2.2.2)))
                  ) else (
                    gd (vp_in p4.2.2.1 100) <|
                    bP (f_Mo_glyphAt (rdI p4.2.2.2 251 (Int32.toNatClampNeg p4.2.2.1)) p4.2.2.2) fun a7 =>
                    bP (A := Int32) (
                      if p4.2.1 = (-1 : Int32) then (
                        some (0 : Int32)
                      ) else (
                        bP (f_Mo_kernOf p4.2.1 a7 p4.2.2.2) fun a9 =>
                        bP (f_Mo_scaled (Int32.toInt64 a9) p4.2.2.2) fun a10 =>
                        some a10
                      )
                    ) fun p8 =>
                    lz (A := Int32) (p4.1 + p8) fun v12 =>
                    bS (f_Mo_makeIt a7 p4.2.2.2) fun a13 h2 =>
                    if 0 ≤ a13 then (
                      bP (f_Mo_in (Int32.toInt64 v12) (-20000 : Int64) (20000 : Int64)) fun a14 =>
                      if a14 = 0 then (
                        some (.inr (.inr ((-1000200 : Int32), h2)))
                      ) else (
                        bS (f_Mo_drawIt v12 x2 h2) fun a15 h3 =>
                        lz (A := Int32) (v12 + (rdI h3 192 134)) fun v16 =>
                        lz (A := Int32) (p4.2.2.1 + (1 : Int32)) fun v17 =>
                        some (.inl (v16, a7, v17, h3))
                      )
                    ) else (
                      some (.inr (.inr (((-1000000 : Int32) + a13), h2)))
                    )
                  )
              ) (x1, (-1 : Int32), (0 : Int32), h1)
            ) fun p5 =>
            some (p5.1, p5.2)
          )
        )
      )
    )
  )
set_option maxRecDepth 20000 in
theorem k_Mo_line (x1 : Int32) (x2 : Int32) (h : hH) : hx_kS S0 M_Mo_line 27 NT [(.ref 192), (.int x1), (.int x2)] h (f_Mo_line x1 x2 h) cvI := by
  have hm := m_Mo_line
  show hx_P S0 M_Mo_line 27 0 [(0, (.ref 192)), (1, (.int x1)), (2, (.int x2))] [] NT h (f_Mo_line x1 x2 h) (hx_Rc cvI NT)
  unfold f_Mo_line
  refine hp_if_eq hm (at1 0 rfl) rfl (by exact og_192) (pc' := 4) rfl 23 rfl (tgt := 21) rfl (fun c25 => ?_) (fun c25 => ?_)
  · exact hp_ir hm (at1 1 rfl) rfl (by exact trivial) (pc' := 23) rfl 0 rfl rfl (vp_nar_int _) (fun _ e => e)
  · refine hp_if_eq hm (at1 2 rfl) rfl (by exact og_192) (pc' := 11) rfl 22 rfl (tgt := 21) rfl (fun c24 => ?_) (fun c24 => ?_)
    · exact hp_ir hm (at1 1 rfl) rfl (by exact trivial) (pc' := 23) rfl 0 rfl rfl (vp_nar_int _) (fun _ e => e)
    · refine hp_if_ne hm (at1 3 rfl) rfl (by exact og_192) (pc' := 18) rfl 21 rfl (tgt := 24) rfl (fun c23 => ?_) (fun c23 => ?_)
      · refine hp_cSP (M2 := M_Mo_in) hm (at1 4 rfl) (as := [(.long (Int32.toInt64 x1)), (.long (-20000 : Int64)), (.long (20000 : Int64))]) (rest := []) rfl (by exact trivial) (pc' := 32) rfl 1 rfl (lw_g (lw_at lw_m9 184 rfl) rfl) y_Mo_in rfl (d2 := 1) ⟨le_b rfl, pd_Mo_in, le_b rfl⟩ (le_b rfl) (k_Mo_in (Int32.toInt64 x1) (-20000 : Int64) (20000 : Int64) h) (fun a1 => ?_)
        refine hp_if_eq hm at0 rfl (by exact trivial) (pc' := 35) rfl 20 rfl (tgt := 52) rfl (fun c22 => ?_) (fun c22 => ?_)
        · exact hp_ir hm (at1 5 rfl) rfl (by exact trivial) (pc' := 54) rfl 2 rfl rfl (vp_nar_int _) (fun _ e => e)
        · refine hp_cSP (M2 := M_Mo_in) hm (at1 6 rfl) (as := [(.long (Int32.toInt64 x2)), (.long (-20000 : Int64)), (.long (20000 : Int64))]) (rest := []) rfl (by exact trivial) (pc' := 46) rfl 3 rfl (lw_g (lw_at lw_m9 184 rfl) rfl) y_Mo_in rfl (d2 := 1) ⟨le_b rfl, pd_Mo_in, le_b rfl⟩ (le_b rfl) (k_Mo_in (Int32.toInt64 x2) (-20000 : Int64) (20000 : Int64) h) (fun a2 => ?_)
          refine hp_if_ne hm at0 rfl (by exact trivial) (pc' := 49) rfl 19 rfl (tgt := 55) rfl (fun c21 => ?_) (fun c21 => ?_)
          · refine hp_z hm (at1 7 rfl) (fun (v3 : Int32) => [(3, (.int v3)), (0, (.ref 192)), (1, (.int x1)), (2, (.int x2))]) (fun (v3 : Int32) => []) rfl (by exact og_192) (pc' := 60) rfl (fun v3 => ?_)
            refine hp_w hm (at1 8 rfl) (L' := [(3, (.int v3)), (0, (.ref 192)), (1, (.int x1)), (2, (.int x2))]) rfl (by exact og_192) (pc' := 65) rfl (fun h1 => ?_)
            refine hp_b hm (at1 9 rfl) (L' := [(6, (.int (0 : Int32))), (5, (.int (-1 : Int32))), (4, (.int x1)), (3, (.int v3)), (0, (.ref 192)), (1, (.int x1)), (2, (.int x2))]) (st' := []) rfl (by exact trivial) (pc' := 74) rfl ?_
            refine hp_E 188 (fun (p5 : (Int32 × hH)) => [(4, (.int p5.1))]) (fun (p5 : (Int32 × hH)) => []) (fun (p5 : (Int32 × hH)) => p5.2) ?_ (fun p5 => ?_)
            · refine hp_s [4, 6, 3, 2, 1, 0] rfl (L' := [(0, (.ref 192)), (2, (.int x2)), (3, (.int v3)), (4, (.int x1)), (5, (.int (-1 : Int32))), (6, (.int (0 : Int32)))]) ?_
              refine hp_wh (fun (p4 : (Int32 × Int32 × Int32 × hH)) => [(0, (.ref 192)), (2, (.int x2)), (3, (.int v3)), (4, (.int p4.1)), (5, (.int p4.2.1)), (6, (.int p4.2.2.1))]) [] (fun (p4 : (Int32 × Int32 × Int32 × hH)) => p4.2.2.2) (fun p4 => ?_) (x1, (-1 : Int32), (0 : Int32), h1)
              refine hp_ic_ge hm (at1 10 rfl) rfl (by exact trivial) (pc' := 77) rfl 17 rfl (tgt := 188) rfl (fun c20 => ?_) (fun c20 => ?_)
              · exact hp_lf [3] rfl (fun _ e => e)
              · refine hp_G hm (at1 11 rfl) (L' := [(0, (.ref 192)), (2, (.int x2)), (3, (.int v3)), (4, (.int p4.1)), (5, (.int p4.2.1)), (6, (.int p4.2.2.1))]) (st' := [(.int (rdI p4.2.2.2 251 (Int32.toNatClampNeg p4.2.2.1))), (.ref 192)]) rfl (fun hP => (by exact ⟨og_192, ⟨og_251, hP⟩⟩)) (pc' := 88) rfl (fun q6 => ?_)
                refine hp_cVP (M2 := M_Mo_glyphAt) hm at0 (as := [(.int (rdI p4.2.2.2 251 (Int32.toNatClampNeg p4.2.2.1)))]) (rest := []) (z := 192) rfl (by exact trivial) (pc' := 88) rfl 4 rfl (lw_g (lw_at lw_m11 139 rfl) rfl) y_Mo_glyphAt rfl (d2 := 5) ⟨le_b rfl, pd_Mo_glyphAt, le_b rfl⟩ (le_b rfl) og_192 (k_Mo_glyphAt (rdI p4.2.2.2 251 (Int32.toNatClampNeg p4.2.2.1)) p4.2.2.2) (fun a7 => ?_)
                refine hp_b hm (at1 12 rfl) (L' := [(7, (.int a7)), (0, (.ref 192)), (2, (.int x2)), (3, (.int v3)), (4, (.int p4.1)), (5, (.int p4.2.1)), (6, (.int p4.2.2.1))]) (st' := [(.int (-1 : Int32)), (.int p4.2.1), (.int p4.1)]) rfl (by exact trivial) (pc' := 98) rfl ?_
                refine hp_J 118 (fun (p8 : Int32) => [(0, (.ref 192)), (2, (.int x2)), (3, (.int v3)), (6, (.int p4.2.2.1)), (7, (.int a7))]) (fun (p8 : Int32) => [(.int p8), (.int p4.1)]) (fun (p8 : Int32) => p4.2.2.2) ?_ (fun p8 => ?_)
                · refine hp_ic_ne hm at0 rfl (by exact trivial) (pc' := 98) rfl 8 rfl (tgt := 105) rfl (fun c11 => ?_) (fun c11 => ?_)
                  · refine hp_cVP (M2 := M_Mo_kernOf) hm (at1 13 rfl) (as := [(.int p4.2.1), (.int a7)]) (rest := [(.ref 192), (.int p4.1)]) (z := 192) rfl (by exact trivial) (pc' := 111) rfl 5 rfl (lw_g (lw_at lw_m11 148 rfl) rfl) y_Mo_kernOf rfl (d2 := 4) ⟨le_b rfl, pd_Mo_kernOf, le_b rfl⟩ (le_b rfl) og_192 (k_Mo_kernOf p4.2.1 a7 p4.2.2.2) (fun a9 => ?_)
                    refine hp_cVP (M2 := M_Mo_scaled) hm (at1 14 rfl) (as := [(.long (Int32.toInt64 a9))]) (rest := [(.int p4.1)]) (z := 192) rfl (by exact trivial) (pc' := 115) rfl 6 rfl (lw_g (lw_at lw_m9 212 rfl) rfl) y_Mo_scaled rfl (d2 := 4) ⟨le_b rfl, pd_Mo_scaled, le_b rfl⟩ (le_b rfl) og_192 (k_Mo_scaled (Int32.toInt64 a9) p4.2.2.2) (fun a10 => ?_)
                    exact hp_lf [1, 2, 3, 6, 0] rfl (fun _ e => e)
                  · refine hp_b hm (at1 15 rfl) (L' := [(7, (.int a7)), (0, (.ref 192)), (2, (.int x2)), (3, (.int v3)), (4, (.int p4.1)), (5, (.int p4.2.1)), (6, (.int p4.2.2.1))]) (st' := [(.int (0 : Int32)), (.int p4.1)]) rfl (by exact trivial) (pc' := 102) rfl ?_
                    refine hp_goto hm 7 rfl (tgt := 118) rfl ?_
                    exact hp_lf [1, 2, 3, 6, 0] rfl (fun _ e => e)
                · refine hp_z hm (at1 16 rfl) (fun (v12 : Int32) => [(4, (.int v12)), (0, (.ref 192)), (2, (.int x2)), (3, (.int v3)), (6, (.int p4.2.2.1)), (7, (.int a7))]) (fun (v12 : Int32) => []) rfl (by exact trivial) (pc' := 121) rfl (fun v12 => ?_)
                  refine hp_cVS (M2 := M_Mo_makeIt) hm (at1 17 rfl) (as := [(.int a7)]) (rest := []) (z := 192) rfl (by exact trivial) (pc' := 124) rfl 9 rfl (lw_g (lw_at lw_m10 236 rfl) rfl) y_Mo_makeIt rfl (d2 := 26) ⟨le_b rfl, pd_Mo_makeIt, le_b rfl⟩ (le_b rfl) og_192 (k_Mo_makeIt a7 p4.2.2.2) (fun a13 h2 => ?_)
                  refine hp_b hm (at1 18 rfl) (L' := [(8, (.int a13)), (4, (.int v12)), (0, (.ref 192)), (2, (.int x2)), (3, (.int v3)), (6, (.int p4.2.2.1)), (7, (.int a7))]) (st' := [(.int a13)]) rfl (by exact trivial) (pc' := 131) rfl ?_
                  refine hp_if_ge hm at0 rfl (by exact trivial) (pc' := 131) rfl 16 rfl (tgt := 141) rfl (fun c19 => ?_) (fun c19 => ?_)
                  · refine hp_cSP (M2 := M_Mo_in) hm (at1 19 rfl) (as := [(.long (Int32.toInt64 v12)), (.long (-20000 : Int64)), (.long (20000 : Int64))]) (rest := []) rfl (by exact trivial) (pc' := 150) rfl 10 rfl (lw_g (lw_at lw_m9 184 rfl) rfl) y_Mo_in rfl (d2 := 1) ⟨le_b rfl, pd_Mo_in, le_b rfl⟩ (le_b rfl) (k_Mo_in (Int32.toInt64 v12) (-20000 : Int64) (20000 : Int64) h2) (fun a14 => ?_)
                    refine hp_if_ne hm at0 rfl (by exact trivial) (pc' := 153) rfl 14 rfl (tgt := 160) rfl (fun c18 => ?_) (fun c18 => ?_)
                    · refine hp_cVS (M2 := M_Mo_drawIt) hm (at1 20 rfl) (as := [(.int v12), (.int x2)]) (rest := []) (z := 192) rfl (by exact trivial) (pc' := 164) rfl 11 rfl (lw_g (lw_at lw_m11 122 rfl) rfl) y_Mo_drawIt rfl (d2 := 6) ⟨le_b rfl, pd_Mo_drawIt, le_b rfl⟩ (le_b rfl) og_192 (k_Mo_drawIt v12 x2 h2) (fun a15 h3 => ?_)
                      refine hp_z hm (at1 21 rfl) (fun (v16 : Int32) => [(4, (.int v16)), (9, (.int a15)), (8, (.int a13)), (0, (.ref 192)), (2, (.int x2)), (3, (.int v3)), (6, (.int p4.2.2.1)), (7, (.int a7))]) (fun (v16 : Int32) => []) rfl (by exact og_192) (pc' := 178) rfl (fun v16 => ?_)
                      refine hp_z hm (at1 22 rfl) (fun (v17 : Int32) => [(6, (.int v17)), (5, (.int a7)), (4, (.int v16)), (9, (.int a15)), (8, (.int a13)), (0, (.ref 192)), (2, (.int x2)), (3, (.int v3)), (7, (.int a7))]) (fun (v17 : Int32) => []) rfl (by exact trivial) (pc' := 185) rfl (fun v17 => ?_)
                      refine hp_goto hm 12 rfl (tgt := 74) rfl ?_
                      exact hp_lf [5, 6, 7, 2, 1, 0] rfl (fun _ e => e)
                    · exact hp_ir hm (at1 23 rfl) rfl (by exact trivial) (pc' := 159) rfl 13 rfl rfl (vp_nar_int _) (fun _ e => e)
                  · exact hp_ir hm (at1 24 rfl) rfl (by exact trivial) (pc' := 140) rfl 15 rfl rfl (vp_nar_int _) (fun _ e => e)
            · exact hp_ir hm (at1 25 rfl) rfl (by exact trivial) (pc' := 190) rfl 18 rfl rfl (vp_nar_int _) (fun _ e => e)
          · exact hp_ir hm (at1 5 rfl) rfl (by exact trivial) (pc' := 54) rfl 2 rfl rfl (vp_nar_int _) (fun _ e => e)
      · exact hp_ir hm (at1 1 rfl) rfl (by exact trivial) (pc' := 23) rfl 0 rfl rfl (vp_nar_int _) (fun _ e => e)
/-! HintHouseModel.feed(IJ)I -/
def M_Mo_feed : hM := (11, ⟨"HintHouseModel", "feed", "(IJ)I"⟩, prog_13_method_123_code, 5, (Option.some Jvm.ClassFile.FieldType.int), [], [(0, [(.iload_n 1, 1, 0, 0, 0, .null), (.i2l, 1, 0, 0, 0, .null), (.lconst 1, 1, 0, 0, 0, (.long (1 : Int64))), (.ldc2_w 380, 3, 0, 0, 0, (.long (8 : Int64)))]), (15, [(.aload_n 0, 1, 0, 0, 0, .null), (.getfield 910, 3, 11, 1, 0, .null), (.iload_n 1, 1, 0, 0, 0, .null), (.iadd, 1, 0, 0, 0, .null), (.sipush 12000, 3, 0, 0, 0, (.int (12000 : Int32)))]), (30, [(.iload_n 1, 1, 0, 0, 0, .null), (.iconst 1, 1, 0, 0, 0, (.int (1 : Int32))), (.isub, 1, 0, 0, 0, .null), (.istore 4, 2, 0, 0, 0, .null)]), (35, [(.iload 4, 2, 0, 0, 0, .null)]), (40, [(.aload_n 0, 1, 0, 0, 0, .null), (.getfield 7, 3, 11, 0, 4, .null), (.aload_n 0, 1, 0, 0, 0, .null), (.getfield 910, 3, 11, 1, 0, .null), (.lload_n 2, 1, 0, 0, 0, .null), (.bipush 8, 2, 0, 0, 0, (.int (8 : Int32))), (.iload 4, 2, 0, 0, 0, .null), (.imul, 1, 0, 0, 0, .null), (.lshr, 1, 0, 0, 0, .null), (.l2i, 1, 0, 0, 0, .null), (.i2b, 1, 0, 0, 0, .null), (.bastore, 1, 102, 0, 0, .null)]), (58, [(.aload_n 0, 1, 0, 0, 0, .null), (.dup, 1, 0, 0, 0, .null), (.getfield 910, 3, 11, 1, 0, .null), (.iconst 1, 1, 0, 0, 0, (.int (1 : Int32))), (.iadd, 1, 0, 0, 0, .null), (.putfield 910, 3, 11, 1, 0, .null)]), (68, [(.iinc 4 (-1), 3, 0, 0, 0, (.int (-1 : Int32)))]), (74, [(.aload_n 0, 1, 0, 0, 0, .null), (.getfield 910, 3, 11, 1, 0, .null)]), (27, [(.bipush (-4), 2, 0, 0, 0, (.int (-4 : Int32)))]), (12, [(.bipush (-2), 2, 0, 0, 0, (.int (-2 : Int32)))])], [(6, .invokestatic 263, 3), (71, .goto (-36), 3), (37, .ifCond .lt 37, 3), (78, .ireturn, 1), (29, .ireturn, 1), (24, .if_icmp .le 6, 3), (14, .ireturn, 1), (9, .ifCond .ne 6, 3)])
set_option maxRecDepth 100000 in
theorem m_Mo_feed : hx_mok M_Mo_feed = true := by decide +kernel
theorem pd_Mo_feed : (parseMethodDescriptor M_Mo_feed.2.1.desc).map (fun q => q.parameters.length) = some 2 := by decide +kernel
theorem y_Mo_feed : hx_okV M_Mo_feed := ⟨⟨lw_g (lw_at lw_m11 158 rfl) rfl, lw_g (lw_at lw_m11 156 rfl) rfl, lw_g (lw_at lw_m11 157 rfl) rfl, lw_g (lw_at lw_m1 12 rfl) rfl, rfl, by decide, by decide, by decide⟩, rfl, by decide, plainFor_of_name (by decide)⟩
noncomputable def f_Mo_feed (x1 : Int32) (x2 : Int64) (h : hH) : Option (Int32 × hH) :=
  bP (f_Mo_in (Int32.toInt64 x1) (1 : Int64) (8 : Int64)) fun a1 =>
  if a1 = 0 then (
    some ((-2 : Int32), h)
  ) else (
    if ((rdI h 192 1) + x1) ≤ (12000 : Int32) then (
      lz (A := Int32) (x1 - (1 : Int32)) fun v2 =>
      bP (A := hH) (
        wh (A := (Int32 × hH)) (B := hH) (fun p3 =>
            if p3.1 < 0 then (
              some (.inr p3.2)
            ) else (
              gd (vp_in (rdI p3.2 192 1) 12000) <|
              lz (wrI p3.2 193 (Int32.toNatClampNeg (rdI p3.2 192 1)) (Int8.toInt32 (Int32.toInt8 (Int8.toInt32 (Int32.toInt8 (Int64.toInt32 (x2 >>> ((Int32.toInt64 ((8 : Int32) * p3.1)) &&& 63)))))))) fun h1 =>
              lz (wrI h1 192 1 ((rdI h1 192 1) + (1 : Int32))) fun h2 =>
              lz (A := Int32) (p3.1 + (-1 : Int32)) fun v6 =>
              some (.inl (v6, h2))
            )
        ) (v2, h)
      ) fun p4 =>
      some ((rdI p4 192 1), p4)
    ) else (
      some ((-4 : Int32), h)
    )
  )
set_option maxRecDepth 20000 in
theorem k_Mo_feed (x1 : Int32) (x2 : Int64) (h : hH) : hx_kS S0 M_Mo_feed 2 NT [(.ref 192), (.int x1), (.long x2)] h (f_Mo_feed x1 x2 h) cvI := by
  have hm := m_Mo_feed
  show hx_P S0 M_Mo_feed 2 0 [(0, (.ref 192)), (1, (.int x1)), (2, (.long x2))] [] NT h (f_Mo_feed x1 x2 h) (hx_Rc cvI NT)
  unfold f_Mo_feed
  refine hp_cSP (M2 := M_Mo_in) hm (at1 0 rfl) (as := [(.long (Int32.toInt64 x1)), (.long (1 : Int64)), (.long (8 : Int64))]) (rest := []) rfl (by exact trivial) (pc' := 6) rfl 0 rfl (lw_g (lw_at lw_m9 184 rfl) rfl) y_Mo_in rfl (d2 := 1) ⟨le_b rfl, pd_Mo_in, le_b rfl⟩ (le_b rfl) (k_Mo_in (Int32.toInt64 x1) (1 : Int64) (8 : Int64) h) (fun a1 => ?_)
  refine hp_if_ne hm at0 rfl (by exact trivial) (pc' := 9) rfl 7 rfl (tgt := 15) rfl (fun c9 => ?_) (fun c9 => ?_)
  · refine hp_ic_le hm (at1 1 rfl) rfl (by exact og_192) (pc' := 24) rfl 5 rfl (tgt := 30) rfl (fun c8 => ?_) (fun c8 => ?_)
    · refine hp_z hm (at1 2 rfl) (fun (v2 : Int32) => [(4, (.int v2)), (0, (.ref 192)), (1, (.int x1)), (2, (.long x2))]) (fun (v2 : Int32) => []) rfl (by exact trivial) (pc' := 35) rfl (fun v2 => ?_)
      refine hp_J 74 (fun (p4 : hH) => [(0, (.ref 192))]) (fun (p4 : hH) => []) (fun (p4 : hH) => p4) ?_ (fun p4 => ?_)
      · refine hp_s [1, 3, 0] rfl (L' := [(0, (.ref 192)), (2, (.long x2)), (4, (.int v2))]) ?_
        refine hp_wh (fun (p3 : (Int32 × hH)) => [(0, (.ref 192)), (2, (.long x2)), (4, (.int p3.1))]) [] (fun (p3 : (Int32 × hH)) => p3.2) (fun p3 => ?_) (v2, h)
        refine hp_if_lt hm (at1 3 rfl) rfl (by exact trivial) (pc' := 37) rfl 2 rfl (tgt := 74) rfl (fun c7 => ?_) (fun c7 => ?_)
        · exact hp_lf [0] rfl (fun _ e => e)
        · refine hp_GW hm (at1 4 rfl) (L' := [(0, (.ref 192)), (2, (.long x2)), (4, (.int p3.1))]) rfl (fun hP => (by exact ⟨⟨og_192, og_192⟩, ⟨og_193, hP⟩⟩)) (pc' := 58) rfl (fun q5 h1 => ?_)
          refine hp_w hm (at1 5 rfl) (L' := [(0, (.ref 192)), (2, (.long x2)), (4, (.int p3.1))]) rfl (by exact ⟨og_192, og_192⟩) (pc' := 68) rfl (fun h2 => ?_)
          refine hp_z hm (at1 6 rfl) (fun (v6 : Int32) => [(4, (.int v6)), (0, (.ref 192)), (2, (.long x2))]) (fun (v6 : Int32) => []) rfl (by exact trivial) (pc' := 71) rfl (fun v6 => ?_)
          refine hp_goto hm 1 rfl (tgt := 35) rfl ?_
          exact hp_lf [1, 2, 0] rfl (fun _ e => e)
      · exact hp_ir hm (at1 7 rfl) rfl (by exact og_192) (pc' := 78) rfl 3 rfl rfl (vp_nar_int _) (fun _ e => e)
    · exact hp_ir hm (at1 8 rfl) rfl (by exact trivial) (pc' := 29) rfl 4 rfl rfl (vp_nar_int _) (fun _ e => e)
  · exact hp_ir hm (at1 9 rfl) rfl (by exact trivial) (pc' := 14) rfl 6 rfl rfl (vp_nar_int _) (fun _ e => e)
/-! HintHouseModel.wipe()I -/
def M_Mo_wipe : hM := (11, ⟨"HintHouseModel", "wipe", "()I"⟩, prog_13_method_124_code, 2, (Option.some Jvm.ClassFile.FieldType.int), [], [(0, [(.aload_n 0, 1, 0, 0, 0, .null), (.getfield 910, 3, 11, 1, 0, .null), (.istore_n 1, 1, 0, 0, 0, .null)]), (5, [(.aload_n 0, 1, 0, 0, 0, .null), (.iconst 0, 1, 0, 0, 0, (.int (0 : Int32))), (.putfield 910, 3, 11, 1, 0, .null)]), (10, [(.iload_n 1, 1, 0, 0, 0, .null)])], [(11, .ireturn, 1)])
set_option maxRecDepth 100000 in
theorem m_Mo_wipe : hx_mok M_Mo_wipe = true := by decide +kernel
theorem pd_Mo_wipe : (parseMethodDescriptor M_Mo_wipe.2.1.desc).map (fun q => q.parameters.length) = some 0 := by decide +kernel
theorem y_Mo_wipe : hx_okV M_Mo_wipe := ⟨⟨lw_g (lw_at lw_m11 163 rfl) rfl, lw_g (lw_at lw_m11 161 rfl) rfl, lw_g (lw_at lw_m11 162 rfl) rfl, lw_g (lw_at lw_m1 12 rfl) rfl, rfl, by decide, by decide, by decide⟩, rfl, by decide, plainFor_of_name (by decide)⟩
noncomputable def f_Mo_wipe (h : hH) : Option (Int32 × hH) :=
  lz (A := Int32) (rdI h 192 1) fun v1 =>
  lz (wrI h 192 1 (0 : Int32)) fun h1 =>
  some (v1, h1)
set_option maxRecDepth 20000 in
theorem k_Mo_wipe (h : hH) : hx_kS S0 M_Mo_wipe 1 NT [(.ref 192)] h (f_Mo_wipe h) cvI := by
  have hm := m_Mo_wipe
  show hx_P S0 M_Mo_wipe 1 0 [(0, (.ref 192))] [] NT h (f_Mo_wipe h) (hx_Rc cvI NT)
  unfold f_Mo_wipe
  refine hp_z hm (at1 0 rfl) (fun (v1 : Int32) => [(1, (.int v1)), (0, (.ref 192))]) (fun (v1 : Int32) => []) rfl (by exact og_192) (pc' := 5) rfl (fun v1 => ?_)
  refine hp_w hm (at1 1 rfl) (L' := [(1, (.int v1)), (0, (.ref 192))]) rfl (by exact og_192) (pc' := 10) rfl (fun h1 => ?_)
  exact hp_ir hm (at1 2 rfl) rfl (by exact trivial) (pc' := 11) rfl 0 rfl rfl (vp_nar_int _) (fun _ e => e)
/-! HintHouseModel.directory()Z -/
def M_Mo_directory : hM := (11, ⟨"HintHouseModel", "directory", "()Z"⟩, prog_13_method_19_code, 5, (Option.some Jvm.ClassFile.FieldType.boolean), [], [(0, [(.aload_n 0, 1, 0, 0, 0, .null), (.iconst 4, 1, 0, 0, 0, (.int (4 : Int32)))]), (5, [(.istore_n 1, 1, 0, 0, 0, .null), (.aload_n 0, 1, 0, 0, 0, .null), (.getfield 206, 3, 11, 3, 0, .null), (.bipush 12, 2, 0, 0, 0, (.int (12 : Int32)))]), (53, [(.iconst 0, 1, 0, 0, 0, (.int (0 : Int32)))]), (15, [(.aload_n 0, 1, 0, 0, 0, .null), (.iconst 0, 1, 0, 0, 0, (.int (0 : Int32)))]), (20, [(.ldc2_w 300, 3, 0, 0, 0, (.long (65536 : Int64))), (.lcmp, 1, 0, 0, 0, .null)]), (27, [(.iload_n 1, 1, 0, 0, 0, .null), (.i2l, 1, 0, 0, 0, .null), (.lconst 1, 1, 0, 0, 0, (.long (1 : Int64))), (.ldc2_w 232, 3, 0, 0, 0, (.long (16 : Int64)))]), (39, [(.aload_n 0, 1, 0, 0, 0, .null), (.getfield 206, 3, 11, 3, 0, .null), (.bipush 12, 2, 0, 0, 0, (.int (12 : Int32))), (.bipush 16, 2, 0, 0, 0, (.int (16 : Int32))), (.iload_n 1, 1, 0, 0, 0, .null), (.imul, 1, 0, 0, 0, .null), (.iadd, 1, 0, 0, 0, .null)]), (55, [(.iconst 0, 1, 0, 0, 0, (.int (0 : Int32))), (.istore_n 2, 1, 0, 0, 0, .null)]), (57, [(.iconst 2, 1, 0, 0, 0, (.int (2 : Int32))), (.iload_n 2, 1, 0, 0, 0, .null), (.ishl, 1, 0, 0, 0, .null), (.iload_n 1, 1, 0, 0, 0, .null)]), (64, [(.iinc 2 1, 3, 0, 0, 0, (.int (1 : Int32)))]), (70, [(.aload_n 0, 1, 0, 0, 0, .null), (.bipush 6, 2, 0, 0, 0, (.int (6 : Int32)))]), (76, [(.bipush 16, 2, 0, 0, 0, (.int (16 : Int32))), (.iload_n 2, 1, 0, 0, 0, .null), (.ishl, 1, 0, 0, 0, .null)]), (111, [(.iconst 0, 1, 0, 0, 0, (.int (0 : Int32)))]), (83, [(.aload_n 0, 1, 0, 0, 0, .null), (.bipush 8, 2, 0, 0, 0, (.int (8 : Int32)))]), (89, [(.iload_n 2, 1, 0, 0, 0, .null)]), (93, [(.aload_n 0, 1, 0, 0, 0, .null), (.bipush 10, 2, 0, 0, 0, (.int (10 : Int32)))]), (99, [(.bipush 16, 2, 0, 0, 0, (.int (16 : Int32))), (.iload_n 1, 1, 0, 0, 0, .null), (.imul, 1, 0, 0, 0, .null), (.bipush 16, 2, 0, 0, 0, (.int (16 : Int32))), (.iload_n 2, 1, 0, 0, 0, .null), (.ishl, 1, 0, 0, 0, .null), (.isub, 1, 0, 0, 0, .null)]), (113, [(.aload_n 0, 1, 0, 0, 0, .null), (.iload_n 1, 1, 0, 0, 0, .null), (.putfield 216, 3, 11, 5, 0, .null)]), (118, [(.iconst 0, 1, 0, 0, 0, (.int (0 : Int32))), (.istore_n 3, 1, 0, 0, 0, .null)]), (120, [(.iload_n 3, 1, 0, 0, 0, .null), (.iload_n 1, 1, 0, 0, 0, .null)]), (125, [(.bipush 12, 2, 0, 0, 0, (.int (12 : Int32))), (.bipush 16, 2, 0, 0, 0, (.int (16 : Int32))), (.iload_n 3, 1, 0, 0, 0, .null), (.imul, 1, 0, 0, 0, .null), (.iadd, 1, 0, 0, 0, .null), (.istore 4, 2, 0, 0, 0, .null)]), (134, [(.aload_n 0, 1, 0, 0, 0, .null), (.getfield 16, 3, 11, 6, 4, .null), (.iload_n 3, 1, 0, 0, 0, .null), (.aload_n 0, 1, 0, 0, 0, .null), (.iload 4, 2, 0, 0, 0, .null)]), (145, [(.l2i, 1, 0, 0, 0, .null), (.iastore, 1, 0, 0, 0, .null)]), (147, [(.aload_n 0, 1, 0, 0, 0, .null), (.getfield 20, 3, 11, 7, 4, .null), (.iload_n 3, 1, 0, 0, 0, .null), (.aload_n 0, 1, 0, 0, 0, .null), (.iload 4, 2, 0, 0, 0, .null), (.iconst 4, 1, 0, 0, 0, (.int (4 : Int32))), (.iadd, 1, 0, 0, 0, .null)]), (160, [(.lastore, 1, 0, 0, 0, .null)]), (161, [(.aload_n 0, 1, 0, 0, 0, .null), (.getfield 24, 3, 11, 8, 4, .null), (.iload_n 3, 1, 0, 0, 0, .null), (.aload_n 0, 1, 0, 0, 0, .null), (.iload 4, 2, 0, 0, 0, .null), (.bipush 8, 2, 0, 0, 0, (.int (8 : Int32))), (.iadd, 1, 0, 0, 0, .null)]), (175, [(.lastore, 1, 0, 0, 0, .null)]), (176, [(.aload_n 0, 1, 0, 0, 0, .null), (.getfield 27, 3, 11, 9, 4, .null), (.iload_n 3, 1, 0, 0, 0, .null), (.aload_n 0, 1, 0, 0, 0, .null), (.iload 4, 2, 0, 0, 0, .null), (.bipush 12, 2, 0, 0, 0, (.int (12 : Int32))), (.iadd, 1, 0, 0, 0, .null)]), (190, [(.lastore, 1, 0, 0, 0, .null)]), (191, [(.iinc 3 1, 3, 0, 0, 0, (.int (1 : Int32)))]), (197, [(.iconst 1, 1, 0, 0, 0, (.int (1 : Int32)))])], [(2, .invokevirtual 213, 3), (54, .ireturn, 1), (17, .invokevirtual 297, 3), (33, .invokestatic 263, 3), (67, .goto (-10), 3), (61, .if_icmp .gt 9, 3), (73, .invokevirtual 213, 3), (112, .ireturn, 1), (86, .invokevirtual 213, 3), (96, .invokevirtual 213, 3), (142, .invokevirtual 297, 3), (157, .invokevirtual 297, 3), (172, .invokevirtual 297, 3), (187, .invokevirtual 297, 3), (194, .goto (-74), 3), (122, .if_icmp .ge 75, 3), (198, .ireturn, 1), (108, .if_icmp .eq 5, 3), (90, .if_icmp .ne 21, 3), (80, .if_icmp .ne 31, 3), (50, .if_icmp .ge 5, 3), (36, .ifCond .eq 17, 3), (24, .ifCond .ne 29, 3), (12, .if_icmp .lt 41, 3)])
set_option maxRecDepth 100000 in
theorem m_Mo_directory : hx_mok M_Mo_directory = true := by decide +kernel
theorem pd_Mo_directory : (parseMethodDescriptor M_Mo_directory.2.1.desc).map (fun q => q.parameters.length) = some 0 := by decide +kernel
theorem y_Mo_directory : hx_okV M_Mo_directory := ⟨⟨lw_g (lw_at lw_m11 175 rfl) rfl, lw_g (lw_at lw_m11 174 rfl) rfl, qs210, lw_g (lw_at lw_m1 12 rfl) rfl, rfl, by decide, by decide, by decide⟩, rfl, by decide, plainFor_of_name (by decide)⟩
noncomputable def f_Mo_directory (h : hH) : Option (Int32 × hH) :=
  bP (f_Mo_u2 (4 : Int32) h) fun a1 =>
  if (rdI h 192 3) < (12 : Int32) then (
    some ((0 : Int32), h)
  ) else (
    bP (f_Mo_u4 (0 : Int32) h) fun a2 =>
    if a2 = (65536 : Int64) then (
      bP (f_Mo_in (Int32.toInt64 a1) (1 : Int64) (16 : Int64)) fun a3 =>
      if a3 = 0 then (
        some ((0 : Int32), h)
      ) else (
        if ((12 : Int32) + ((16 : Int32) * a1)) ≤ (rdI h 192 3) then (
          bP (A := Int32) (
            wh (A := Int32) (B := Int32) (fun p4 =>
                if a1 < ((2 : Int32) <<< (p4 &&& 31)) then (
                  some (.inr p4)
                ) else (
                  lz (A := Int32) (p4 + (1 : Int32)) fun v6 =>
                  some (.inl v6)
                )
            ) (0 : Int32)
          ) fun p5 =>
          bP (f_Mo_u2 (6 : Int32) h) fun a8 =>
          if a8 = ((16 : Int32) <<< (p5 &&& 31)) then (
            bP (f_Mo_u2 (8 : Int32) h) fun a9 =>
            if a9 = p5 then (
              bP (f_Mo_u2 (10 : Int32) h) fun a10 =>
              if a10 = (((16 : Int32) * a1) - ((16 : Int32) <<< (p5 &&& 31))) then (
                lz (wrI h 192 5 a1) fun h1 =>
                bP (A := hH) (
                  wh (A := (Int32 × hH)) (B := hH) (fun p11 =>
                      if a1 ≤ p11.1 then (
                        some (.inr p11.2)
                      ) else (
                        lz (A := Int32) ((12 : Int32) + ((16 : Int32) * p11.1)) fun v13 =>
                        bP (f_Mo_u4 v13 p11.2) fun a14 =>
                        gd (vp_in p11.1 16) <|
                        lz (wrI p11.2 195 (Int32.toNatClampNeg p11.1) (Int64.toInt32 a14)) fun h2 =>
                        bP (f_Mo_u4 (v13 + (4 : Int32)) h2) fun a16 =>
                        gd (vp_in p11.1 16) <|
                        lz (wrL h2 196 (Int32.toNatClampNeg p11.1) a16) fun h3 =>
                        bP (f_Mo_u4 (v13 + (8 : Int32)) h3) fun a18 =>
                        gd (vp_in p11.1 16) <|
                        lz (wrL h3 197 (Int32.toNatClampNeg p11.1) a18) fun h4 =>
                        bP (f_Mo_u4 (v13 + (12 : Int32)) h4) fun a20 =>
                        gd (vp_in p11.1 16) <|
                        lz (wrL h4 198 (Int32.toNatClampNeg p11.1) a20) fun h5 =>
                        lz (A := Int32) (p11.1 + (1 : Int32)) fun v22 =>
                        some (.inl (v22, h5))
                      )
                  ) ((0 : Int32), h1)
                ) fun p12 =>
                some ((1 : Int32), p12)
              ) else (
                some ((0 : Int32), h)
              )
            ) else (
              some ((0 : Int32), h)
            )
          ) else (
            some ((0 : Int32), h)
          )
        ) else (
          some ((0 : Int32), h)
        )
      )
    ) else (
      some ((0 : Int32), h)
    )
  )
set_option maxRecDepth 20000 in
theorem k_Mo_directory (h : hH) : hx_kS S0 M_Mo_directory 4 NT [(.ref 192)] h (f_Mo_directory h) cvI := by
  have hm := m_Mo_directory
  show hx_P S0 M_Mo_directory 4 0 [(0, (.ref 192))] [] NT h (f_Mo_directory h) (hx_Rc cvI NT)
  unfold f_Mo_directory
  refine hp_cVP (M2 := M_Mo_u2) hm (at1 0 rfl) (as := [(.int (4 : Int32))]) (rest := []) (z := 192) rfl (by exact trivial) (pc' := 2) rfl 0 rfl (lw_g (lw_at lw_m9 204 rfl) rfl) y_Mo_u2 rfl (d2 := 2) ⟨le_b rfl, pd_Mo_u2, le_b rfl⟩ (le_b rfl) og_192 (k_Mo_u2 (4 : Int32) h) (fun a1 => ?_)
  refine hp_b hm (at1 1 rfl) (L' := [(1, (.int a1)), (0, (.ref 192))]) (st' := [(.int (12 : Int32)), (.int (rdI h 192 3))]) rfl (by exact og_192) (pc' := 12) rfl ?_
  refine hp_ic_lt hm at0 rfl (by exact trivial) (pc' := 12) rfl 23 rfl (tgt := 53) rfl (fun c30 => ?_) (fun c30 => ?_)
  · exact hp_ir hm (at1 2 rfl) rfl (by exact trivial) (pc' := 54) rfl 1 rfl rfl rfl (fun _ e => e)
  · refine hp_cVP (M2 := M_Mo_u4) hm (at1 3 rfl) (as := [(.int (0 : Int32))]) (rest := []) (z := 192) rfl (by exact trivial) (pc' := 17) rfl 2 rfl (lw_g (lw_at lw_m11 18 rfl) rfl) y_Mo_u4 rfl (d2 := 3) ⟨le_b rfl, pd_Mo_u4, le_b rfl⟩ (le_b rfl) og_192 (k_Mo_u4 (0 : Int32) h) (fun a2 => ?_)
    refine hp_lc_ne hm (at1 4 rfl) rfl (by exact trivial) (pc' := 24) rfl 22 rfl (tgt := 53) rfl (fun c29 => ?_) (fun c29 => ?_)
    · exact hp_ir hm (at1 2 rfl) rfl (by exact trivial) (pc' := 54) rfl 1 rfl rfl rfl (fun _ e => e)
    · refine hp_cSP (M2 := M_Mo_in) hm (at1 5 rfl) (as := [(.long (Int32.toInt64 a1)), (.long (1 : Int64)), (.long (16 : Int64))]) (rest := []) rfl (by exact trivial) (pc' := 33) rfl 3 rfl (lw_g (lw_at lw_m9 184 rfl) rfl) y_Mo_in rfl (d2 := 1) ⟨le_b rfl, pd_Mo_in, le_b rfl⟩ (le_b rfl) (k_Mo_in (Int32.toInt64 a1) (1 : Int64) (16 : Int64) h) (fun a3 => ?_)
      refine hp_if_eq hm at0 rfl (by exact trivial) (pc' := 36) rfl 21 rfl (tgt := 53) rfl (fun c28 => ?_) (fun c28 => ?_)
      · exact hp_ir hm (at1 2 rfl) rfl (by exact trivial) (pc' := 54) rfl 1 rfl rfl rfl (fun _ e => e)
      · refine hp_ic_ge hm (at1 6 rfl) rfl (by exact og_192) (pc' := 50) rfl 20 rfl (tgt := 55) rfl (fun c27 => ?_) (fun c27 => ?_)
        · refine hp_b hm (at1 7 rfl) (L' := [(2, (.int (0 : Int32))), (1, (.int a1)), (0, (.ref 192))]) (st' := []) rfl (by exact trivial) (pc' := 57) rfl ?_
          refine hp_J 70 (fun (p5 : Int32) => [(0, (.ref 192)), (1, (.int a1)), (2, (.int p5))]) (fun (p5 : Int32) => []) (fun (p5 : Int32) => h) ?_ (fun p5 => ?_)
          · refine hp_s [2, 1, 0] rfl (L' := [(0, (.ref 192)), (1, (.int a1)), (2, (.int (0 : Int32)))]) ?_
            refine hp_wh (fun (p4 : Int32) => [(0, (.ref 192)), (1, (.int a1)), (2, (.int p4))]) [] (fun (p4 : Int32) => h) (fun p4 => ?_) (0 : Int32)
            refine hp_ic_gt hm (at1 8 rfl) rfl (by exact trivial) (pc' := 61) rfl 5 rfl (tgt := 70) rfl (fun c7 => ?_) (fun c7 => ?_)
            · exact hp_lf [0, 1, 2] rfl (fun _ e => e)
            · refine hp_z hm (at1 9 rfl) (fun (v6 : Int32) => [(2, (.int v6)), (0, (.ref 192)), (1, (.int a1))]) (fun (v6 : Int32) => []) rfl (by exact trivial) (pc' := 67) rfl (fun v6 => ?_)
              refine hp_goto hm 4 rfl (tgt := 57) rfl ?_
              exact hp_lf [1, 2, 0] rfl (fun _ e => e)
          · refine hp_cVP (M2 := M_Mo_u2) hm (at1 10 rfl) (as := [(.int (6 : Int32))]) (rest := []) (z := 192) rfl (by exact trivial) (pc' := 73) rfl 6 rfl (lw_g (lw_at lw_m9 204 rfl) rfl) y_Mo_u2 rfl (d2 := 2) ⟨le_b rfl, pd_Mo_u2, le_b rfl⟩ (le_b rfl) og_192 (k_Mo_u2 (6 : Int32) h) (fun a8 => ?_)
            refine hp_ic_ne hm (at1 11 rfl) rfl (by exact trivial) (pc' := 80) rfl 19 rfl (tgt := 111) rfl (fun c26 => ?_) (fun c26 => ?_)
            · exact hp_ir hm (at1 12 rfl) rfl (by exact trivial) (pc' := 112) rfl 7 rfl rfl rfl (fun _ e => e)
            · refine hp_cVP (M2 := M_Mo_u2) hm (at1 13 rfl) (as := [(.int (8 : Int32))]) (rest := []) (z := 192) rfl (by exact trivial) (pc' := 86) rfl 8 rfl (lw_g (lw_at lw_m9 204 rfl) rfl) y_Mo_u2 rfl (d2 := 2) ⟨le_b rfl, pd_Mo_u2, le_b rfl⟩ (le_b rfl) og_192 (k_Mo_u2 (8 : Int32) h) (fun a9 => ?_)
              refine hp_ic_ne hm (at1 14 rfl) rfl (by exact trivial) (pc' := 90) rfl 18 rfl (tgt := 111) rfl (fun c25 => ?_) (fun c25 => ?_)
              · exact hp_ir hm (at1 12 rfl) rfl (by exact trivial) (pc' := 112) rfl 7 rfl rfl rfl (fun _ e => e)
              · refine hp_cVP (M2 := M_Mo_u2) hm (at1 15 rfl) (as := [(.int (10 : Int32))]) (rest := []) (z := 192) rfl (by exact trivial) (pc' := 96) rfl 9 rfl (lw_g (lw_at lw_m9 204 rfl) rfl) y_Mo_u2 rfl (d2 := 2) ⟨le_b rfl, pd_Mo_u2, le_b rfl⟩ (le_b rfl) og_192 (k_Mo_u2 (10 : Int32) h) (fun a10 => ?_)
                refine hp_ic_eq hm (at1 16 rfl) rfl (by exact trivial) (pc' := 108) rfl 17 rfl (tgt := 113) rfl (fun c24 => ?_) (fun c24 => ?_)
                · refine hp_w hm (at1 17 rfl) (L' := [(0, (.ref 192)), (1, (.int a1)), (2, (.int p5))]) rfl (by exact og_192) (pc' := 118) rfl (fun h1 => ?_)
                  refine hp_b hm (at1 18 rfl) (L' := [(3, (.int (0 : Int32))), (0, (.ref 192)), (1, (.int a1)), (2, (.int p5))]) (st' := []) rfl (by exact trivial) (pc' := 120) rfl ?_
                  refine hp_J 197 (fun (p12 : hH) => []) (fun (p12 : hH) => []) (fun (p12 : hH) => p12) ?_ (fun p12 => ?_)
                  · refine hp_s [1, 2, 0] rfl (L' := [(0, (.ref 192)), (1, (.int a1)), (3, (.int (0 : Int32)))]) ?_
                    refine hp_wh (fun (p11 : (Int32 × hH)) => [(0, (.ref 192)), (1, (.int a1)), (3, (.int p11.1))]) [] (fun (p11 : (Int32 × hH)) => p11.2) (fun p11 => ?_) ((0 : Int32), h1)
                    refine hp_ic_ge hm (at1 19 rfl) rfl (by exact trivial) (pc' := 122) rfl 15 rfl (tgt := 197) rfl (fun c23 => ?_) (fun c23 => ?_)
                    · exact hp_lf [] rfl (fun _ e => e)
                    · refine hp_z hm (at1 20 rfl) (fun (v13 : Int32) => [(4, (.int v13)), (0, (.ref 192)), (1, (.int a1)), (3, (.int p11.1))]) (fun (v13 : Int32) => []) rfl (by exact trivial) (pc' := 134) rfl (fun v13 => ?_)
                      refine hp_cVP (M2 := M_Mo_u4) hm (at1 21 rfl) (as := [(.int v13)]) (rest := [(.int p11.1), (.ref 195)]) (z := 192) rfl (by exact og_192) (pc' := 142) rfl 10 rfl (lw_g (lw_at lw_m11 18 rfl) rfl) y_Mo_u4 rfl (d2 := 3) ⟨le_b rfl, pd_Mo_u4, le_b rfl⟩ (le_b rfl) og_192 (k_Mo_u4 v13 p11.2) (fun a14 => ?_)
                      refine hp_GW hm (at1 22 rfl) (L' := [(4, (.int v13)), (0, (.ref 192)), (1, (.int a1)), (3, (.int p11.1))]) rfl (fun hP => (by exact ⟨og_195, hP⟩)) (pc' := 147) rfl (fun q15 h2 => ?_)
                      refine hp_cVP (M2 := M_Mo_u4) hm (at1 23 rfl) (as := [(.int (v13 + (4 : Int32)))]) (rest := [(.int p11.1), (.ref 196)]) (z := 192) rfl (by exact og_192) (pc' := 157) rfl 11 rfl (lw_g (lw_at lw_m11 18 rfl) rfl) y_Mo_u4 rfl (d2 := 3) ⟨le_b rfl, pd_Mo_u4, le_b rfl⟩ (le_b rfl) og_192 (k_Mo_u4 (v13 + (4 : Int32)) h2) (fun a16 => ?_)
                      refine hp_GW hm (at1 24 rfl) (L' := [(4, (.int v13)), (0, (.ref 192)), (1, (.int a1)), (3, (.int p11.1))]) rfl (fun hP => (by exact ⟨og_196, hP⟩)) (pc' := 161) rfl (fun q17 h3 => ?_)
                      refine hp_cVP (M2 := M_Mo_u4) hm (at1 25 rfl) (as := [(.int (v13 + (8 : Int32)))]) (rest := [(.int p11.1), (.ref 197)]) (z := 192) rfl (by exact og_192) (pc' := 172) rfl 12 rfl (lw_g (lw_at lw_m11 18 rfl) rfl) y_Mo_u4 rfl (d2 := 3) ⟨le_b rfl, pd_Mo_u4, le_b rfl⟩ (le_b rfl) og_192 (k_Mo_u4 (v13 + (8 : Int32)) h3) (fun a18 => ?_)
                      refine hp_GW hm (at1 26 rfl) (L' := [(4, (.int v13)), (0, (.ref 192)), (1, (.int a1)), (3, (.int p11.1))]) rfl (fun hP => (by exact ⟨og_197, hP⟩)) (pc' := 176) rfl (fun q19 h4 => ?_)
                      refine hp_cVP (M2 := M_Mo_u4) hm (at1 27 rfl) (as := [(.int (v13 + (12 : Int32)))]) (rest := [(.int p11.1), (.ref 198)]) (z := 192) rfl (by exact og_192) (pc' := 187) rfl 13 rfl (lw_g (lw_at lw_m11 18 rfl) rfl) y_Mo_u4 rfl (d2 := 3) ⟨le_b rfl, pd_Mo_u4, le_b rfl⟩ (le_b rfl) og_192 (k_Mo_u4 (v13 + (12 : Int32)) h4) (fun a20 => ?_)
                      refine hp_GW hm (at1 28 rfl) (L' := [(4, (.int v13)), (0, (.ref 192)), (1, (.int a1)), (3, (.int p11.1))]) rfl (fun hP => (by exact ⟨og_198, hP⟩)) (pc' := 191) rfl (fun q21 h5 => ?_)
                      refine hp_z hm (at1 29 rfl) (fun (v22 : Int32) => [(3, (.int v22)), (4, (.int v13)), (0, (.ref 192)), (1, (.int a1))]) (fun (v22 : Int32) => []) rfl (by exact trivial) (pc' := 194) rfl (fun v22 => ?_)
                      refine hp_goto hm 14 rfl (tgt := 120) rfl ?_
                      exact hp_lf [2, 3, 0] rfl (fun _ e => e)
                  · exact hp_ir hm (at1 30 rfl) rfl (by exact trivial) (pc' := 198) rfl 16 rfl rfl rfl (fun _ e => e)
                · exact hp_ir hm (at1 12 rfl) rfl (by exact trivial) (pc' := 112) rfl 7 rfl rfl rfl (fun _ e => e)
        · exact hp_ir hm (at1 2 rfl) rfl (by exact trivial) (pc' := 54) rfl 1 rfl rfl rfl (fun _ e => e)
/-! HintHouseModel.sumOf(III)I -/
def M_Mo_sumOf : hM := (11, ⟨"HintHouseModel", "sumOf", "(III)I"⟩, prog_13_method_16_code, 9, (Option.some Jvm.ClassFile.FieldType.int), [], [(0, [(.iconst 0, 1, 0, 0, 0, (.int (0 : Int32))), (.istore 4, 2, 0, 0, 0, .null), (.iload_n 1, 1, 0, 0, 0, .null), (.istore 5, 2, 0, 0, 0, .null)]), (6, [(.iload 5, 2, 0, 0, 0, .null), (.iload_n 2, 1, 0, 0, 0, .null)]), (12, [(.iconst 0, 1, 0, 0, 0, (.int (0 : Int32))), (.istore 6, 2, 0, 0, 0, .null)]), (15, [(.iload 6, 2, 0, 0, 0, .null), (.iconst 4, 1, 0, 0, 0, (.int (4 : Int32)))]), (21, [(.iload 5, 2, 0, 0, 0, .null), (.iload 6, 2, 0, 0, 0, .null), (.iadd, 1, 0, 0, 0, .null), (.istore 7, 2, 0, 0, 0, .null)]), (28, [(.iload 7, 2, 0, 0, 0, .null), (.iload_n 2, 1, 0, 0, 0, .null)]), (62, [(.iconst 0, 1, 0, 0, 0, (.int (0 : Int32)))]), (34, [(.iload_n 3, 1, 0, 0, 0, .null), (.iconst (-1), 1, 0, 0, 0, (.int (-1 : Int32)))]), (39, [(.iload 7, 2, 0, 0, 0, .null), (.iload_n 3, 1, 0, 0, 0, .null)]), (45, [(.iload 7, 2, 0, 0, 0, .null), (.iload_n 3, 1, 0, 0, 0, .null), (.iconst 4, 1, 0, 0, 0, (.int (4 : Int32))), (.iadd, 1, 0, 0, 0, .null)]), (53, [(.aload_n 0, 1, 0, 0, 0, .null), (.iload 7, 2, 0, 0, 0, .null)]), (63, [(.istore 8, 2, 0, 0, 0, .null), (.iload 4, 2, 0, 0, 0, .null), (.iload 8, 2, 0, 0, 0, .null), (.bipush 24, 2, 0, 0, 0, (.int (24 : Int32))), (.bipush 8, 2, 0, 0, 0, (.int (8 : Int32))), (.iload 6, 2, 0, 0, 0, .null), (.imul, 1, 0, 0, 0, .null), (.isub, 1, 0, 0, 0, .null), (.ishl, 1, 0, 0, 0, .null), (.iadd, 1, 0, 0, 0, .null), (.istore 4, 2, 0, 0, 0, .null)]), (81, [(.iinc 6 1, 3, 0, 0, 0, (.int (1 : Int32)))]), (87, [(.iinc 5 4, 3, 0, 0, 0, (.int (4 : Int32)))]), (93, [(.iload 4, 2, 0, 0, 0, .null)])], [(50, .if_icmp .lt 12, 3), (42, .if_icmp .lt 11, 3), (36, .if_icmp .eq 17, 3), (56, .invokevirtual 209, 3), (59, .goto 4, 3), (31, .if_icmp .ge 31, 3), (84, .goto (-69), 3), (18, .if_icmp .ge 69, 3), (90, .goto (-84), 3), (9, .if_icmp .ge 84, 3), (95, .ireturn, 1)])
set_option maxRecDepth 100000 in
theorem m_Mo_sumOf : hx_mok M_Mo_sumOf = true := by decide +kernel
theorem pd_Mo_sumOf : (parseMethodDescriptor M_Mo_sumOf.2.1.desc).map (fun q => q.parameters.length) = some 3 := by decide +kernel
theorem y_Mo_sumOf : hx_okV M_Mo_sumOf := ⟨⟨lw_g (lw_at lw_m11 183 rfl) rfl, lw_g (lw_at lw_m11 182 rfl) rfl, qs211, lw_g (lw_at lw_m1 12 rfl) rfl, rfl, by decide, by decide, by decide⟩, rfl, by decide, plainFor_of_name (by decide)⟩
noncomputable def f_Mo_sumOf (x1 : Int32) (x2 : Int32) (x3 : Int32) (h : hH) : Option Int32 :=
  bP (A := Int32) (
    wh (A := (Int32 × Int32)) (B := Int32) (fun p1 =>
        if x2 ≤ p1.2 then (
          some (.inr p1.1)
        ) else (
          bP (A := Int32) (
            wh (A := (Int32 × Int32)) (B := Int32) (fun p3 =>
                if (4 : Int32) ≤ p3.2 then (
                  some (.inr p3.1)
                ) else (
                  lz (A := Int32) (p1.2 + p3.2) fun v5 =>
                  bP (A := Int32) (
                    if x2 ≤ v5 then (
                      some (0 : Int32)
                    ) else (
                      cO (
                        if x3 = (-1 : Int32) then (
                          some true
                        ) else (
                          if (v5 < x3 ∨ ¬ (v5 < (x3 + (4 : Int32)))) then (
                            some true
                          ) else (
                            some false
                          )
                        )
                      ) (
                        bP (f_Mo_u1 v5 h) fun a19 =>
                        some a19
                      ) (
                        some (0 : Int32)
                      )
                    )
                  ) fun p6 =>
                  lz (A := Int32) (p3.1 + (p6 <<< (((24 : Int32) - ((8 : Int32) * p3.2)) &&& 31))) fun v21 =>
                  lz (A := Int32) (p3.2 + (1 : Int32)) fun v22 =>
                  some (.inl (v21, v22))
                )
            ) (p1.1, (0 : Int32))
          ) fun p4 =>
          lz (A := Int32) (p1.2 + (4 : Int32)) fun v24 =>
          some (.inl (p4, v24))
        )
    ) ((0 : Int32), x1)
  ) fun p2 =>
  some p2
set_option maxRecDepth 20000 in
theorem k_Mo_sumOf (x1 : Int32) (x2 : Int32) (x3 : Int32) (h : hH) : hx_kP S0 M_Mo_sumOf 2 NT [(.ref 192), (.int x1), (.int x2), (.int x3)] h (f_Mo_sumOf x1 x2 x3 h) cvI := by
  have hm := m_Mo_sumOf
  show hx_P S0 M_Mo_sumOf 2 0 [(0, (.ref 192)), (1, (.int x1)), (2, (.int x2)), (3, (.int x3))] [] NT h (f_Mo_sumOf x1 x2 x3 h) (hx_Rp cvI NT h)
  unfold f_Mo_sumOf
  refine hp_b hm (at1 0 rfl) (L' := [(5, (.int x1)), (4, (.int (0 : Int32))), (0, (.ref 192)), (1, (.int x1)), (2, (.int x2)), (3, (.int x3))]) (st' := []) rfl (by exact trivial) (pc' := 6) rfl ?_
  refine hp_J 93 (fun (p2 : Int32) => [(4, (.int p2))]) (fun (p2 : Int32) => []) (fun (p2 : Int32) => h) ?_ (fun p2 => ?_)
  · refine hp_s [2, 4, 5, 1, 0] rfl (L' := [(0, (.ref 192)), (2, (.int x2)), (3, (.int x3)), (4, (.int (0 : Int32))), (5, (.int x1))]) ?_
    refine hp_wh (fun (p1 : (Int32 × Int32)) => [(0, (.ref 192)), (2, (.int x2)), (3, (.int x3)), (4, (.int p1.1)), (5, (.int p1.2))]) [] (fun (p1 : (Int32 × Int32)) => h) (fun p1 => ?_) ((0 : Int32), x1)
    refine hp_ic_ge hm (at1 1 rfl) rfl (by exact trivial) (pc' := 9) rfl 9 rfl (tgt := 93) rfl (fun c25 => ?_) (fun c25 => ?_)
    · exact hp_lf [3] rfl (fun _ e => e)
    · refine hp_b hm (at1 2 rfl) (L' := [(6, (.int (0 : Int32))), (0, (.ref 192)), (2, (.int x2)), (3, (.int x3)), (4, (.int p1.1)), (5, (.int p1.2))]) (st' := []) rfl (by exact trivial) (pc' := 15) rfl ?_
      refine hp_J 87 (fun (p4 : Int32) => [(0, (.ref 192)), (2, (.int x2)), (3, (.int x3)), (4, (.int p4)), (5, (.int p1.2))]) (fun (p4 : Int32) => []) (fun (p4 : Int32) => h) ?_ (fun p4 => ?_)
      · refine hp_s [1, 2, 3, 4, 5, 0] rfl (L' := [(0, (.ref 192)), (2, (.int x2)), (3, (.int x3)), (4, (.int p1.1)), (5, (.int p1.2)), (6, (.int (0 : Int32)))]) ?_
        refine hp_wh (fun (p3 : (Int32 × Int32)) => [(0, (.ref 192)), (2, (.int x2)), (3, (.int x3)), (4, (.int p3.1)), (5, (.int p1.2)), (6, (.int p3.2))]) [] (fun (p3 : (Int32 × Int32)) => h) (fun p3 => ?_) (p1.1, (0 : Int32))
        refine hp_ic_ge hm (at1 3 rfl) rfl (by exact trivial) (pc' := 18) rfl 7 rfl (tgt := 87) rfl (fun c23 => ?_) (fun c23 => ?_)
        · exact hp_lf [0, 1, 2, 3, 4] rfl (fun _ e => e)
        · refine hp_z hm (at1 4 rfl) (fun (v5 : Int32) => [(7, (.int v5)), (0, (.ref 192)), (2, (.int x2)), (3, (.int x3)), (4, (.int p3.1)), (5, (.int p1.2)), (6, (.int p3.2))]) (fun (v5 : Int32) => []) rfl (by exact trivial) (pc' := 28) rfl (fun v5 => ?_)
          refine hp_J 63 (fun (p6 : Int32) => [(0, (.ref 192)), (2, (.int x2)), (3, (.int x3)), (4, (.int p3.1)), (5, (.int p1.2)), (6, (.int p3.2))]) (fun (p6 : Int32) => [(.int p6)]) (fun (p6 : Int32) => h) ?_ (fun p6 => ?_)
          · refine hp_ic_ge hm (at1 5 rfl) rfl (by exact trivial) (pc' := 31) rfl 5 rfl (tgt := 62) rfl (fun c20 => ?_) (fun c20 => ?_)
            · refine hp_b hm (at1 6 rfl) (L' := [(7, (.int v5)), (0, (.ref 192)), (2, (.int x2)), (3, (.int x3)), (4, (.int p3.1)), (5, (.int p1.2)), (6, (.int p3.2))]) (st' := [(.int (0 : Int32))]) rfl (by exact trivial) (pc' := 63) rfl ?_
              exact hp_lf [1, 2, 3, 4, 5, 6] rfl (fun _ e => e)
            · refine hp_cO (L0 := [(7, (.int v5)), (0, (.ref 192)), (2, (.int x2)), (3, (.int x3)), (4, (.int p3.1)), (5, (.int p1.2)), (6, (.int p3.2))]) (s0 := []) 53 62 ?_ ?_ ?_
              · refine hp_ic_eq hm (at1 7 rfl) rfl (by exact trivial) (pc' := 36) rfl 2 rfl (tgt := 53) rfl (fun c12 => ?_) (fun c12 => ?_)
                · exact hp_l0 (fun _ e => e)
                · refine hp_cI (L0 := [(7, (.int v5)), (0, (.ref 192)), (2, (.int x2)), (3, (.int x3)), (4, (.int p3.1)), (5, (.int p1.2)), (6, (.int p3.2))]) (s0 := []) 53 62 ?_ (fun c11 => ?_) (fun c11 => ?_)
                  · refine hp_or ?_
                    refine hp_ic_lt hm (at1 8 rfl) rfl (by exact trivial) (pc' := 42) rfl 1 rfl (tgt := 53) rfl (fun c8 => ?_) (fun c8 => ?_)
                    · exact hp_l0 (fun _ e => e)
                    · refine hp_decn ?_
                      refine hp_ic_lt hm (at1 9 rfl) rfl (by exact trivial) (pc' := 50) rfl 0 rfl (tgt := 62) rfl (fun c7 => ?_) (fun c7 => ?_)
                      · exact hp_l0 (fun _ e => e)
                      · exact hp_l0 (fun _ e => e)
                  · exact hp_l0 (fun _ e => e)
                  · exact hp_l0 (fun _ e => e)
              · refine hp_cVP (M2 := M_Mo_u1) hm (at1 10 rfl) (as := [(.int v5)]) (rest := []) (z := 192) rfl (by exact trivial) (pc' := 56) rfl 3 rfl (lw_g (lw_at lw_m9 208 rfl) rfl) y_Mo_u1 rfl (d2 := 1) ⟨le_b rfl, pd_Mo_u1, le_b rfl⟩ (le_b rfl) og_192 (k_Mo_u1 v5 h) (fun a19 => ?_)
                refine hp_goto hm 4 rfl (tgt := 63) rfl ?_
                exact hp_lf [1, 2, 3, 4, 5, 6] rfl (fun _ e => e)
              · refine hp_b hm (at1 6 rfl) (L' := [(7, (.int v5)), (0, (.ref 192)), (2, (.int x2)), (3, (.int x3)), (4, (.int p3.1)), (5, (.int p1.2)), (6, (.int p3.2))]) (st' := [(.int (0 : Int32))]) rfl (by exact trivial) (pc' := 63) rfl ?_
                exact hp_lf [1, 2, 3, 4, 5, 6] rfl (fun _ e => e)
          · refine hp_z hm (at1 11 rfl) (fun (v21 : Int32) => [(4, (.int v21)), (8, (.int p6)), (0, (.ref 192)), (2, (.int x2)), (3, (.int x3)), (5, (.int p1.2)), (6, (.int p3.2))]) (fun (v21 : Int32) => []) rfl (by exact trivial) (pc' := 81) rfl (fun v21 => ?_)
            refine hp_z hm (at1 12 rfl) (fun (v22 : Int32) => [(6, (.int v22)), (4, (.int v21)), (8, (.int p6)), (0, (.ref 192)), (2, (.int x2)), (3, (.int x3)), (5, (.int p1.2))]) (fun (v22 : Int32) => []) rfl (by exact trivial) (pc' := 84) rfl (fun v22 => ?_)
            refine hp_goto hm 6 rfl (tgt := 15) rfl ?_
            exact hp_lf [3, 4, 5, 1, 6, 0] rfl (fun _ e => e)
      · refine hp_z hm (at1 13 rfl) (fun (v24 : Int32) => [(5, (.int v24)), (0, (.ref 192)), (2, (.int x2)), (3, (.int x3)), (4, (.int p4))]) (fun (v24 : Int32) => []) rfl (by exact trivial) (pc' := 90) rfl (fun v24 => ?_)
        refine hp_goto hm 8 rfl (tgt := 6) rfl ?_
        exact hp_lf [1, 2, 3, 4, 0] rfl (fun _ e => e)
  · exact hp_ir hm (at1 14 rfl) rfl (by exact trivial) (pc' := 95) rfl 10 rfl rfl (vp_nar_int _) (fun _ e => e)
/-! HintHouseModel.head()Z -/
def M_Mo_head : hM := (11, ⟨"HintHouseModel", "head", "()Z"⟩, prog_13_method_20_code, 3, (Option.some Jvm.ClassFile.FieldType.boolean), [], [(0, [(.aload_n 0, 1, 0, 0, 0, .null), (.ldc 234, 2, 0, 0, 0, (.int (1751474532 : Int32)))]), (6, [(.istore_n 1, 1, 0, 0, 0, .null), (.aload_n 0, 1, 0, 0, 0, .null), (.aload_n 0, 1, 0, 0, 0, .null), (.iload_n 1, 1, 0, 0, 0, .null), (.bipush 18, 2, 0, 0, 0, (.int (18 : Int32))), (.iadd, 1, 0, 0, 0, .null)]), (16, [(.putfield 302, 3, 11, 10, 0, .null)]), (19, [(.aload_n 0, 1, 0, 0, 0, .null), (.aload_n 0, 1, 0, 0, 0, .null), (.iload_n 1, 1, 0, 0, 0, .null), (.bipush 50, 2, 0, 0, 0, (.int (50 : Int32))), (.iadd, 1, 0, 0, 0, .null)]), (28, [(.putfield 271, 3, 11, 11, 0, .null)]), (31, [(.aload_n 0, 1, 0, 0, 0, .null), (.ldc 234, 2, 0, 0, 0, (.int (1751474532 : Int32)))]), (37, [(.bipush 54, 2, 0, 0, 0, (.int (54 : Int32)))]), (114, [(.iconst 0, 1, 0, 0, 0, (.int (0 : Int32)))]), (42, [(.aload_n 0, 1, 0, 0, 0, .null), (.iload_n 1, 1, 0, 0, 0, .null)]), (47, [(.ldc2_w 300, 3, 0, 0, 0, (.long (65536 : Int64))), (.lcmp, 1, 0, 0, 0, .null)]), (54, [(.aload_n 0, 1, 0, 0, 0, .null), (.iload_n 1, 1, 0, 0, 0, .null), (.bipush 12, 2, 0, 0, 0, (.int (12 : Int32))), (.iadd, 1, 0, 0, 0, .null)]), (62, [(.ldc2_w 308, 3, 0, 0, 0, (.long (1594834165 : Int64))), (.lcmp, 1, 0, 0, 0, .null)]), (69, [(.aload_n 0, 1, 0, 0, 0, .null), (.getfield 302, 3, 11, 10, 0, .null), (.i2l, 1, 0, 0, 0, .null), (.ldc2_w 232, 3, 0, 0, 0, (.long (16 : Int64))), (.ldc2_w 310, 3, 0, 0, 0, (.long (16384 : Int64)))]), (86, [(.aload_n 0, 1, 0, 0, 0, .null), (.getfield 271, 3, 11, 11, 0, .null), (.i2l, 1, 0, 0, 0, .null), (.lconst 0, 1, 0, 0, 0, (.long (0 : Int64))), (.lconst 1, 1, 0, 0, 0, (.long (1 : Int64)))]), (99, [(.aload_n 0, 1, 0, 0, 0, .null), (.iload_n 1, 1, 0, 0, 0, .null), (.bipush 52, 2, 0, 0, 0, (.int (52 : Int32))), (.iadd, 1, 0, 0, 0, .null)]), (110, [(.iconst 1, 1, 0, 0, 0, (.int (1 : Int32)))]), (115, [(.istore_n 2, 1, 0, 0, 0, .null), (.iload_n 2, 1, 0, 0, 0, .null)]), (153, [(.iconst 0, 1, 0, 0, 0, (.int (0 : Int32)))]), (120, [(.aload_n 0, 1, 0, 0, 0, .null), (.iconst 0, 1, 0, 0, 0, (.int (0 : Int32))), (.aload_n 0, 1, 0, 0, 0, .null), (.getfield 206, 3, 11, 3, 0, .null), (.iload_n 1, 1, 0, 0, 0, .null), (.bipush 8, 2, 0, 0, 0, (.int (8 : Int32))), (.iadd, 1, 0, 0, 0, .null)]), (133, [(.aload_n 0, 1, 0, 0, 0, .null), (.iload_n 1, 1, 0, 0, 0, .null), (.bipush 8, 2, 0, 0, 0, (.int (8 : Int32))), (.iadd, 1, 0, 0, 0, .null)]), (141, [(.l2i, 1, 0, 0, 0, .null), (.iadd, 1, 0, 0, 0, .null), (.ldc_w 312, 3, 0, 0, 0, (.int (-1313820742 : Int32)))]), (149, [(.iconst 1, 1, 0, 0, 0, (.int (1 : Int32)))])], [(3, .invokevirtual 251, 3), (13, .invokevirtual 213, 3), (25, .invokevirtual 305, 3), (34, .invokevirtual 257, 3), (44, .invokevirtual 297, 3), (59, .invokevirtual 297, 3), (80, .invokestatic 263, 3), (93, .invokestatic 263, 3), (104, .invokevirtual 305, 3), (111, .goto 4, 3), (107, .ifCond .ne 7, 3), (96, .ifCond .eq 18, 3), (83, .ifCond .eq 31, 3), (66, .ifCond .ne 48, 3), (51, .ifCond .ne 63, 3), (39, .if_icmp .ne 75, 3), (154, .ireturn, 1), (130, .invokevirtual 235, 3), (138, .invokevirtual 297, 3), (150, .goto 4, 3), (146, .if_icmp .ne 7, 3), (117, .ifCond .eq 36, 3)])
set_option maxRecDepth 100000 in
theorem m_Mo_head : hx_mok M_Mo_head = true := by decide +kernel
theorem pd_Mo_head : (parseMethodDescriptor M_Mo_head.2.1.desc).map (fun q => q.parameters.length) = some 0 := by decide +kernel
theorem y_Mo_head : hx_okV M_Mo_head := ⟨⟨lw_g (lw_at lw_m11 190 rfl) rfl, lw_g (lw_at lw_m11 189 rfl) rfl, qs212, lw_g (lw_at lw_m1 12 rfl) rfl, rfl, by decide, by decide, by decide⟩, rfl, by decide, plainFor_of_name (by decide)⟩
noncomputable def f_Mo_head (h : hH) : Option (Int32 × hH) :=
  bP (f_Mo_beginOf (1751474532 : Int32) h) fun a1 =>
  bP (f_Mo_u2 (a1 + (18 : Int32)) h) fun a2 =>
  lz (wrI h 192 10 a2) fun h1 =>
  bP (f_Mo_s2 (a1 + (50 : Int32)) h1) fun a3 =>
  lz (wrI h1 192 11 a3) fun h2 =>
  bP (f_Mo_lengthOf (1751474532 : Int32) h2) fun a4 =>
  bP (A := Int32) (
    if a4 = (54 : Int32) then (
      bP (f_Mo_u4 a1 h2) fun a6 =>
      if a6 = (65536 : Int64) then (
        bP (f_Mo_u4 (a1 + (12 : Int32)) h2) fun a7 =>
        if a7 = (1594834165 : Int64) then (
          bP (f_Mo_in (Int32.toInt64 (rdI h2 192 10)) (16 : Int64) (16384 : Int64)) fun a8 =>
          if a8 = 0 then (
            some (0 : Int32)
          ) else (
            bP (f_Mo_in (Int32.toInt64 (rdI h2 192 11)) (0 : Int64) (1 : Int64)) fun a9 =>
            if a9 = 0 then (
              some (0 : Int32)
            ) else (
              bP (f_Mo_s2 (a1 + (52 : Int32)) h2) fun a10 =>
              if a10 = 0 then (
                some (1 : Int32)
              ) else (
                some (0 : Int32)
              )
            )
          )
        ) else (
          some (0 : Int32)
        )
      ) else (
        some (0 : Int32)
      )
    ) else (
      some (0 : Int32)
    )
  ) fun p5 =>
  if p5 = 0 then (
    some ((0 : Int32), h2)
  ) else (
    bP (f_Mo_sumOf (0 : Int32) (rdI h2 192 3) (a1 + (8 : Int32)) h2) fun a17 =>
    bP (f_Mo_u4 (a1 + (8 : Int32)) h2) fun a18 =>
    if (a17 + (Int64.toInt32 a18)) = (-1313820742 : Int32) then (
      some ((1 : Int32), h2)
    ) else (
      some ((0 : Int32), h2)
    )
  )
set_option maxRecDepth 20000 in
theorem k_Mo_head (h : hH) : hx_kS S0 M_Mo_head 4 NT [(.ref 192)] h (f_Mo_head h) cvI := by
  have hm := m_Mo_head
  show hx_P S0 M_Mo_head 4 0 [(0, (.ref 192))] [] NT h (f_Mo_head h) (hx_Rc cvI NT)
  unfold f_Mo_head
  refine hp_cVP (M2 := M_Mo_beginOf) hm (at1 0 rfl) (as := [(.int (1751474532 : Int32))]) (rest := []) (z := 192) rfl (by exact trivial) (pc' := 3) rfl 0 rfl (lw_g (lw_at lw_m9 192 rfl) rfl) y_Mo_beginOf rfl (d2 := 2) ⟨le_b rfl, pd_Mo_beginOf, le_b rfl⟩ (le_b rfl) og_192 (k_Mo_beginOf (1751474532 : Int32) h) (fun a1 => ?_)
  refine hp_b hm (at1 1 rfl) (L' := [(1, (.int a1)), (0, (.ref 192))]) (st' := [(.int (a1 + (18 : Int32))), (.ref 192), (.ref 192)]) rfl (by exact trivial) (pc' := 13) rfl ?_
  refine hp_cVP (M2 := M_Mo_u2) hm at0 (as := [(.int (a1 + (18 : Int32)))]) (rest := [(.ref 192)]) (z := 192) rfl (by exact trivial) (pc' := 13) rfl 1 rfl (lw_g (lw_at lw_m9 204 rfl) rfl) y_Mo_u2 rfl (d2 := 2) ⟨le_b rfl, pd_Mo_u2, le_b rfl⟩ (le_b rfl) og_192 (k_Mo_u2 (a1 + (18 : Int32)) h) (fun a2 => ?_)
  refine hp_w hm (at1 2 rfl) (L' := [(1, (.int a1)), (0, (.ref 192))]) rfl (by exact og_192) (pc' := 19) rfl (fun h1 => ?_)
  refine hp_cVP (M2 := M_Mo_s2) hm (at1 3 rfl) (as := [(.int (a1 + (50 : Int32)))]) (rest := [(.ref 192)]) (z := 192) rfl (by exact trivial) (pc' := 25) rfl 2 rfl (lw_g (lw_at lw_m9 200 rfl) rfl) y_Mo_s2 rfl (d2 := 3) ⟨le_b rfl, pd_Mo_s2, le_b rfl⟩ (le_b rfl) og_192 (k_Mo_s2 (a1 + (50 : Int32)) h1) (fun a3 => ?_)
  refine hp_w hm (at1 4 rfl) (L' := [(1, (.int a1)), (0, (.ref 192))]) rfl (by exact og_192) (pc' := 31) rfl (fun h2 => ?_)
  refine hp_cVP (M2 := M_Mo_lengthOf) hm (at1 5 rfl) (as := [(.int (1751474532 : Int32))]) (rest := []) (z := 192) rfl (by exact trivial) (pc' := 34) rfl 3 rfl (lw_g (lw_at lw_m9 228 rfl) rfl) y_Mo_lengthOf rfl (d2 := 2) ⟨le_b rfl, pd_Mo_lengthOf, le_b rfl⟩ (le_b rfl) og_192 (k_Mo_lengthOf (1751474532 : Int32) h2) (fun a4 => ?_)
  refine hp_J 115 (fun (p5 : Int32) => [(0, (.ref 192)), (1, (.int a1))]) (fun (p5 : Int32) => [(.int p5)]) (fun (p5 : Int32) => h2) ?_ (fun p5 => ?_)
  · refine hp_ic_ne hm (at1 6 rfl) rfl (by exact trivial) (pc' := 39) rfl 15 rfl (tgt := 114) rfl (fun c16 => ?_) (fun c16 => ?_)
    · refine hp_b hm (at1 7 rfl) (L' := [(1, (.int a1)), (0, (.ref 192))]) (st' := [(.int (0 : Int32))]) rfl (by exact trivial) (pc' := 115) rfl ?_
      exact hp_lf [1, 0] rfl (fun _ e => e)
    · refine hp_cVP (M2 := M_Mo_u4) hm (at1 8 rfl) (as := [(.int a1)]) (rest := []) (z := 192) rfl (by exact trivial) (pc' := 44) rfl 4 rfl (lw_g (lw_at lw_m11 18 rfl) rfl) y_Mo_u4 rfl (d2 := 3) ⟨le_b rfl, pd_Mo_u4, le_b rfl⟩ (le_b rfl) og_192 (k_Mo_u4 a1 h2) (fun a6 => ?_)
      refine hp_lc_ne hm (at1 9 rfl) rfl (by exact trivial) (pc' := 51) rfl 14 rfl (tgt := 114) rfl (fun c15 => ?_) (fun c15 => ?_)
      · refine hp_b hm (at1 7 rfl) (L' := [(1, (.int a1)), (0, (.ref 192))]) (st' := [(.int (0 : Int32))]) rfl (by exact trivial) (pc' := 115) rfl ?_
        exact hp_lf [1, 0] rfl (fun _ e => e)
      · refine hp_cVP (M2 := M_Mo_u4) hm (at1 10 rfl) (as := [(.int (a1 + (12 : Int32)))]) (rest := []) (z := 192) rfl (by exact trivial) (pc' := 59) rfl 5 rfl (lw_g (lw_at lw_m11 18 rfl) rfl) y_Mo_u4 rfl (d2 := 3) ⟨le_b rfl, pd_Mo_u4, le_b rfl⟩ (le_b rfl) og_192 (k_Mo_u4 (a1 + (12 : Int32)) h2) (fun a7 => ?_)
        refine hp_lc_ne hm (at1 11 rfl) rfl (by exact trivial) (pc' := 66) rfl 13 rfl (tgt := 114) rfl (fun c14 => ?_) (fun c14 => ?_)
        · refine hp_b hm (at1 7 rfl) (L' := [(1, (.int a1)), (0, (.ref 192))]) (st' := [(.int (0 : Int32))]) rfl (by exact trivial) (pc' := 115) rfl ?_
          exact hp_lf [1, 0] rfl (fun _ e => e)
        · refine hp_cSP (M2 := M_Mo_in) hm (at1 12 rfl) (as := [(.long (Int32.toInt64 (rdI h2 192 10))), (.long (16 : Int64)), (.long (16384 : Int64))]) (rest := []) rfl (by exact og_192) (pc' := 80) rfl 6 rfl (lw_g (lw_at lw_m9 184 rfl) rfl) y_Mo_in rfl (d2 := 1) ⟨le_b rfl, pd_Mo_in, le_b rfl⟩ (le_b rfl) (k_Mo_in (Int32.toInt64 (rdI h2 192 10)) (16 : Int64) (16384 : Int64) h2) (fun a8 => ?_)
          refine hp_if_eq hm at0 rfl (by exact trivial) (pc' := 83) rfl 12 rfl (tgt := 114) rfl (fun c13 => ?_) (fun c13 => ?_)
          · refine hp_b hm (at1 7 rfl) (L' := [(1, (.int a1)), (0, (.ref 192))]) (st' := [(.int (0 : Int32))]) rfl (by exact trivial) (pc' := 115) rfl ?_
            exact hp_lf [1, 0] rfl (fun _ e => e)
          · refine hp_cSP (M2 := M_Mo_in) hm (at1 13 rfl) (as := [(.long (Int32.toInt64 (rdI h2 192 11))), (.long (0 : Int64)), (.long (1 : Int64))]) (rest := []) rfl (by exact og_192) (pc' := 93) rfl 7 rfl (lw_g (lw_at lw_m9 184 rfl) rfl) y_Mo_in rfl (d2 := 1) ⟨le_b rfl, pd_Mo_in, le_b rfl⟩ (le_b rfl) (k_Mo_in (Int32.toInt64 (rdI h2 192 11)) (0 : Int64) (1 : Int64) h2) (fun a9 => ?_)
            refine hp_if_eq hm at0 rfl (by exact trivial) (pc' := 96) rfl 11 rfl (tgt := 114) rfl (fun c12 => ?_) (fun c12 => ?_)
            · refine hp_b hm (at1 7 rfl) (L' := [(1, (.int a1)), (0, (.ref 192))]) (st' := [(.int (0 : Int32))]) rfl (by exact trivial) (pc' := 115) rfl ?_
              exact hp_lf [1, 0] rfl (fun _ e => e)
            · refine hp_cVP (M2 := M_Mo_s2) hm (at1 14 rfl) (as := [(.int (a1 + (52 : Int32)))]) (rest := []) (z := 192) rfl (by exact trivial) (pc' := 104) rfl 8 rfl (lw_g (lw_at lw_m9 200 rfl) rfl) y_Mo_s2 rfl (d2 := 3) ⟨le_b rfl, pd_Mo_s2, le_b rfl⟩ (le_b rfl) og_192 (k_Mo_s2 (a1 + (52 : Int32)) h2) (fun a10 => ?_)
              refine hp_if_ne hm at0 rfl (by exact trivial) (pc' := 107) rfl 10 rfl (tgt := 114) rfl (fun c11 => ?_) (fun c11 => ?_)
              · refine hp_b hm (at1 7 rfl) (L' := [(1, (.int a1)), (0, (.ref 192))]) (st' := [(.int (0 : Int32))]) rfl (by exact trivial) (pc' := 115) rfl ?_
                exact hp_lf [1, 0] rfl (fun _ e => e)
              · refine hp_b hm (at1 15 rfl) (L' := [(1, (.int a1)), (0, (.ref 192))]) (st' := [(.int (1 : Int32))]) rfl (by exact trivial) (pc' := 111) rfl ?_
                refine hp_goto hm 9 rfl (tgt := 115) rfl ?_
                exact hp_lf [1, 0] rfl (fun _ e => e)
  · refine hp_b hm (at1 16 rfl) (L' := [(2, (.int p5)), (0, (.ref 192)), (1, (.int a1))]) (st' := [(.int p5)]) rfl (by exact trivial) (pc' := 117) rfl ?_
    refine hp_if_eq hm at0 rfl (by exact trivial) (pc' := 117) rfl 21 rfl (tgt := 153) rfl (fun c20 => ?_) (fun c20 => ?_)
    · refine hp_b hm (at1 17 rfl) (L' := [(2, (.int p5)), (0, (.ref 192)), (1, (.int a1))]) (st' := [(.int (0 : Int32))]) rfl (by exact trivial) (pc' := 154) rfl ?_
      exact hp_ir hm at0 rfl (by exact trivial) (pc' := 154) rfl 16 rfl rfl rfl (fun _ e => e)
    · refine hp_cVP (M2 := M_Mo_sumOf) hm (at1 18 rfl) (as := [(.int (0 : Int32)), (.int (rdI h2 192 3)), (.int (a1 + (8 : Int32)))]) (rest := []) (z := 192) rfl (by exact og_192) (pc' := 130) rfl 17 rfl (lw_g (lw_at lw_m11 180 rfl) rfl) y_Mo_sumOf rfl (d2 := 2) ⟨le_b rfl, pd_Mo_sumOf, le_b rfl⟩ (le_b rfl) og_192 (k_Mo_sumOf (0 : Int32) (rdI h2 192 3) (a1 + (8 : Int32)) h2) (fun a17 => ?_)
      refine hp_cVP (M2 := M_Mo_u4) hm (at1 19 rfl) (as := [(.int (a1 + (8 : Int32)))]) (rest := [(.int a17)]) (z := 192) rfl (by exact trivial) (pc' := 138) rfl 18 rfl (lw_g (lw_at lw_m11 18 rfl) rfl) y_Mo_u4 rfl (d2 := 3) ⟨le_b rfl, pd_Mo_u4, le_b rfl⟩ (le_b rfl) og_192 (k_Mo_u4 (a1 + (8 : Int32)) h2) (fun a18 => ?_)
      refine hp_ic_ne hm (at1 20 rfl) rfl (by exact trivial) (pc' := 146) rfl 20 rfl (tgt := 153) rfl (fun c19 => ?_) (fun c19 => ?_)
      · refine hp_b hm (at1 17 rfl) (L' := [(2, (.int p5)), (0, (.ref 192)), (1, (.int a1))]) (st' := [(.int (0 : Int32))]) rfl (by exact trivial) (pc' := 154) rfl ?_
        exact hp_ir hm at0 rfl (by exact trivial) (pc' := 154) rfl 16 rfl rfl rfl (fun _ e => e)
      · refine hp_b hm (at1 21 rfl) (L' := [(2, (.int p5)), (0, (.ref 192)), (1, (.int a1))]) (st' := [(.int (1 : Int32))]) rfl (by exact trivial) (pc' := 150) rfl ?_
        refine hp_goto hm 19 rfl (tgt := 154) rfl ?_
        exact hp_ir hm at0 rfl (by exact trivial) (pc' := 154) rfl 16 rfl rfl rfl (fun _ e => e)
/-! HintHouseModel.maxp()Z -/
def M_Mo_maxp : hM := (11, ⟨"HintHouseModel", "maxp", "()Z"⟩, prog_13_method_21_code, 3, (Option.some Jvm.ClassFile.FieldType.boolean), [], [(0, [(.aload_n 0, 1, 0, 0, 0, .null), (.ldc 244, 2, 0, 0, 0, (.int (1835104368 : Int32)))]), (6, [(.istore_n 1, 1, 0, 0, 0, .null), (.aload_n 0, 1, 0, 0, 0, .null), (.aload_n 0, 1, 0, 0, 0, .null), (.iload_n 1, 1, 0, 0, 0, .null), (.iconst 4, 1, 0, 0, 0, (.int (4 : Int32))), (.iadd, 1, 0, 0, 0, .null)]), (15, [(.putfield 260, 3, 11, 12, 0, .null)]), (18, [(.aload_n 0, 1, 0, 0, 0, .null), (.aload_n 0, 1, 0, 0, 0, .null), (.iload_n 1, 1, 0, 0, 0, .null), (.bipush 14, 2, 0, 0, 0, (.int (14 : Int32))), (.iadd, 1, 0, 0, 0, .null)]), (27, [(.putfield 313, 3, 11, 13, 0, .null)]), (30, [(.aload_n 0, 1, 0, 0, 0, .null), (.aload_n 0, 1, 0, 0, 0, .null), (.iload_n 1, 1, 0, 0, 0, .null), (.bipush 16, 2, 0, 0, 0, (.int (16 : Int32))), (.iadd, 1, 0, 0, 0, .null)]), (39, [(.putfield 316, 3, 11, 14, 0, .null)]), (42, [(.aload_n 0, 1, 0, 0, 0, .null), (.aload_n 0, 1, 0, 0, 0, .null), (.iload_n 1, 1, 0, 0, 0, .null), (.bipush 18, 2, 0, 0, 0, (.int (18 : Int32))), (.iadd, 1, 0, 0, 0, .null)]), (51, [(.putfield 319, 3, 11, 15, 0, .null)]), (54, [(.aload_n 0, 1, 0, 0, 0, .null), (.aload_n 0, 1, 0, 0, 0, .null), (.iload_n 1, 1, 0, 0, 0, .null), (.bipush 20, 2, 0, 0, 0, (.int (20 : Int32))), (.iadd, 1, 0, 0, 0, .null)]), (63, [(.putfield 322, 3, 11, 16, 0, .null)]), (66, [(.aload_n 0, 1, 0, 0, 0, .null), (.aload_n 0, 1, 0, 0, 0, .null), (.iload_n 1, 1, 0, 0, 0, .null), (.bipush 22, 2, 0, 0, 0, (.int (22 : Int32))), (.iadd, 1, 0, 0, 0, .null)]), (75, [(.putfield 325, 3, 11, 17, 0, .null)]), (78, [(.aload_n 0, 1, 0, 0, 0, .null), (.aload_n 0, 1, 0, 0, 0, .null), (.iload_n 1, 1, 0, 0, 0, .null), (.bipush 24, 2, 0, 0, 0, (.int (24 : Int32))), (.iadd, 1, 0, 0, 0, .null)]), (87, [(.putfield 328, 3, 11, 18, 0, .null)]), (90, [(.aload_n 0, 1, 0, 0, 0, .null), (.aload_n 0, 1, 0, 0, 0, .null), (.iload_n 1, 1, 0, 0, 0, .null), (.bipush 30, 2, 0, 0, 0, (.int (30 : Int32))), (.iadd, 1, 0, 0, 0, .null)]), (99, [(.putfield 331, 3, 11, 19, 0, .null)]), (102, [(.aload_n 0, 1, 0, 0, 0, .null), (.ldc 244, 2, 0, 0, 0, (.int (1835104368 : Int32)))]), (108, [(.bipush 32, 2, 0, 0, 0, (.int (32 : Int32)))]), (249, [(.iconst 0, 1, 0, 0, 0, (.int (0 : Int32)))]), (113, [(.aload_n 0, 1, 0, 0, 0, .null), (.iload_n 1, 1, 0, 0, 0, .null)]), (118, [(.ldc2_w 300, 3, 0, 0, 0, (.long (65536 : Int64))), (.lcmp, 1, 0, 0, 0, .null)]), (125, [(.aload_n 0, 1, 0, 0, 0, .null), (.getfield 260, 3, 11, 12, 0, .null), (.i2l, 1, 0, 0, 0, .null), (.lconst 1, 1, 0, 0, 0, (.long (1 : Int64))), (.ldc2_w 334, 3, 0, 0, 0, (.long (200 : Int64)))]), (140, [(.aload_n 0, 1, 0, 0, 0, .null), (.getfield 313, 3, 11, 13, 0, .null), (.i2l, 1, 0, 0, 0, .null), (.lconst 1, 1, 0, 0, 0, (.long (1 : Int64))), (.ldc2_w 336, 3, 0, 0, 0, (.long (2 : Int64)))]), (155, [(.aload_n 0, 1, 0, 0, 0, .null), (.getfield 316, 3, 11, 14, 0, .null), (.i2l, 1, 0, 0, 0, .null), (.lconst 0, 1, 0, 0, 0, (.long (0 : Int64))), (.ldc2_w 338, 3, 0, 0, 0, (.long (64 : Int64)))]), (170, [(.aload_n 0, 1, 0, 0, 0, .null), (.getfield 319, 3, 11, 15, 0, .null), (.i2l, 1, 0, 0, 0, .null), (.lconst 0, 1, 0, 0, 0, (.long (0 : Int64))), (.ldc2_w 338, 3, 0, 0, 0, (.long (64 : Int64)))]), (185, [(.aload_n 0, 1, 0, 0, 0, .null), (.getfield 322, 3, 11, 16, 0, .null), (.i2l, 1, 0, 0, 0, .null), (.lconst 0, 1, 0, 0, 0, (.long (0 : Int64))), (.ldc2_w 338, 3, 0, 0, 0, (.long (64 : Int64)))]), (200, [(.aload_n 0, 1, 0, 0, 0, .null), (.getfield 325, 3, 11, 17, 0, .null), (.i2l, 1, 0, 0, 0, .null), (.lconst 0, 1, 0, 0, 0, (.long (0 : Int64))), (.ldc2_w 232, 3, 0, 0, 0, (.long (16 : Int64)))]), (215, [(.aload_n 0, 1, 0, 0, 0, .null), (.getfield 328, 3, 11, 18, 0, .null), (.i2l, 1, 0, 0, 0, .null), (.lconst 0, 1, 0, 0, 0, (.long (0 : Int64))), (.ldc2_w 340, 3, 0, 0, 0, (.long (256 : Int64)))]), (230, [(.aload_n 0, 1, 0, 0, 0, .null), (.getfield 331, 3, 11, 19, 0, .null), (.i2l, 1, 0, 0, 0, .null), (.lconst 0, 1, 0, 0, 0, (.long (0 : Int64))), (.ldc2_w 228, 3, 0, 0, 0, (.long (4 : Int64)))]), (245, [(.iconst 1, 1, 0, 0, 0, (.int (1 : Int32)))]), (250, [(.istore_n 2, 1, 0, 0, 0, .null), (.iload_n 2, 1, 0, 0, 0, .null)]), (274, [(.iconst 0, 1, 0, 0, 0, (.int (0 : Int32)))]), (255, [(.aload_n 0, 1, 0, 0, 0, .null), (.getfield 313, 3, 11, 13, 0, .null), (.iconst 2, 1, 0, 0, 0, (.int (2 : Int32)))]), (270, [(.iconst 1, 1, 0, 0, 0, (.int (1 : Int32)))]), (263, [(.aload_n 0, 1, 0, 0, 0, .null), (.getfield 316, 3, 11, 14, 0, .null)])], [(3, .invokevirtual 251, 3), (12, .invokevirtual 213, 3), (24, .invokevirtual 213, 3), (36, .invokevirtual 213, 3), (48, .invokevirtual 213, 3), (60, .invokevirtual 213, 3), (72, .invokevirtual 213, 3), (84, .invokevirtual 213, 3), (96, .invokevirtual 213, 3), (105, .invokevirtual 257, 3), (115, .invokevirtual 297, 3), (134, .invokestatic 263, 3), (149, .invokestatic 263, 3), (164, .invokestatic 263, 3), (179, .invokestatic 263, 3), (194, .invokestatic 263, 3), (209, .invokestatic 263, 3), (224, .invokestatic 263, 3), (239, .invokestatic 263, 3), (246, .goto 4, 3), (242, .ifCond .eq 7, 3), (227, .ifCond .eq 22, 3), (212, .ifCond .eq 37, 3), (197, .ifCond .eq 52, 3), (182, .ifCond .eq 67, 3), (167, .ifCond .eq 82, 3), (152, .ifCond .eq 97, 3), (137, .ifCond .eq 112, 3), (122, .ifCond .ne 127, 3), (110, .if_icmp .ne 139, 3), (275, .ireturn, 1), (271, .goto 4, 3), (267, .ifCond .ne 7, 3), (260, .if_icmp .eq 10, 3), (252, .ifCond .eq 22, 3)])
set_option maxRecDepth 100000 in
theorem m_Mo_maxp : hx_mok M_Mo_maxp = true := by decide +kernel
theorem pd_Mo_maxp : (parseMethodDescriptor M_Mo_maxp.2.1.desc).map (fun q => q.parameters.length) = some 0 := by decide +kernel
theorem y_Mo_maxp : hx_okV M_Mo_maxp := ⟨⟨lw_g (lw_at lw_m11 196 rfl) rfl, lw_g (lw_at lw_m11 195 rfl) rfl, qs213, lw_g (lw_at lw_m1 12 rfl) rfl, rfl, by decide, by decide, by decide⟩, rfl, by decide, plainFor_of_name (by decide)⟩
noncomputable def f_Mo_maxp (h : hH) : Option (Int32 × hH) :=
  bP (f_Mo_beginOf (1835104368 : Int32) h) fun a1 =>
  bP (f_Mo_u2 (a1 + (4 : Int32)) h) fun a2 =>
  lz (wrI h 192 12 a2) fun h1 =>
  bP (f_Mo_u2 (a1 + (14 : Int32)) h1) fun a3 =>
  lz (wrI h1 192 13 a3) fun h2 =>
  bP (f_Mo_u2 (a1 + (16 : Int32)) h2) fun a4 =>
  lz (wrI h2 192 14 a4) fun h3 =>
  bP (f_Mo_u2 (a1 + (18 : Int32)) h3) fun a5 =>
  lz (wrI h3 192 15 a5) fun h4 =>
  bP (f_Mo_u2 (a1 + (20 : Int32)) h4) fun a6 =>
  lz (wrI h4 192 16 a6) fun h5 =>
  bP (f_Mo_u2 (a1 + (22 : Int32)) h5) fun a7 =>
  lz (wrI h5 192 17 a7) fun h6 =>
  bP (f_Mo_u2 (a1 + (24 : Int32)) h6) fun a8 =>
  lz (wrI h6 192 18 a8) fun h7 =>
  bP (f_Mo_u2 (a1 + (30 : Int32)) h7) fun a9 =>
  lz (wrI h7 192 19 a9) fun h8 =>
  bP (f_Mo_lengthOf (1835104368 : Int32) h8) fun a10 =>
  bP (A := Int32) (
    if a10 = (32 : Int32) then (
      bP (f_Mo_u4 a1 h8) fun a12 =>
      if a12 = (65536 : Int64) then (
        bP (f_Mo_in (Int32.toInt64 (rdI h8 192 12)) (1 : Int64) (200 : Int64)) fun a13 =>
        if a13 = 0 then (
          some (0 : Int32)
        ) else (
          bP (f_Mo_in (Int32.toInt64 (rdI h8 192 13)) (1 : Int64) (2 : Int64)) fun a14 =>
          if a14 = 0 then (
            some (0 : Int32)
          ) else (
            bP (f_Mo_in (Int32.toInt64 (rdI h8 192 14)) (0 : Int64) (64 : Int64)) fun a15 =>
            if a15 = 0 then (
              some (0 : Int32)
            ) else (
              bP (f_Mo_in (Int32.toInt64 (rdI h8 192 15)) (0 : Int64) (64 : Int64)) fun a16 =>
              if a16 = 0 then (
                some (0 : Int32)
              ) else (
                bP (f_Mo_in (Int32.toInt64 (rdI h8 192 16)) (0 : Int64) (64 : Int64)) fun a17 =>
                if a17 = 0 then (
                  some (0 : Int32)
                ) else (
                  bP (f_Mo_in (Int32.toInt64 (rdI h8 192 17)) (0 : Int64) (16 : Int64)) fun a18 =>
                  if a18 = 0 then (
                    some (0 : Int32)
                  ) else (
                    bP (f_Mo_in (Int32.toInt64 (rdI h8 192 18)) (0 : Int64) (256 : Int64)) fun a19 =>
                    if a19 = 0 then (
                      some (0 : Int32)
                    ) else (
                      bP (f_Mo_in (Int32.toInt64 (rdI h8 192 19)) (0 : Int64) (4 : Int64)) fun a20 =>
                      if a20 = 0 then (
                        some (0 : Int32)
                      ) else (
                        some (1 : Int32)
                      )
                    )
                  )
                )
              )
            )
          )
        )
      ) else (
        some (0 : Int32)
      )
    ) else (
      some (0 : Int32)
    )
  ) fun p11 =>
  if p11 = 0 then (
    some ((0 : Int32), h8)
  ) else (
    if (rdI h8 192 13) = (2 : Int32) then (
      some ((1 : Int32), h8)
    ) else (
      if (rdI h8 192 14) = 0 then (
        some ((1 : Int32), h8)
      ) else (
        some ((0 : Int32), h8)
      )
    )
  )
set_option maxRecDepth 20000 in
theorem k_Mo_maxp (h : hH) : hx_kS S0 M_Mo_maxp 4 NT [(.ref 192)] h (f_Mo_maxp h) cvI := by
  have hm := m_Mo_maxp
  show hx_P S0 M_Mo_maxp 4 0 [(0, (.ref 192))] [] NT h (f_Mo_maxp h) (hx_Rc cvI NT)
  unfold f_Mo_maxp
  refine hp_cVP (M2 := M_Mo_beginOf) hm (at1 0 rfl) (as := [(.int (1835104368 : Int32))]) (rest := []) (z := 192) rfl (by exact trivial) (pc' := 3) rfl 0 rfl (lw_g (lw_at lw_m9 192 rfl) rfl) y_Mo_beginOf rfl (d2 := 2) ⟨le_b rfl, pd_Mo_beginOf, le_b rfl⟩ (le_b rfl) og_192 (k_Mo_beginOf (1835104368 : Int32) h) (fun a1 => ?_)
  refine hp_b hm (at1 1 rfl) (L' := [(1, (.int a1)), (0, (.ref 192))]) (st' := [(.int (a1 + (4 : Int32))), (.ref 192), (.ref 192)]) rfl (by exact trivial) (pc' := 12) rfl ?_
  refine hp_cVP (M2 := M_Mo_u2) hm at0 (as := [(.int (a1 + (4 : Int32)))]) (rest := [(.ref 192)]) (z := 192) rfl (by exact trivial) (pc' := 12) rfl 1 rfl (lw_g (lw_at lw_m9 204 rfl) rfl) y_Mo_u2 rfl (d2 := 2) ⟨le_b rfl, pd_Mo_u2, le_b rfl⟩ (le_b rfl) og_192 (k_Mo_u2 (a1 + (4 : Int32)) h) (fun a2 => ?_)
  refine hp_w hm (at1 2 rfl) (L' := [(1, (.int a1)), (0, (.ref 192))]) rfl (by exact og_192) (pc' := 18) rfl (fun h1 => ?_)
  refine hp_cVP (M2 := M_Mo_u2) hm (at1 3 rfl) (as := [(.int (a1 + (14 : Int32)))]) (rest := [(.ref 192)]) (z := 192) rfl (by exact trivial) (pc' := 24) rfl 2 rfl (lw_g (lw_at lw_m9 204 rfl) rfl) y_Mo_u2 rfl (d2 := 2) ⟨le_b rfl, pd_Mo_u2, le_b rfl⟩ (le_b rfl) og_192 (k_Mo_u2 (a1 + (14 : Int32)) h1) (fun a3 => ?_)
  refine hp_w hm (at1 4 rfl) (L' := [(1, (.int a1)), (0, (.ref 192))]) rfl (by exact og_192) (pc' := 30) rfl (fun h2 => ?_)
  refine hp_cVP (M2 := M_Mo_u2) hm (at1 5 rfl) (as := [(.int (a1 + (16 : Int32)))]) (rest := [(.ref 192)]) (z := 192) rfl (by exact trivial) (pc' := 36) rfl 3 rfl (lw_g (lw_at lw_m9 204 rfl) rfl) y_Mo_u2 rfl (d2 := 2) ⟨le_b rfl, pd_Mo_u2, le_b rfl⟩ (le_b rfl) og_192 (k_Mo_u2 (a1 + (16 : Int32)) h2) (fun a4 => ?_)
  refine hp_w hm (at1 6 rfl) (L' := [(1, (.int a1)), (0, (.ref 192))]) rfl (by exact og_192) (pc' := 42) rfl (fun h3 => ?_)
  refine hp_cVP (M2 := M_Mo_u2) hm (at1 7 rfl) (as := [(.int (a1 + (18 : Int32)))]) (rest := [(.ref 192)]) (z := 192) rfl (by exact trivial) (pc' := 48) rfl 4 rfl (lw_g (lw_at lw_m9 204 rfl) rfl) y_Mo_u2 rfl (d2 := 2) ⟨le_b rfl, pd_Mo_u2, le_b rfl⟩ (le_b rfl) og_192 (k_Mo_u2 (a1 + (18 : Int32)) h3) (fun a5 => ?_)
  refine hp_w hm (at1 8 rfl) (L' := [(1, (.int a1)), (0, (.ref 192))]) rfl (by exact og_192) (pc' := 54) rfl (fun h4 => ?_)
  refine hp_cVP (M2 := M_Mo_u2) hm (at1 9 rfl) (as := [(.int (a1 + (20 : Int32)))]) (rest := [(.ref 192)]) (z := 192) rfl (by exact trivial) (pc' := 60) rfl 5 rfl (lw_g (lw_at lw_m9 204 rfl) rfl) y_Mo_u2 rfl (d2 := 2) ⟨le_b rfl, pd_Mo_u2, le_b rfl⟩ (le_b rfl) og_192 (k_Mo_u2 (a1 + (20 : Int32)) h4) (fun a6 => ?_)
  refine hp_w hm (at1 10 rfl) (L' := [(1, (.int a1)), (0, (.ref 192))]) rfl (by exact og_192) (pc' := 66) rfl (fun h5 => ?_)
  refine hp_cVP (M2 := M_Mo_u2) hm (at1 11 rfl) (as := [(.int (a1 + (22 : Int32)))]) (rest := [(.ref 192)]) (z := 192) rfl (by exact trivial) (pc' := 72) rfl 6 rfl (lw_g (lw_at lw_m9 204 rfl) rfl) y_Mo_u2 rfl (d2 := 2) ⟨le_b rfl, pd_Mo_u2, le_b rfl⟩ (le_b rfl) og_192 (k_Mo_u2 (a1 + (22 : Int32)) h5) (fun a7 => ?_)
  refine hp_w hm (at1 12 rfl) (L' := [(1, (.int a1)), (0, (.ref 192))]) rfl (by exact og_192) (pc' := 78) rfl (fun h6 => ?_)
  refine hp_cVP (M2 := M_Mo_u2) hm (at1 13 rfl) (as := [(.int (a1 + (24 : Int32)))]) (rest := [(.ref 192)]) (z := 192) rfl (by exact trivial) (pc' := 84) rfl 7 rfl (lw_g (lw_at lw_m9 204 rfl) rfl) y_Mo_u2 rfl (d2 := 2) ⟨le_b rfl, pd_Mo_u2, le_b rfl⟩ (le_b rfl) og_192 (k_Mo_u2 (a1 + (24 : Int32)) h6) (fun a8 => ?_)
  refine hp_w hm (at1 14 rfl) (L' := [(1, (.int a1)), (0, (.ref 192))]) rfl (by exact og_192) (pc' := 90) rfl (fun h7 => ?_)
  refine hp_cVP (M2 := M_Mo_u2) hm (at1 15 rfl) (as := [(.int (a1 + (30 : Int32)))]) (rest := [(.ref 192)]) (z := 192) rfl (by exact trivial) (pc' := 96) rfl 8 rfl (lw_g (lw_at lw_m9 204 rfl) rfl) y_Mo_u2 rfl (d2 := 2) ⟨le_b rfl, pd_Mo_u2, le_b rfl⟩ (le_b rfl) og_192 (k_Mo_u2 (a1 + (30 : Int32)) h7) (fun a9 => ?_)
  refine hp_w hm (at1 16 rfl) (L' := [(1, (.int a1)), (0, (.ref 192))]) rfl (by exact og_192) (pc' := 102) rfl (fun h8 => ?_)
  refine hp_cVP (M2 := M_Mo_lengthOf) hm (at1 17 rfl) (as := [(.int (1835104368 : Int32))]) (rest := []) (z := 192) rfl (by exact trivial) (pc' := 105) rfl 9 rfl (lw_g (lw_at lw_m9 228 rfl) rfl) y_Mo_lengthOf rfl (d2 := 2) ⟨le_b rfl, pd_Mo_lengthOf, le_b rfl⟩ (le_b rfl) og_192 (k_Mo_lengthOf (1835104368 : Int32) h8) (fun a10 => ?_)
  refine hp_J 250 (fun (p11 : Int32) => [(0, (.ref 192))]) (fun (p11 : Int32) => [(.int p11)]) (fun (p11 : Int32) => h8) ?_ (fun p11 => ?_)
  · refine hp_ic_ne hm (at1 18 rfl) rfl (by exact trivial) (pc' := 110) rfl 29 rfl (tgt := 249) rfl (fun c30 => ?_) (fun c30 => ?_)
    · refine hp_b hm (at1 19 rfl) (L' := [(1, (.int a1)), (0, (.ref 192))]) (st' := [(.int (0 : Int32))]) rfl (by exact trivial) (pc' := 250) rfl ?_
      exact hp_lf [1] rfl (fun _ e => e)
    · refine hp_cVP (M2 := M_Mo_u4) hm (at1 20 rfl) (as := [(.int a1)]) (rest := []) (z := 192) rfl (by exact trivial) (pc' := 115) rfl 10 rfl (lw_g (lw_at lw_m11 18 rfl) rfl) y_Mo_u4 rfl (d2 := 3) ⟨le_b rfl, pd_Mo_u4, le_b rfl⟩ (le_b rfl) og_192 (k_Mo_u4 a1 h8) (fun a12 => ?_)
      refine hp_lc_ne hm (at1 21 rfl) rfl (by exact trivial) (pc' := 122) rfl 28 rfl (tgt := 249) rfl (fun c29 => ?_) (fun c29 => ?_)
      · refine hp_b hm (at1 19 rfl) (L' := [(1, (.int a1)), (0, (.ref 192))]) (st' := [(.int (0 : Int32))]) rfl (by exact trivial) (pc' := 250) rfl ?_
        exact hp_lf [1] rfl (fun _ e => e)
      · refine hp_cSP (M2 := M_Mo_in) hm (at1 22 rfl) (as := [(.long (Int32.toInt64 (rdI h8 192 12))), (.long (1 : Int64)), (.long (200 : Int64))]) (rest := []) rfl (by exact og_192) (pc' := 134) rfl 11 rfl (lw_g (lw_at lw_m9 184 rfl) rfl) y_Mo_in rfl (d2 := 1) ⟨le_b rfl, pd_Mo_in, le_b rfl⟩ (le_b rfl) (k_Mo_in (Int32.toInt64 (rdI h8 192 12)) (1 : Int64) (200 : Int64) h8) (fun a13 => ?_)
        refine hp_if_eq hm at0 rfl (by exact trivial) (pc' := 137) rfl 27 rfl (tgt := 249) rfl (fun c28 => ?_) (fun c28 => ?_)
        · refine hp_b hm (at1 19 rfl) (L' := [(1, (.int a1)), (0, (.ref 192))]) (st' := [(.int (0 : Int32))]) rfl (by exact trivial) (pc' := 250) rfl ?_
          exact hp_lf [1] rfl (fun _ e => e)
        · refine hp_cSP (M2 := M_Mo_in) hm (at1 23 rfl) (as := [(.long (Int32.toInt64 (rdI h8 192 13))), (.long (1 : Int64)), (.long (2 : Int64))]) (rest := []) rfl (by exact og_192) (pc' := 149) rfl 12 rfl (lw_g (lw_at lw_m9 184 rfl) rfl) y_Mo_in rfl (d2 := 1) ⟨le_b rfl, pd_Mo_in, le_b rfl⟩ (le_b rfl) (k_Mo_in (Int32.toInt64 (rdI h8 192 13)) (1 : Int64) (2 : Int64) h8) (fun a14 => ?_)
          refine hp_if_eq hm at0 rfl (by exact trivial) (pc' := 152) rfl 26 rfl (tgt := 249) rfl (fun c27 => ?_) (fun c27 => ?_)
          · refine hp_b hm (at1 19 rfl) (L' := [(1, (.int a1)), (0, (.ref 192))]) (st' := [(.int (0 : Int32))]) rfl (by exact trivial) (pc' := 250) rfl ?_
            exact hp_lf [1] rfl (fun _ e => e)
          · refine hp_cSP (M2 := M_Mo_in) hm (at1 24 rfl) (as := [(.long (Int32.toInt64 (rdI h8 192 14))), (.long (0 : Int64)), (.long (64 : Int64))]) (rest := []) rfl (by exact og_192) (pc' := 164) rfl 13 rfl (lw_g (lw_at lw_m9 184 rfl) rfl) y_Mo_in rfl (d2 := 1) ⟨le_b rfl, pd_Mo_in, le_b rfl⟩ (le_b rfl) (k_Mo_in (Int32.toInt64 (rdI h8 192 14)) (0 : Int64) (64 : Int64) h8) (fun a15 => ?_)
            refine hp_if_eq hm at0 rfl (by exact trivial) (pc' := 167) rfl 25 rfl (tgt := 249) rfl (fun c26 => ?_) (fun c26 => ?_)
            · refine hp_b hm (at1 19 rfl) (L' := [(1, (.int a1)), (0, (.ref 192))]) (st' := [(.int (0 : Int32))]) rfl (by exact trivial) (pc' := 250) rfl ?_
              exact hp_lf [1] rfl (fun _ e => e)
            · refine hp_cSP (M2 := M_Mo_in) hm (at1 25 rfl) (as := [(.long (Int32.toInt64 (rdI h8 192 15))), (.long (0 : Int64)), (.long (64 : Int64))]) (rest := []) rfl (by exact og_192) (pc' := 179) rfl 14 rfl (lw_g (lw_at lw_m9 184 rfl) rfl) y_Mo_in rfl (d2 := 1) ⟨le_b rfl, pd_Mo_in, le_b rfl⟩ (le_b rfl) (k_Mo_in (Int32.toInt64 (rdI h8 192 15)) (0 : Int64) (64 : Int64) h8) (fun a16 => ?_)
              refine hp_if_eq hm at0 rfl (by exact trivial) (pc' := 182) rfl 24 rfl (tgt := 249) rfl (fun c25 => ?_) (fun c25 => ?_)
              · refine hp_b hm (at1 19 rfl) (L' := [(1, (.int a1)), (0, (.ref 192))]) (st' := [(.int (0 : Int32))]) rfl (by exact trivial) (pc' := 250) rfl ?_
                exact hp_lf [1] rfl (fun _ e => e)
              · refine hp_cSP (M2 := M_Mo_in) hm (at1 26 rfl) (as := [(.long (Int32.toInt64 (rdI h8 192 16))), (.long (0 : Int64)), (.long (64 : Int64))]) (rest := []) rfl (by exact og_192) (pc' := 194) rfl 15 rfl (lw_g (lw_at lw_m9 184 rfl) rfl) y_Mo_in rfl (d2 := 1) ⟨le_b rfl, pd_Mo_in, le_b rfl⟩ (le_b rfl) (k_Mo_in (Int32.toInt64 (rdI h8 192 16)) (0 : Int64) (64 : Int64) h8) (fun a17 => ?_)
                refine hp_if_eq hm at0 rfl (by exact trivial) (pc' := 197) rfl 23 rfl (tgt := 249) rfl (fun c24 => ?_) (fun c24 => ?_)
                · refine hp_b hm (at1 19 rfl) (L' := [(1, (.int a1)), (0, (.ref 192))]) (st' := [(.int (0 : Int32))]) rfl (by exact trivial) (pc' := 250) rfl ?_
                  exact hp_lf [1] rfl (fun _ e => e)
                · refine hp_cSP (M2 := M_Mo_in) hm (at1 27 rfl) (as := [(.long (Int32.toInt64 (rdI h8 192 17))), (.long (0 : Int64)), (.long (16 : Int64))]) (rest := []) rfl (by exact og_192) (pc' := 209) rfl 16 rfl (lw_g (lw_at lw_m9 184 rfl) rfl) y_Mo_in rfl (d2 := 1) ⟨le_b rfl, pd_Mo_in, le_b rfl⟩ (le_b rfl) (k_Mo_in (Int32.toInt64 (rdI h8 192 17)) (0 : Int64) (16 : Int64) h8) (fun a18 => ?_)
                  refine hp_if_eq hm at0 rfl (by exact trivial) (pc' := 212) rfl 22 rfl (tgt := 249) rfl (fun c23 => ?_) (fun c23 => ?_)
                  · refine hp_b hm (at1 19 rfl) (L' := [(1, (.int a1)), (0, (.ref 192))]) (st' := [(.int (0 : Int32))]) rfl (by exact trivial) (pc' := 250) rfl ?_
                    exact hp_lf [1] rfl (fun _ e => e)
                  · refine hp_cSP (M2 := M_Mo_in) hm (at1 28 rfl) (as := [(.long (Int32.toInt64 (rdI h8 192 18))), (.long (0 : Int64)), (.long (256 : Int64))]) (rest := []) rfl (by exact og_192) (pc' := 224) rfl 17 rfl (lw_g (lw_at lw_m9 184 rfl) rfl) y_Mo_in rfl (d2 := 1) ⟨le_b rfl, pd_Mo_in, le_b rfl⟩ (le_b rfl) (k_Mo_in (Int32.toInt64 (rdI h8 192 18)) (0 : Int64) (256 : Int64) h8) (fun a19 => ?_)
                    refine hp_if_eq hm at0 rfl (by exact trivial) (pc' := 227) rfl 21 rfl (tgt := 249) rfl (fun c22 => ?_) (fun c22 => ?_)
                    · refine hp_b hm (at1 19 rfl) (L' := [(1, (.int a1)), (0, (.ref 192))]) (st' := [(.int (0 : Int32))]) rfl (by exact trivial) (pc' := 250) rfl ?_
                      exact hp_lf [1] rfl (fun _ e => e)
                    · refine hp_cSP (M2 := M_Mo_in) hm (at1 29 rfl) (as := [(.long (Int32.toInt64 (rdI h8 192 19))), (.long (0 : Int64)), (.long (4 : Int64))]) (rest := []) rfl (by exact og_192) (pc' := 239) rfl 18 rfl (lw_g (lw_at lw_m9 184 rfl) rfl) y_Mo_in rfl (d2 := 1) ⟨le_b rfl, pd_Mo_in, le_b rfl⟩ (le_b rfl) (k_Mo_in (Int32.toInt64 (rdI h8 192 19)) (0 : Int64) (4 : Int64) h8) (fun a20 => ?_)
                      refine hp_if_eq hm at0 rfl (by exact trivial) (pc' := 242) rfl 20 rfl (tgt := 249) rfl (fun c21 => ?_) (fun c21 => ?_)
                      · refine hp_b hm (at1 19 rfl) (L' := [(1, (.int a1)), (0, (.ref 192))]) (st' := [(.int (0 : Int32))]) rfl (by exact trivial) (pc' := 250) rfl ?_
                        exact hp_lf [1] rfl (fun _ e => e)
                      · refine hp_b hm (at1 30 rfl) (L' := [(1, (.int a1)), (0, (.ref 192))]) (st' := [(.int (1 : Int32))]) rfl (by exact trivial) (pc' := 246) rfl ?_
                        refine hp_goto hm 19 rfl (tgt := 250) rfl ?_
                        exact hp_lf [1] rfl (fun _ e => e)
  · refine hp_b hm (at1 31 rfl) (L' := [(2, (.int p11)), (0, (.ref 192))]) (st' := [(.int p11)]) rfl (by exact trivial) (pc' := 252) rfl ?_
    refine hp_if_eq hm at0 rfl (by exact trivial) (pc' := 252) rfl 34 rfl (tgt := 274) rfl (fun c33 => ?_) (fun c33 => ?_)
    · refine hp_b hm (at1 32 rfl) (L' := [(2, (.int p11)), (0, (.ref 192))]) (st' := [(.int (0 : Int32))]) rfl (by exact trivial) (pc' := 275) rfl ?_
      exact hp_ir hm at0 rfl (by exact trivial) (pc' := 275) rfl 30 rfl rfl rfl (fun _ e => e)
    · refine hp_ic_eq hm (at1 33 rfl) rfl (by exact og_192) (pc' := 260) rfl 33 rfl (tgt := 270) rfl (fun c32 => ?_) (fun c32 => ?_)
      · refine hp_b hm (at1 34 rfl) (L' := [(2, (.int p11)), (0, (.ref 192))]) (st' := [(.int (1 : Int32))]) rfl (by exact trivial) (pc' := 271) rfl ?_
        refine hp_goto hm 31 rfl (tgt := 275) rfl ?_
        exact hp_ir hm at0 rfl (by exact trivial) (pc' := 275) rfl 30 rfl rfl rfl (fun _ e => e)
      · refine hp_if_ne hm (at1 35 rfl) rfl (by exact og_192) (pc' := 267) rfl 32 rfl (tgt := 274) rfl (fun c31 => ?_) (fun c31 => ?_)
        · refine hp_b hm (at1 32 rfl) (L' := [(2, (.int p11)), (0, (.ref 192))]) (st' := [(.int (0 : Int32))]) rfl (by exact trivial) (pc' := 275) rfl ?_
          exact hp_ir hm at0 rfl (by exact trivial) (pc' := 275) rfl 30 rfl rfl rfl (fun _ e => e)
        · refine hp_b hm (at1 34 rfl) (L' := [(2, (.int p11)), (0, (.ref 192))]) (st' := [(.int (1 : Int32))]) rfl (by exact trivial) (pc' := 271) rfl ?_
          refine hp_goto hm 31 rfl (tgt := 275) rfl ?_
          exact hp_ir hm at0 rfl (by exact trivial) (pc' := 275) rfl 30 rfl rfl rfl (fun _ e => e)
/-! HintHouseModel.areWithin()Z -/
def M_Mo_areWithin : hM := (11, ⟨"HintHouseModel", "areWithin", "()Z"⟩, prog_13_method_28_code, 5, (Option.some Jvm.ClassFile.FieldType.boolean), [], [(0, [(.iconst 0, 1, 0, 0, 0, (.int (0 : Int32))), (.istore_n 1, 1, 0, 0, 0, .null)]), (2, [(.iload_n 1, 1, 0, 0, 0, .null), (.aload_n 0, 1, 0, 0, 0, .null), (.getfield 331, 3, 11, 19, 0, .null)]), (10, [(.iconst 0, 1, 0, 0, 0, (.int (0 : Int32))), (.istore_n 2, 1, 0, 0, 0, .null)]), (12, [(.iload_n 2, 1, 0, 0, 0, .null), (.aload_n 0, 1, 0, 0, 0, .null), (.getfield 260, 3, 11, 12, 0, .null)]), (20, [(.aload_n 0, 1, 0, 0, 0, .null), (.iload_n 2, 1, 0, 0, 0, .null)]), (25, [(.istore_n 3, 1, 0, 0, 0, .null), (.aload_n 0, 1, 0, 0, 0, .null), (.getfield 61, 3, 11, 43, 4, .null), (.iload_n 2, 1, 0, 0, 0, .null), (.aload_n 0, 1, 0, 0, 0, .null), (.getfield 348, 3, 11, 28, 0, .null), (.iconst (-1), 1, 0, 0, 0, (.int (-1 : Int32)))]), (43, [(.iconst 1, 1, 0, 0, 0, (.int (1 : Int32)))]), (39, [(.iload_n 1, 1, 0, 0, 0, .null)]), (47, [(.iconst 0, 1, 0, 0, 0, (.int (0 : Int32)))]), (48, [(.bastore, 1, 101, 0, 0, .null)]), (49, [(.iconst 0, 1, 0, 0, 0, (.int (0 : Int32))), (.istore 4, 2, 0, 0, 0, .null)]), (52, [(.iload 4, 2, 0, 0, 0, .null), (.aload_n 0, 1, 0, 0, 0, .null), (.getfield 354, 3, 11, 30, 0, .null)]), (61, [(.aload_n 0, 1, 0, 0, 0, .null), (.getfield 348, 3, 11, 28, 0, .null), (.iconst (-1), 1, 0, 0, 0, (.int (-1 : Int32)))]), (69, [(.aload_n 0, 1, 0, 0, 0, .null), (.getfield 61, 3, 11, 43, 4, .null), (.iload_n 2, 1, 0, 0, 0, .null), (.aload_n 0, 1, 0, 0, 0, .null), (.getfield 61, 3, 11, 43, 4, .null), (.iload_n 2, 1, 0, 0, 0, .null), (.baload, 1, 101, 0, 0, .null)]), (102, [(.iconst 0, 1, 0, 0, 0, (.int (0 : Int32)))]), (83, [(.aload_n 0, 1, 0, 0, 0, .null), (.getfield 57, 3, 11, 42, 4, .null), (.aload_n 0, 1, 0, 0, 0, .null), (.getfield 45, 3, 11, 38, 4, .null), (.iload 4, 2, 0, 0, 0, .null), (.iaload, 1, 0, 0, 0, .null), (.baload, 1, 101, 0, 0, .null)]), (98, [(.iconst 1, 1, 0, 0, 0, (.int (1 : Int32)))]), (103, [(.bastore, 1, 101, 0, 0, .null)]), (104, [(.iinc 4 1, 3, 0, 0, 0, (.int (1 : Int32)))]), (110, [(.iinc 2 1, 3, 0, 0, 0, (.int (1 : Int32)))]), (116, [(.iconst 0, 1, 0, 0, 0, (.int (0 : Int32))), (.istore_n 2, 1, 0, 0, 0, .null)]), (118, [(.iload_n 2, 1, 0, 0, 0, .null), (.aload_n 0, 1, 0, 0, 0, .null), (.getfield 260, 3, 11, 12, 0, .null)]), (126, [(.aload_n 0, 1, 0, 0, 0, .null), (.getfield 57, 3, 11, 42, 4, .null), (.iload_n 2, 1, 0, 0, 0, .null), (.aload_n 0, 1, 0, 0, 0, .null), (.getfield 61, 3, 11, 43, 4, .null), (.iload_n 2, 1, 0, 0, 0, .null), (.baload, 1, 101, 0, 0, .null), (.bastore, 1, 101, 0, 0, .null)]), (138, [(.iinc 2 1, 3, 0, 0, 0, (.int (1 : Int32)))]), (144, [(.iinc 1 1, 3, 0, 0, 0, (.int (1 : Int32)))]), (150, [(.iconst 0, 1, 0, 0, 0, (.int (0 : Int32))), (.istore_n 1, 1, 0, 0, 0, .null)]), (152, [(.iload_n 1, 1, 0, 0, 0, .null), (.aload_n 0, 1, 0, 0, 0, .null), (.getfield 260, 3, 11, 12, 0, .null)]), (160, [(.aload_n 0, 1, 0, 0, 0, .null), (.getfield 57, 3, 11, 42, 4, .null), (.iload_n 1, 1, 0, 0, 0, .null), (.baload, 1, 101, 0, 0, .null)]), (171, [(.iinc 1 1, 3, 0, 0, 0, (.int (1 : Int32)))]), (169, [(.iconst 0, 1, 0, 0, 0, (.int (0 : Int32)))]), (177, [(.iconst 1, 1, 0, 0, 0, (.int (1 : Int32)))])], [(22, .invokevirtual 278, 3), (44, .goto 4, 3), (40, .ifCond .le 7, 3), (36, .if_icmp .ne 7, 3), (66, .if_icmp .ne 44, 3), (58, .if_icmp .ge 52, 3), (99, .goto 4, 3), (95, .ifCond .eq 7, 3), (80, .ifCond .eq 22, 3), (107, .goto (-55), 3), (113, .goto (-101), 3), (17, .if_icmp .ge 99, 3), (141, .goto (-23), 3), (123, .if_icmp .ge 21, 3), (147, .goto (-145), 3), (7, .if_icmp .gt 143, 3), (174, .goto (-22), 3), (170, .ireturn, 1), (166, .ifCond .ne 5, 3), (157, .if_icmp .ge 20, 3), (178, .ireturn, 1)])
set_option maxRecDepth 100000 in
theorem m_Mo_areWithin : hx_mok M_Mo_areWithin = true := by decide +kernel
theorem pd_Mo_areWithin : (parseMethodDescriptor M_Mo_areWithin.2.1.desc).map (fun q => q.parameters.length) = some 0 := by decide +kernel
theorem y_Mo_areWithin : hx_okV M_Mo_areWithin := ⟨⟨lw_g (lw_at lw_m11 206 rfl) rfl, lw_g (lw_at lw_m11 205 rfl) rfl, qs215, lw_g (lw_at lw_m1 12 rfl) rfl, rfl, by decide, by decide, by decide⟩, rfl, by decide, plainFor_of_name (by decide)⟩
noncomputable def f_Mo_areWithin (h : hH) : Option (Int32 × hH) :=
  bP (A := hH) (
    wh (A := (Int32 × hH)) (B := hH) (fun p1 =>
        if (rdI p1.2 192 19) < p1.1 then (
          some (.inr p1.2)
        ) else (
          bP (A := hH) (
            wh (A := (Int32 × hH)) (B := hH) (fun p3 =>
                if (rdI p3.2 192 12) ≤ p3.1 then (
                  some (.inr p3.2)
                ) else (
                  bS (f_Mo_isGlyph p3.1 p3.2) fun a5 h1 =>
                  lz (A := Int32) (if (rdI h1 192 28) = (-1 : Int32) then (if p1.1 ≤ 0 then (0 : Int32) else (1 : Int32)) else (1 : Int32)) fun p6 =>
                  gd (vp_in p3.1 200) <|
                  lz (wrI h1 209 (Int32.toNatClampNeg p3.1) (p6 &&& 1)) fun h2 =>
                  bP (A := hH) (
                    wh (A := (Int32 × hH)) (B := hH) (fun p10 =>
                        if (¬ ((rdI p10.2 192 30) ≤ p10.1) ∧ (rdI p10.2 192 28) = (-1 : Int32)) then (
                          gd (vp_in p3.1 200) <|
                          bP (A := Int32) (
                            if (rdI p10.2 209 (Int32.toNatClampNeg p3.1)) = 0 then (
                              some (0 : Int32)
                            ) else (
                              gd (vp_in p10.1 8 ∧ vp_in (rdI p10.2 204 (Int32.toNatClampNeg p10.1)) 200) <|
                              if (rdI p10.2 208 (Int32.toNatClampNeg (rdI p10.2 204 (Int32.toNatClampNeg p10.1)))) = 0 then (
                                some (0 : Int32)
                              ) else (
                                some (1 : Int32)
                              )
                            )
                          ) fun p18 =>
                          gd (vp_in p3.1 200) <|
                          lz (wrI p10.2 209 (Int32.toNatClampNeg p3.1) (p18 &&& 1)) fun h3 =>
                          lz (A := Int32) (p10.1 + (1 : Int32)) fun v23 =>
                          some (.inl (v23, h3))
                        ) else (
                          some (.inr p10.2)
                        )
                    ) ((0 : Int32), h2)
                  ) fun p11 =>
                  lz (A := Int32) (p3.1 + (1 : Int32)) fun v24 =>
                  some (.inl (v24, p11))
                )
            ) ((0 : Int32), p1.2)
          ) fun p4 =>
          bP (A := hH) (
            wh (A := (Int32 × hH)) (B := hH) (fun p26 =>
                if (rdI p26.2 192 12) ≤ p26.1 then (
                  some (.inr p26.2)
                ) else (
                  gd (vp_in p26.1 200) <|
                  lz (wrI p26.2 208 (Int32.toNatClampNeg p26.1) ((rdI p26.2 209 (Int32.toNatClampNeg p26.1)) &&& 1)) fun h4 =>
                  lz (A := Int32) (p26.1 + (1 : Int32)) fun v29 =>
                  some (.inl (v29, h4))
                )
            ) ((0 : Int32), p4)
          ) fun p27 =>
          lz (A := Int32) (p1.1 + (1 : Int32)) fun v31 =>
          some (.inl (v31, p27))
        )
    ) ((0 : Int32), h)
  ) fun p2 =>
  bE (P := Unit) (X := (Int32 × hH)) (
    wh (A := Int32) (B := (Unit ⊕ (Int32 × hH))) (fun p33 =>
        if (rdI p2 192 12) ≤ p33 then (
          some (.inr (.inl ()))
        ) else (
          gd (vp_in p33 200) <|
          if (rdI p2 208 (Int32.toNatClampNeg p33)) = 0 then (
            some (.inr (.inr ((0 : Int32), p2)))
          ) else (
            lz (A := Int32) (p33 + (1 : Int32)) fun v36 =>
            some (.inl v36)
          )
        )
    ) (0 : Int32)
  ) fun p34 =>
  some ((1 : Int32), p2)
set_option maxRecDepth 20000 in
theorem k_Mo_areWithin (h : hH) : hx_kS S0 M_Mo_areWithin 7 NT [(.ref 192)] h (f_Mo_areWithin h) cvI := by
  have hm := m_Mo_areWithin
  show hx_P S0 M_Mo_areWithin 7 0 [(0, (.ref 192))] [] NT h (f_Mo_areWithin h) (hx_Rc cvI NT)
  unfold f_Mo_areWithin
  refine hp_b hm (at1 0 rfl) (L' := [(1, (.int (0 : Int32))), (0, (.ref 192))]) (st' := []) rfl (by exact trivial) (pc' := 2) rfl ?_
  refine hp_J 150 (fun (p2 : hH) => [(0, (.ref 192))]) (fun (p2 : hH) => []) (fun (p2 : hH) => p2) ?_ (fun p2 => ?_)
  · refine hp_s [1, 0] rfl (L' := [(0, (.ref 192)), (1, (.int (0 : Int32)))]) ?_
    refine hp_wh (fun (p1 : (Int32 × hH)) => [(0, (.ref 192)), (1, (.int p1.1))]) [] (fun (p1 : (Int32 × hH)) => p1.2) (fun p1 => ?_) ((0 : Int32), h)
    refine hp_ic_gt hm (at1 1 rfl) rfl (by exact og_192) (pc' := 7) rfl 15 rfl (tgt := 150) rfl (fun c32 => ?_) (fun c32 => ?_)
    · exact hp_lf [0] rfl (fun _ e => e)
    · refine hp_b hm (at1 2 rfl) (L' := [(2, (.int (0 : Int32))), (0, (.ref 192)), (1, (.int p1.1))]) (st' := []) rfl (by exact trivial) (pc' := 12) rfl ?_
      refine hp_J 116 (fun (p4 : hH) => [(0, (.ref 192)), (1, (.int p1.1))]) (fun (p4 : hH) => []) (fun (p4 : hH) => p4) ?_ (fun p4 => ?_)
      · refine hp_s [1, 2, 0] rfl (L' := [(0, (.ref 192)), (1, (.int p1.1)), (2, (.int (0 : Int32)))]) ?_
        refine hp_wh (fun (p3 : (Int32 × hH)) => [(0, (.ref 192)), (1, (.int p1.1)), (2, (.int p3.1))]) [] (fun (p3 : (Int32 × hH)) => p3.2) (fun p3 => ?_) ((0 : Int32), p1.2)
        refine hp_ic_ge hm (at1 3 rfl) rfl (by exact og_192) (pc' := 17) rfl 11 rfl (tgt := 116) rfl (fun c25 => ?_) (fun c25 => ?_)
        · exact hp_lf [0, 1] rfl (fun _ e => e)
        · refine hp_cVS (M2 := M_Mo_isGlyph) hm (at1 4 rfl) (as := [(.int p3.1)]) (rest := []) (z := 192) rfl (by exact trivial) (pc' := 22) rfl 0 rfl (lw_g (lw_at lw_m11 31 rfl) rfl) y_Mo_isGlyph rfl (d2 := 6) ⟨le_b rfl, pd_Mo_isGlyph, le_b rfl⟩ (le_b rfl) og_192 (k_Mo_isGlyph p3.1 p3.2) (fun a5 h1 => ?_)
          refine hp_b hm (at1 5 rfl) (L' := [(3, (.int a5)), (0, (.ref 192)), (1, (.int p1.1)), (2, (.int p3.1))]) (st' := [(.int (-1 : Int32)), (.int (rdI h1 192 28)), (.int p3.1), (.ref 209)]) rfl (by exact ⟨og_192, og_192⟩) (pc' := 36) rfl ?_
          refine hp_JZ 48 (fun (p6 : Int32) => [(0, (.ref 192)), (1, (.int p1.1)), (2, (.int p3.1))]) (fun (p6 : Int32) => [(.int p6), (.int p3.1), (.ref 209)]) (fun (p6 : Int32) => h1) ?_ (fun p6 => ?_)
          · refine hp_sv0 ?_
            refine hp_ic_ne hm at0 rfl (by exact trivial) (pc' := 36) rfl 3 rfl (tgt := 43) rfl (fun c8 => ?_) (fun c8 => ?_)
            · refine hp_b hm (at1 6 rfl) (L' := [(3, (.int a5)), (0, (.ref 192)), (1, (.int p1.1)), (2, (.int p3.1))]) (st' := [(.int (1 : Int32)), (.int p3.1), (.ref 209)]) rfl (by exact trivial) (pc' := 44) rfl ?_
              refine hp_goto hm 1 rfl (tgt := 48) rfl ?_
              exact hp_lf [1, 2, 3] rfl (fun _ e => e)
            · refine hp_sv0 ?_
              refine hp_if_le hm (at1 7 rfl) rfl (by exact trivial) (pc' := 40) rfl 2 rfl (tgt := 47) rfl (fun c7 => ?_) (fun c7 => ?_)
              · refine hp_b hm (at1 8 rfl) (L' := [(3, (.int a5)), (0, (.ref 192)), (1, (.int p1.1)), (2, (.int p3.1))]) (st' := [(.int (0 : Int32)), (.int p3.1), (.ref 209)]) rfl (by exact trivial) (pc' := 48) rfl ?_
                exact hp_lf [1, 2, 3] rfl (fun _ e => e)
              · refine hp_b hm (at1 6 rfl) (L' := [(3, (.int a5)), (0, (.ref 192)), (1, (.int p1.1)), (2, (.int p3.1))]) (st' := [(.int (1 : Int32)), (.int p3.1), (.ref 209)]) rfl (by exact trivial) (pc' := 44) rfl ?_
                refine hp_goto hm 1 rfl (tgt := 48) rfl ?_
                exact hp_lf [1, 2, 3] rfl (fun _ e => e)
          · refine hp_GW hm (at1 9 rfl) (L' := [(0, (.ref 192)), (1, (.int p1.1)), (2, (.int p3.1))]) rfl (fun hP => (by exact ⟨og_209, hP⟩)) (pc' := 49) rfl (fun q9 h2 => ?_)
            refine hp_b hm (at1 10 rfl) (L' := [(4, (.int (0 : Int32))), (0, (.ref 192)), (1, (.int p1.1)), (2, (.int p3.1))]) (st' := []) rfl (by exact trivial) (pc' := 52) rfl ?_
            refine hp_J 110 (fun (p11 : hH) => [(0, (.ref 192)), (1, (.int p1.1)), (2, (.int p3.1))]) (fun (p11 : hH) => []) (fun (p11 : hH) => p11) ?_ (fun p11 => ?_)
            · refine hp_s [1, 2, 3, 0] rfl (L' := [(0, (.ref 192)), (1, (.int p1.1)), (2, (.int p3.1)), (4, (.int (0 : Int32)))]) ?_
              refine hp_wh (fun (p10 : (Int32 × hH)) => [(0, (.ref 192)), (1, (.int p1.1)), (2, (.int p3.1)), (4, (.int p10.1))]) [] (fun (p10 : (Int32 × hH)) => p10.2) (fun p10 => ?_) ((0 : Int32), h2)
              refine hp_cI (L0 := [(0, (.ref 192)), (1, (.int p1.1)), (2, (.int p3.1)), (4, (.int p10.1))]) (s0 := []) 69 110 ?_ (fun c16 => ?_) (fun c16 => ?_)
              · refine hp_nand ?_
                refine hp_ic_ge hm (at1 11 rfl) rfl (by exact og_192) (pc' := 58) rfl 5 rfl (tgt := 110) rfl (fun c13 => ?_) (fun c13 => ?_)
                · exact hp_l0 (fun _ e => e)
                · refine hp_dec ?_
                  refine hp_ic_ne hm (at1 12 rfl) rfl (by exact og_192) (pc' := 66) rfl 4 rfl (tgt := 110) rfl (fun c12 => ?_) (fun c12 => ?_)
                  · exact hp_l0 (fun _ e => e)
                  · exact hp_l0 (fun _ e => e)
              · refine hp_G hm (at1 13 rfl) (L' := [(0, (.ref 192)), (1, (.int p1.1)), (2, (.int p3.1)), (4, (.int p10.1))]) (st' := [(.int (rdI p10.2 209 (Int32.toNatClampNeg p3.1))), (.int p3.1), (.ref 209)]) rfl (fun hP => (by exact ⟨⟨og_192, og_192⟩, ⟨og_209, hP⟩⟩)) (pc' := 80) rfl (fun q17 => ?_)
                refine hp_J 103 (fun (p18 : Int32) => [(0, (.ref 192)), (1, (.int p1.1)), (2, (.int p3.1)), (4, (.int p10.1))]) (fun (p18 : Int32) => [(.int p18), (.int p3.1), (.ref 209)]) (fun (p18 : Int32) => p10.2) ?_ (fun p18 => ?_)
                · refine hp_if_eq hm at0 rfl (by exact trivial) (pc' := 80) rfl 8 rfl (tgt := 102) rfl (fun c21 => ?_) (fun c21 => ?_)
                  · refine hp_b hm (at1 14 rfl) (L' := [(0, (.ref 192)), (1, (.int p1.1)), (2, (.int p3.1)), (4, (.int p10.1))]) (st' := [(.int (0 : Int32)), (.int p3.1), (.ref 209)]) rfl (by exact trivial) (pc' := 103) rfl ?_
                    exact hp_lf [0, 1, 2, 3] rfl (fun _ e => e)
                  · refine hp_G hm (at1 15 rfl) (L' := [(0, (.ref 192)), (1, (.int p1.1)), (2, (.int p3.1)), (4, (.int p10.1))]) (st' := [(.int (rdI p10.2 208 (Int32.toNatClampNeg (rdI p10.2 204 (Int32.toNatClampNeg p10.1))))), (.int p3.1), (.ref 209)]) rfl (fun hP => (by exact ⟨⟨⟨og_192, og_192⟩, ⟨og_204, hP.1⟩⟩, ⟨og_208, hP.2⟩⟩)) (pc' := 95) rfl (fun q19 => ?_)
                    refine hp_if_eq hm at0 rfl (by exact trivial) (pc' := 95) rfl 7 rfl (tgt := 102) rfl (fun c20 => ?_) (fun c20 => ?_)
                    · refine hp_b hm (at1 14 rfl) (L' := [(0, (.ref 192)), (1, (.int p1.1)), (2, (.int p3.1)), (4, (.int p10.1))]) (st' := [(.int (0 : Int32)), (.int p3.1), (.ref 209)]) rfl (by exact trivial) (pc' := 103) rfl ?_
                      exact hp_lf [0, 1, 2, 3] rfl (fun _ e => e)
                    · refine hp_b hm (at1 16 rfl) (L' := [(0, (.ref 192)), (1, (.int p1.1)), (2, (.int p3.1)), (4, (.int p10.1))]) (st' := [(.int (1 : Int32)), (.int p3.1), (.ref 209)]) rfl (by exact trivial) (pc' := 99) rfl ?_
                      refine hp_goto hm 6 rfl (tgt := 103) rfl ?_
                      exact hp_lf [0, 1, 2, 3] rfl (fun _ e => e)
                · refine hp_GW hm (at1 17 rfl) (L' := [(0, (.ref 192)), (1, (.int p1.1)), (2, (.int p3.1)), (4, (.int p10.1))]) rfl (fun hP => (by exact ⟨og_209, hP⟩)) (pc' := 104) rfl (fun q22 h3 => ?_)
                  refine hp_z hm (at1 18 rfl) (fun (v23 : Int32) => [(4, (.int v23)), (0, (.ref 192)), (1, (.int p1.1)), (2, (.int p3.1))]) (fun (v23 : Int32) => []) rfl (by exact trivial) (pc' := 107) rfl (fun v23 => ?_)
                  refine hp_goto hm 9 rfl (tgt := 52) rfl ?_
                  exact hp_lf [1, 2, 3, 0] rfl (fun _ e => e)
              · exact hp_lf [0, 1, 2] rfl (fun _ e => e)
            · refine hp_z hm (at1 19 rfl) (fun (v24 : Int32) => [(2, (.int v24)), (0, (.ref 192)), (1, (.int p1.1))]) (fun (v24 : Int32) => []) rfl (by exact trivial) (pc' := 113) rfl (fun v24 => ?_)
              refine hp_goto hm 10 rfl (tgt := 12) rfl ?_
              exact hp_lf [1, 2, 0] rfl (fun _ e => e)
      · refine hp_b hm (at1 20 rfl) (L' := [(2, (.int (0 : Int32))), (0, (.ref 192)), (1, (.int p1.1))]) (st' := []) rfl (by exact trivial) (pc' := 118) rfl ?_
        refine hp_J 144 (fun (p27 : hH) => [(0, (.ref 192)), (1, (.int p1.1))]) (fun (p27 : hH) => []) (fun (p27 : hH) => p27) ?_ (fun p27 => ?_)
        · refine hp_s [1, 2, 0] rfl (L' := [(0, (.ref 192)), (1, (.int p1.1)), (2, (.int (0 : Int32)))]) ?_
          refine hp_wh (fun (p26 : (Int32 × hH)) => [(0, (.ref 192)), (1, (.int p1.1)), (2, (.int p26.1))]) [] (fun (p26 : (Int32 × hH)) => p26.2) (fun p26 => ?_) ((0 : Int32), p4)
          refine hp_ic_ge hm (at1 21 rfl) rfl (by exact og_192) (pc' := 123) rfl 13 rfl (tgt := 144) rfl (fun c30 => ?_) (fun c30 => ?_)
          · exact hp_lf [0, 1] rfl (fun _ e => e)
          · refine hp_GW hm (at1 22 rfl) (L' := [(0, (.ref 192)), (1, (.int p1.1)), (2, (.int p26.1))]) rfl (fun hP => (by exact ⟨⟨⟨og_192, og_192⟩, ⟨og_209, hP⟩⟩, ⟨og_208, hP⟩⟩)) (pc' := 138) rfl (fun q28 h4 => ?_)
            refine hp_z hm (at1 23 rfl) (fun (v29 : Int32) => [(2, (.int v29)), (0, (.ref 192)), (1, (.int p1.1))]) (fun (v29 : Int32) => []) rfl (by exact trivial) (pc' := 141) rfl (fun v29 => ?_)
            refine hp_goto hm 12 rfl (tgt := 118) rfl ?_
            exact hp_lf [1, 2, 0] rfl (fun _ e => e)
        · refine hp_z hm (at1 24 rfl) (fun (v31 : Int32) => [(1, (.int v31)), (0, (.ref 192))]) (fun (v31 : Int32) => []) rfl (by exact trivial) (pc' := 147) rfl (fun v31 => ?_)
          refine hp_goto hm 14 rfl (tgt := 2) rfl ?_
          exact hp_lf [1, 0] rfl (fun _ e => e)
  · refine hp_b hm (at1 25 rfl) (L' := [(1, (.int (0 : Int32))), (0, (.ref 192))]) (st' := []) rfl (by exact trivial) (pc' := 152) rfl ?_
    refine hp_E 177 (fun (p34 : Unit) => []) (fun (p34 : Unit) => []) (fun (p34 : Unit) => p2) ?_ (fun p34 => ?_)
    · refine hp_s [1, 0] rfl (L' := [(0, (.ref 192)), (1, (.int (0 : Int32)))]) ?_
      refine hp_wh (fun (p33 : Int32) => [(0, (.ref 192)), (1, (.int p33))]) [] (fun (p33 : Int32) => p2) (fun p33 => ?_) (0 : Int32)
      refine hp_ic_ge hm (at1 26 rfl) rfl (by exact og_192) (pc' := 157) rfl 19 rfl (tgt := 177) rfl (fun c38 => ?_) (fun c38 => ?_)
      · exact hp_lf [] rfl (fun _ e => e)
      · refine hp_G hm (at1 27 rfl) (L' := [(0, (.ref 192)), (1, (.int p33))]) (st' := [(.int (rdI p2 208 (Int32.toNatClampNeg p33)))]) rfl (fun hP => (by exact ⟨og_192, ⟨og_208, hP⟩⟩)) (pc' := 166) rfl (fun q35 => ?_)
        refine hp_if_ne hm at0 rfl (by exact trivial) (pc' := 166) rfl 18 rfl (tgt := 171) rfl (fun c37 => ?_) (fun c37 => ?_)
        · refine hp_z hm (at1 28 rfl) (fun (v36 : Int32) => [(1, (.int v36)), (0, (.ref 192))]) (fun (v36 : Int32) => []) rfl (by exact trivial) (pc' := 174) rfl (fun v36 => ?_)
          refine hp_goto hm 16 rfl (tgt := 152) rfl ?_
          exact hp_lf [1, 0] rfl (fun _ e => e)
        · exact hp_ir hm (at1 29 rfl) rfl (by exact trivial) (pc' := 170) rfl 17 rfl rfl rfl (fun _ e => e)
    · exact hp_ir hm (at1 30 rfl) rfl (by exact trivial) (pc' := 178) rfl 20 rfl rfl rfl (fun _ e => e)
/-! HintHouseModel.setMany(I)Z -/
def M_Mo_setMany : hM := (11, ⟨"HintHouseModel", "setMany", "(I)Z"⟩, prog_13_method_30_code, 2, (Option.some Jvm.ClassFile.FieldType.boolean), [], [(0, [(.aload_n 0, 1, 0, 0, 0, .null), (.iload_n 1, 1, 0, 0, 0, .null), (.putfield 399, 3, 11, 23, 0, .null)]), (5, [(.iconst 1, 1, 0, 0, 0, (.int (1 : Int32)))])], [(6, .ireturn, 1)])
set_option maxRecDepth 100000 in
theorem m_Mo_setMany : hx_mok M_Mo_setMany = true := by decide +kernel
theorem pd_Mo_setMany : (parseMethodDescriptor M_Mo_setMany.2.1.desc).map (fun q => q.parameters.length) = some 1 := by decide +kernel
theorem y_Mo_setMany : hx_okV M_Mo_setMany := ⟨⟨lw_g (lw_at lw_m11 214 rfl) rfl, lw_g (lw_at lw_m11 213 rfl) rfl, qs217, lw_g (lw_at lw_m1 12 rfl) rfl, rfl, by decide, by decide, by decide⟩, rfl, by decide, plainFor_of_name (by decide)⟩
noncomputable def f_Mo_setMany (x1 : Int32) (h : hH) : Option (Int32 × hH) :=
  lz (wrI h 192 23 x1) fun h1 =>
  some ((1 : Int32), h1)
set_option maxRecDepth 20000 in
theorem k_Mo_setMany (x1 : Int32) (h : hH) : hx_kS S0 M_Mo_setMany 1 NT [(.ref 192), (.int x1)] h (f_Mo_setMany x1 h) cvI := by
  have hm := m_Mo_setMany
  show hx_P S0 M_Mo_setMany 1 0 [(0, (.ref 192)), (1, (.int x1))] [] NT h (f_Mo_setMany x1 h) (hx_Rc cvI NT)
  unfold f_Mo_setMany
  refine hp_w hm (at1 0 rfl) (L' := [(0, (.ref 192)), (1, (.int x1))]) rfl (by exact og_192) (pc' := 5) rfl (fun h1 => ?_)
  exact hp_ir hm (at1 1 rfl) rfl (by exact trivial) (pc' := 6) rfl 0 rfl rfl rfl (fun _ e => e)
/-! HintHouseModel.segments(I)Z -/
def M_Mo_segments : hM := (11, ⟨"HintHouseModel", "segments", "(I)Z"⟩, prog_13_method_31_code, 8, (Option.some Jvm.ClassFile.FieldType.boolean), [], [(0, [(.aload_n 0, 1, 0, 0, 0, .null), (.aload_n 0, 1, 0, 0, 0, .null), (.getfield 384, 3, 11, 21, 0, .null), (.iconst 2, 1, 0, 0, 0, (.int (2 : Int32))), (.iadd, 1, 0, 0, 0, .null)]), (10, [(.istore_n 2, 1, 0, 0, 0, .null), (.iload_n 2, 1, 0, 0, 0, .null), (.iload_n 1, 1, 0, 0, 0, .null)]), (22, [(.iconst 0, 1, 0, 0, 0, (.int (0 : Int32)))]), (16, [(.iload_n 2, 1, 0, 0, 0, .null), (.bipush 16, 2, 0, 0, 0, (.int (16 : Int32)))]), (24, [(.aload_n 0, 1, 0, 0, 0, .null), (.aload_n 0, 1, 0, 0, 0, .null), (.getfield 384, 3, 11, 21, 0, .null), (.bipush 6, 2, 0, 0, 0, (.int (6 : Int32))), (.iadd, 1, 0, 0, 0, .null)]), (35, [(.istore_n 3, 1, 0, 0, 0, .null), (.iload_n 3, 1, 0, 0, 0, .null), (.iconst 2, 1, 0, 0, 0, (.int (2 : Int32))), (.idiv, 1, 0, 0, 0, .null), (.istore 4, 2, 0, 0, 0, .null)]), (41, [(.iload_n 3, 1, 0, 0, 0, .null), (.iconst 2, 1, 0, 0, 0, (.int (2 : Int32))), (.irem, 1, 0, 0, 0, .null)]), (72, [(.iconst 0, 1, 0, 0, 0, (.int (0 : Int32)))]), (47, [(.iload 4, 2, 0, 0, 0, .null), (.i2l, 1, 0, 0, 0, .null), (.lconst 1, 1, 0, 0, 0, (.long (1 : Int64))), (.ldc2_w 402, 3, 0, 0, 0, (.long (40 : Int64)))]), (60, [(.bipush 16, 2, 0, 0, 0, (.int (16 : Int32))), (.bipush 8, 2, 0, 0, 0, (.int (8 : Int32))), (.iload 4, 2, 0, 0, 0, .null), (.imul, 1, 0, 0, 0, .null), (.iadd, 1, 0, 0, 0, .null), (.iload_n 2, 1, 0, 0, 0, .null)]), (74, [(.aload_n 0, 1, 0, 0, 0, .null), (.iload 4, 2, 0, 0, 0, .null), (.putfield 399, 3, 11, 23, 0, .null)]), (80, [(.iconst (-1), 1, 0, 0, 0, (.int (-1 : Int32))), (.istore 5, 2, 0, 0, 0, .null), (.iconst 0, 1, 0, 0, 0, (.int (0 : Int32))), (.istore 6, 2, 0, 0, 0, .null)]), (86, [(.iload 6, 2, 0, 0, 0, .null), (.iload 4, 2, 0, 0, 0, .null)]), (93, [(.aload_n 0, 1, 0, 0, 0, .null), (.aload_n 0, 1, 0, 0, 0, .null), (.getfield 384, 3, 11, 21, 0, .null), (.bipush 14, 2, 0, 0, 0, (.int (14 : Int32))), (.iadd, 1, 0, 0, 0, .null), (.iconst 2, 1, 0, 0, 0, (.int (2 : Int32))), (.iload 6, 2, 0, 0, 0, .null), (.imul, 1, 0, 0, 0, .null), (.iadd, 1, 0, 0, 0, .null)]), (109, [(.istore 7, 2, 0, 0, 0, .null), (.iload 7, 2, 0, 0, 0, .null), (.iload 5, 2, 0, 0, 0, .null)]), (171, [(.iconst 0, 1, 0, 0, 0, (.int (0 : Int32)))]), (118, [(.aload_n 0, 1, 0, 0, 0, .null), (.aload_n 0, 1, 0, 0, 0, .null), (.getfield 384, 3, 11, 21, 0, .null), (.bipush 16, 2, 0, 0, 0, (.int (16 : Int32))), (.iadd, 1, 0, 0, 0, .null), (.iconst 2, 1, 0, 0, 0, (.int (2 : Int32))), (.iload 4, 2, 0, 0, 0, .null), (.imul, 1, 0, 0, 0, .null), (.iadd, 1, 0, 0, 0, .null), (.iconst 2, 1, 0, 0, 0, (.int (2 : Int32))), (.iload 6, 2, 0, 0, 0, .null), (.imul, 1, 0, 0, 0, .null), (.iadd, 1, 0, 0, 0, .null)]), (139, [(.iload 7, 2, 0, 0, 0, .null)]), (144, [(.aload_n 0, 1, 0, 0, 0, .null), (.aload_n 0, 1, 0, 0, 0, .null), (.getfield 384, 3, 11, 21, 0, .null), (.bipush 16, 2, 0, 0, 0, (.int (16 : Int32))), (.iadd, 1, 0, 0, 0, .null), (.bipush 6, 2, 0, 0, 0, (.int (6 : Int32))), (.iload 4, 2, 0, 0, 0, .null), (.imul, 1, 0, 0, 0, .null), (.iadd, 1, 0, 0, 0, .null), (.iconst 2, 1, 0, 0, 0, (.int (2 : Int32))), (.iload 6, 2, 0, 0, 0, .null), (.imul, 1, 0, 0, 0, .null), (.iadd, 1, 0, 0, 0, .null)]), (166, [(.iconst 2, 1, 0, 0, 0, (.int (2 : Int32))), (.irem, 1, 0, 0, 0, .null)]), (173, [(.iload 7, 2, 0, 0, 0, .null), (.istore 5, 2, 0, 0, 0, .null), (.iinc 6 1, 3, 0, 0, 0, (.int (1 : Int32)))]), (183, [(.iload 5, 2, 0, 0, 0, .null), (.ldc_w 404, 3, 0, 0, 0, (.int (65535 : Int32)))]), (195, [(.iconst 0, 1, 0, 0, 0, (.int (0 : Int32)))]), (191, [(.iconst 1, 1, 0, 0, 0, (.int (1 : Int32)))])], [(7, .invokevirtual 213, 3), (23, .ireturn, 1), (32, .invokevirtual 213, 3), (73, .ireturn, 1), (54, .invokestatic 263, 3), (106, .invokevirtual 213, 3), (172, .ireturn, 1), (136, .invokevirtual 213, 3), (163, .invokevirtual 213, 3), (180, .goto (-94), 3), (168, .ifCond .eq 5, 3), (141, .if_icmp .gt 30, 3), (115, .if_icmp .le 56, 3), (90, .if_icmp .ge 93, 3), (196, .ireturn, 1), (192, .goto 4, 3), (188, .if_icmp .ne 7, 3), (69, .if_icmp .le 5, 3), (57, .ifCond .eq 15, 3), (44, .ifCond .ne 28, 3), (19, .if_icmp .ge 5, 3), (13, .if_icmp .gt 9, 3)])
set_option maxRecDepth 100000 in
theorem m_Mo_segments : hx_mok M_Mo_segments = true := by decide +kernel
theorem pd_Mo_segments : (parseMethodDescriptor M_Mo_segments.2.1.desc).map (fun q => q.parameters.length) = some 1 := by decide +kernel
theorem y_Mo_segments : hx_okV M_Mo_segments := ⟨⟨lw_g (lw_at lw_m11 218 rfl) rfl, lw_g (lw_at lw_m11 217 rfl) rfl, qs218, lw_g (lw_at lw_m1 12 rfl) rfl, rfl, by decide, by decide, by decide⟩, rfl, by decide, plainFor_of_name (by decide)⟩
noncomputable def f_Mo_segments (x1 : Int32) (h : hH) : Option (Int32 × hH) :=
  bP (f_Mo_u2 ((rdI h 192 21) + (2 : Int32)) h) fun a1 =>
  if x1 < a1 then (
    some ((0 : Int32), h)
  ) else (
    if (16 : Int32) ≤ a1 then (
      bP (f_Mo_u2 ((rdI h 192 21) + (6 : Int32)) h) fun a2 =>
      lz (A := Int32) (a2 / (2 : Int32)) fun v3 =>
      if (hx_rm a2 (2 : Int32)) = 0 then (
        bP (f_Mo_in (Int32.toInt64 v3) (1 : Int64) (40 : Int64)) fun a4 =>
        if a4 = 0 then (
          some ((0 : Int32), h)
        ) else (
          if ((16 : Int32) + ((8 : Int32) * v3)) ≤ a1 then (
            lz (wrI h 192 23 v3) fun h1 =>
            bE (P := Int32) (X := (Int32 × hH)) (
              wh (A := (Int32 × Int32)) (B := (Int32 ⊕ (Int32 × hH))) (fun p5 =>
                  if v3 ≤ p5.2 then (
                    some (.inr (.inl p5.1))
                  ) else (
                    bP (f_Mo_u2 (((rdI h1 192 21) + (14 : Int32)) + ((2 : Int32) * p5.2)) h1) fun a7 =>
                    if a7 ≤ p5.1 then (
                      some (.inr (.inr ((0 : Int32), h1)))
                    ) else (
                      bP (f_Mo_u2 ((((rdI h1 192 21) + (16 : Int32)) + ((2 : Int32) * v3)) + ((2 : Int32) * p5.2)) h1) fun a8 =>
                      if a7 < a8 then (
                        some (.inr (.inr ((0 : Int32), h1)))
                      ) else (
                        bP (f_Mo_u2 ((((rdI h1 192 21) + (16 : Int32)) + ((6 : Int32) * v3)) + ((2 : Int32) * p5.2)) h1) fun a9 =>
                        if (hx_rm a9 (2 : Int32)) = 0 then (
                          lz (A := Int32) (p5.2 + (1 : Int32)) fun v10 =>
                          some (.inl (a7, v10))
                        ) else (
                          some (.inr (.inr ((0 : Int32), h1)))
                        )
                      )
                    )
                  )
              ) ((-1 : Int32), (0 : Int32))
            ) fun p6 =>
            if p6 = (65535 : Int32) then (
              some ((1 : Int32), h1)
            ) else (
              some ((0 : Int32), h1)
            )
          ) else (
            some ((0 : Int32), h)
          )
        )
      ) else (
        some ((0 : Int32), h)
      )
    ) else (
      some ((0 : Int32), h)
    )
  )
set_option maxRecDepth 20000 in
theorem k_Mo_segments (x1 : Int32) (h : hH) : hx_kS S0 M_Mo_segments 3 NT [(.ref 192), (.int x1)] h (f_Mo_segments x1 h) cvI := by
  have hm := m_Mo_segments
  show hx_P S0 M_Mo_segments 3 0 [(0, (.ref 192)), (1, (.int x1))] [] NT h (f_Mo_segments x1 h) (hx_Rc cvI NT)
  unfold f_Mo_segments
  refine hp_cVP (M2 := M_Mo_u2) hm (at1 0 rfl) (as := [(.int ((rdI h 192 21) + (2 : Int32)))]) (rest := []) (z := 192) rfl (by exact og_192) (pc' := 7) rfl 0 rfl (lw_g (lw_at lw_m9 204 rfl) rfl) y_Mo_u2 rfl (d2 := 2) ⟨le_b rfl, pd_Mo_u2, le_b rfl⟩ (le_b rfl) og_192 (k_Mo_u2 ((rdI h 192 21) + (2 : Int32)) h) (fun a1 => ?_)
  refine hp_b hm (at1 1 rfl) (L' := [(2, (.int a1)), (0, (.ref 192)), (1, (.int x1))]) (st' := [(.int x1), (.int a1)]) rfl (by exact trivial) (pc' := 13) rfl ?_
  refine hp_ic_gt hm at0 rfl (by exact trivial) (pc' := 13) rfl 21 rfl (tgt := 22) rfl (fun c20 => ?_) (fun c20 => ?_)
  · exact hp_ir hm (at1 2 rfl) rfl (by exact trivial) (pc' := 23) rfl 1 rfl rfl rfl (fun _ e => e)
  · refine hp_ic_ge hm (at1 3 rfl) rfl (by exact trivial) (pc' := 19) rfl 20 rfl (tgt := 24) rfl (fun c19 => ?_) (fun c19 => ?_)
    · refine hp_cVP (M2 := M_Mo_u2) hm (at1 4 rfl) (as := [(.int ((rdI h 192 21) + (6 : Int32)))]) (rest := []) (z := 192) rfl (by exact og_192) (pc' := 32) rfl 2 rfl (lw_g (lw_at lw_m9 204 rfl) rfl) y_Mo_u2 rfl (d2 := 2) ⟨le_b rfl, pd_Mo_u2, le_b rfl⟩ (le_b rfl) og_192 (k_Mo_u2 ((rdI h 192 21) + (6 : Int32)) h) (fun a2 => ?_)
      refine hp_z hm (at1 5 rfl) (fun (v3 : Int32) => [(4, (.int v3)), (3, (.int a2)), (2, (.int a1)), (0, (.ref 192)), (1, (.int x1))]) (fun (v3 : Int32) => []) rfl (by exact (show ¬ (2 : Int32) = 0 by decide)) (pc' := 41) rfl (fun v3 => ?_)
      refine hp_if_ne hm (at1 6 rfl) rfl (by exact (show ¬ (2 : Int32) = 0 by decide)) (pc' := 44) rfl 19 rfl (tgt := 72) rfl (fun c18 => ?_) (fun c18 => ?_)
      · exact hp_ir hm (at1 7 rfl) rfl (by exact trivial) (pc' := 73) rfl 3 rfl rfl rfl (fun _ e => e)
      · refine hp_cSP (M2 := M_Mo_in) hm (at1 8 rfl) (as := [(.long (Int32.toInt64 v3)), (.long (1 : Int64)), (.long (40 : Int64))]) (rest := []) rfl (by exact trivial) (pc' := 54) rfl 4 rfl (lw_g (lw_at lw_m9 184 rfl) rfl) y_Mo_in rfl (d2 := 1) ⟨le_b rfl, pd_Mo_in, le_b rfl⟩ (le_b rfl) (k_Mo_in (Int32.toInt64 v3) (1 : Int64) (40 : Int64) h) (fun a4 => ?_)
        refine hp_if_eq hm at0 rfl (by exact trivial) (pc' := 57) rfl 18 rfl (tgt := 72) rfl (fun c17 => ?_) (fun c17 => ?_)
        · exact hp_ir hm (at1 7 rfl) rfl (by exact trivial) (pc' := 73) rfl 3 rfl rfl rfl (fun _ e => e)
        · refine hp_ic_le hm (at1 9 rfl) rfl (by exact trivial) (pc' := 69) rfl 17 rfl (tgt := 74) rfl (fun c16 => ?_) (fun c16 => ?_)
          · refine hp_w hm (at1 10 rfl) (L' := [(4, (.int v3)), (3, (.int a2)), (2, (.int a1)), (0, (.ref 192)), (1, (.int x1))]) rfl (by exact og_192) (pc' := 80) rfl (fun h1 => ?_)
            refine hp_b hm (at1 11 rfl) (L' := [(6, (.int (0 : Int32))), (5, (.int (-1 : Int32))), (4, (.int v3)), (3, (.int a2)), (2, (.int a1)), (0, (.ref 192)), (1, (.int x1))]) (st' := []) rfl (by exact trivial) (pc' := 86) rfl ?_
            refine hp_E 183 (fun (p6 : Int32) => [(5, (.int p6))]) (fun (p6 : Int32) => []) (fun (p6 : Int32) => h1) ?_ (fun p6 => ?_)
            · refine hp_s [5, 2, 1, 0] rfl (L' := [(0, (.ref 192)), (4, (.int v3)), (5, (.int (-1 : Int32))), (6, (.int (0 : Int32)))]) ?_
              refine hp_wh (fun (p5 : (Int32 × Int32)) => [(0, (.ref 192)), (4, (.int v3)), (5, (.int p5.1)), (6, (.int p5.2))]) [] (fun (p5 : (Int32 × Int32)) => h1) (fun p5 => ?_) ((-1 : Int32), (0 : Int32))
              refine hp_ic_ge hm (at1 12 rfl) rfl (by exact trivial) (pc' := 90) rfl 13 rfl (tgt := 183) rfl (fun c14 => ?_) (fun c14 => ?_)
              · exact hp_lf [2] rfl (fun _ e => e)
              · refine hp_cVP (M2 := M_Mo_u2) hm (at1 13 rfl) (as := [(.int (((rdI h1 192 21) + (14 : Int32)) + ((2 : Int32) * p5.2)))]) (rest := []) (z := 192) rfl (by exact og_192) (pc' := 106) rfl 5 rfl (lw_g (lw_at lw_m9 204 rfl) rfl) y_Mo_u2 rfl (d2 := 2) ⟨le_b rfl, pd_Mo_u2, le_b rfl⟩ (le_b rfl) og_192 (k_Mo_u2 (((rdI h1 192 21) + (14 : Int32)) + ((2 : Int32) * p5.2)) h1) (fun a7 => ?_)
                refine hp_b hm (at1 14 rfl) (L' := [(7, (.int a7)), (0, (.ref 192)), (4, (.int v3)), (5, (.int p5.1)), (6, (.int p5.2))]) (st' := [(.int p5.1), (.int a7)]) rfl (by exact trivial) (pc' := 115) rfl ?_
                refine hp_ic_le hm at0 rfl (by exact trivial) (pc' := 115) rfl 12 rfl (tgt := 171) rfl (fun c13 => ?_) (fun c13 => ?_)
                · exact hp_ir hm (at1 15 rfl) rfl (by exact trivial) (pc' := 172) rfl 6 rfl rfl rfl (fun _ e => e)
                · refine hp_cVP (M2 := M_Mo_u2) hm (at1 16 rfl) (as := [(.int ((((rdI h1 192 21) + (16 : Int32)) + ((2 : Int32) * v3)) + ((2 : Int32) * p5.2)))]) (rest := []) (z := 192) rfl (by exact og_192) (pc' := 136) rfl 7 rfl (lw_g (lw_at lw_m9 204 rfl) rfl) y_Mo_u2 rfl (d2 := 2) ⟨le_b rfl, pd_Mo_u2, le_b rfl⟩ (le_b rfl) og_192 (k_Mo_u2 ((((rdI h1 192 21) + (16 : Int32)) + ((2 : Int32) * v3)) + ((2 : Int32) * p5.2)) h1) (fun a8 => ?_)
                  refine hp_ic_gt hm (at1 17 rfl) rfl (by exact trivial) (pc' := 141) rfl 11 rfl (tgt := 171) rfl (fun c12 => ?_) (fun c12 => ?_)
                  · exact hp_ir hm (at1 15 rfl) rfl (by exact trivial) (pc' := 172) rfl 6 rfl rfl rfl (fun _ e => e)
                  · refine hp_cVP (M2 := M_Mo_u2) hm (at1 18 rfl) (as := [(.int ((((rdI h1 192 21) + (16 : Int32)) + ((6 : Int32) * v3)) + ((2 : Int32) * p5.2)))]) (rest := []) (z := 192) rfl (by exact og_192) (pc' := 163) rfl 8 rfl (lw_g (lw_at lw_m9 204 rfl) rfl) y_Mo_u2 rfl (d2 := 2) ⟨le_b rfl, pd_Mo_u2, le_b rfl⟩ (le_b rfl) og_192 (k_Mo_u2 ((((rdI h1 192 21) + (16 : Int32)) + ((6 : Int32) * v3)) + ((2 : Int32) * p5.2)) h1) (fun a9 => ?_)
                    refine hp_if_eq hm (at1 19 rfl) rfl (by exact (show ¬ (2 : Int32) = 0 by decide)) (pc' := 168) rfl 10 rfl (tgt := 173) rfl (fun c11 => ?_) (fun c11 => ?_)
                    · refine hp_z hm (at1 20 rfl) (fun (v10 : Int32) => [(6, (.int v10)), (5, (.int a7)), (7, (.int a7)), (0, (.ref 192)), (4, (.int v3))]) (fun (v10 : Int32) => []) rfl (by exact trivial) (pc' := 180) rfl (fun v10 => ?_)
                      refine hp_goto hm 9 rfl (tgt := 86) rfl ?_
                      exact hp_lf [3, 4, 1, 0] rfl (fun _ e => e)
                    · exact hp_ir hm (at1 15 rfl) rfl (by exact trivial) (pc' := 172) rfl 6 rfl rfl rfl (fun _ e => e)
            · refine hp_ic_ne hm (at1 21 rfl) rfl (by exact trivial) (pc' := 188) rfl 16 rfl (tgt := 195) rfl (fun c15 => ?_) (fun c15 => ?_)
              · refine hp_b hm (at1 22 rfl) (L' := [(5, (.int p6))]) (st' := [(.int (0 : Int32))]) rfl (by exact trivial) (pc' := 196) rfl ?_
                exact hp_ir hm at0 rfl (by exact trivial) (pc' := 196) rfl 14 rfl rfl rfl (fun _ e => e)
              · refine hp_b hm (at1 23 rfl) (L' := [(5, (.int p6))]) (st' := [(.int (1 : Int32))]) rfl (by exact trivial) (pc' := 192) rfl ?_
                refine hp_goto hm 15 rfl (tgt := 196) rfl ?_
                exact hp_ir hm at0 rfl (by exact trivial) (pc' := 196) rfl 14 rfl rfl rfl (fun _ e => e)
          · exact hp_ir hm (at1 7 rfl) rfl (by exact trivial) (pc' := 73) rfl 3 rfl rfl rfl (fun _ e => e)
    · exact hp_ir hm (at1 2 rfl) rfl (by exact trivial) (pc' := 23) rfl 1 rfl rfl rfl (fun _ e => e)
/-! HintHouseModel.groups(I)Z -/
def M_Mo_groups : hM := (11, ⟨"HintHouseModel", "groups", "(I)Z"⟩, prog_13_method_32_code, 8, (Option.some Jvm.ClassFile.FieldType.boolean), [], [(0, [(.iload_n 1, 1, 0, 0, 0, .null), (.bipush 16, 2, 0, 0, 0, (.int (16 : Int32)))]), (8, [(.aload_n 0, 1, 0, 0, 0, .null), (.aload_n 0, 1, 0, 0, 0, .null), (.getfield 384, 3, 11, 21, 0, .null), (.iconst 4, 1, 0, 0, 0, (.int (4 : Int32))), (.iadd, 1, 0, 0, 0, .null)]), (18, [(.lstore_n 2, 1, 0, 0, 0, .null), (.aload_n 0, 1, 0, 0, 0, .null), (.aload_n 0, 1, 0, 0, 0, .null), (.getfield 384, 3, 11, 21, 0, .null), (.bipush 12, 2, 0, 0, 0, (.int (12 : Int32))), (.iadd, 1, 0, 0, 0, .null)]), (30, [(.lstore 4, 2, 0, 0, 0, .null), (.lload_n 2, 1, 0, 0, 0, .null), (.iload_n 1, 1, 0, 0, 0, .null), (.i2l, 1, 0, 0, 0, .null), (.lcmp, 1, 0, 0, 0, .null)]), (66, [(.iconst 0, 1, 0, 0, 0, (.int (0 : Int32)))]), (39, [(.lload 4, 2, 0, 0, 0, .null), (.lconst 1, 1, 0, 0, 0, (.long (1 : Int64))), (.ldc2_w 402, 3, 0, 0, 0, (.long (40 : Int64)))]), (51, [(.ldc2_w 232, 3, 0, 0, 0, (.long (16 : Int64))), (.ldc2_w 230, 3, 0, 0, 0, (.long (12 : Int64))), (.lload 4, 2, 0, 0, 0, .null), (.lmul, 1, 0, 0, 0, .null), (.ladd, 1, 0, 0, 0, .null), (.lload_n 2, 1, 0, 0, 0, .null), (.lcmp, 1, 0, 0, 0, .null)]), (68, [(.aload_n 0, 1, 0, 0, 0, .null), (.lload 4, 2, 0, 0, 0, .null), (.l2i, 1, 0, 0, 0, .null), (.putfield 399, 3, 11, 23, 0, .null)]), (75, [(.iconst 0, 1, 0, 0, 0, (.int (0 : Int32))), (.istore 6, 2, 0, 0, 0, .null)]), (78, [(.iload 6, 2, 0, 0, 0, .null), (.aload_n 0, 1, 0, 0, 0, .null), (.getfield 399, 3, 11, 23, 0, .null)]), (87, [(.aload_n 0, 1, 0, 0, 0, .null), (.getfield 384, 3, 11, 21, 0, .null), (.bipush 16, 2, 0, 0, 0, (.int (16 : Int32))), (.iadd, 1, 0, 0, 0, .null), (.bipush 12, 2, 0, 0, 0, (.int (12 : Int32))), (.iload 6, 2, 0, 0, 0, .null), (.imul, 1, 0, 0, 0, .null), (.iadd, 1, 0, 0, 0, .null), (.istore 7, 2, 0, 0, 0, .null)]), (102, [(.aload_n 0, 1, 0, 0, 0, .null), (.iload 7, 2, 0, 0, 0, .null)]), (108, [(.aload_n 0, 1, 0, 0, 0, .null), (.iload 7, 2, 0, 0, 0, .null), (.iconst 4, 1, 0, 0, 0, (.int (4 : Int32))), (.iadd, 1, 0, 0, 0, .null)]), (116, [(.lcmp, 1, 0, 0, 0, .null)]), (152, [(.iconst 0, 1, 0, 0, 0, (.int (0 : Int32)))]), (120, [(.iload 6, 2, 0, 0, 0, .null), (.iconst 1, 1, 0, 0, 0, (.int (1 : Int32))), (.iadd, 1, 0, 0, 0, .null), (.aload_n 0, 1, 0, 0, 0, .null), (.getfield 399, 3, 11, 23, 0, .null)]), (131, [(.aload_n 0, 1, 0, 0, 0, .null), (.iload 7, 2, 0, 0, 0, .null), (.iconst 4, 1, 0, 0, 0, (.int (4 : Int32))), (.iadd, 1, 0, 0, 0, .null)]), (139, [(.aload_n 0, 1, 0, 0, 0, .null), (.iload 7, 2, 0, 0, 0, .null), (.bipush 12, 2, 0, 0, 0, (.int (12 : Int32))), (.iadd, 1, 0, 0, 0, .null)]), (148, [(.lcmp, 1, 0, 0, 0, .null)]), (154, [(.iinc 6 1, 3, 0, 0, 0, (.int (1 : Int32)))]), (160, [(.iconst 1, 1, 0, 0, 0, (.int (1 : Int32)))]), (6, [(.iconst 0, 1, 0, 0, 0, (.int (0 : Int32)))])], [(15, .invokevirtual 297, 3), (27, .invokevirtual 297, 3), (67, .ireturn, 1), (45, .invokestatic 263, 3), (105, .invokevirtual 297, 3), (113, .invokevirtual 297, 3), (153, .ireturn, 1), (136, .invokevirtual 297, 3), (145, .invokevirtual 297, 3), (149, .ifCond .lt 5, 3), (128, .if_icmp .ge 26, 3), (157, .goto (-79), 3), (117, .ifCond .gt 35, 3), (84, .if_icmp .ge 76, 3), (161, .ireturn, 1), (63, .ifCond .le 5, 3), (48, .ifCond .eq 18, 3), (36, .ifCond .gt 30, 3), (7, .ireturn, 1), (3, .if_icmp .ge 5, 3)])
set_option maxRecDepth 100000 in
theorem m_Mo_groups : hx_mok M_Mo_groups = true := by decide +kernel
theorem pd_Mo_groups : (parseMethodDescriptor M_Mo_groups.2.1.desc).map (fun q => q.parameters.length) = some 1 := by decide +kernel
theorem y_Mo_groups : hx_okV M_Mo_groups := ⟨⟨lw_g (lw_at lw_m11 223 rfl) rfl, lw_g (lw_at lw_m11 222 rfl) rfl, qs219, lw_g (lw_at lw_m1 12 rfl) rfl, rfl, by decide, by decide, by decide⟩, rfl, by decide, plainFor_of_name (by decide)⟩
noncomputable def f_Mo_groups (x1 : Int32) (h : hH) : Option (Int32 × hH) :=
  if (16 : Int32) ≤ x1 then (
    bP (f_Mo_u4 ((rdI h 192 21) + (4 : Int32)) h) fun a1 =>
    bP (f_Mo_u4 ((rdI h 192 21) + (12 : Int32)) h) fun a2 =>
    if (Int32.toInt64 x1) < a1 then (
      some ((0 : Int32), h)
    ) else (
      bP (f_Mo_in a2 (1 : Int64) (40 : Int64)) fun a3 =>
      if a3 = 0 then (
        some ((0 : Int32), h)
      ) else (
        if ((16 : Int64) + ((12 : Int64) * a2)) ≤ a1 then (
          lz (wrI h 192 23 (Int64.toInt32 a2)) fun h1 =>
          bE (P := Unit) (X := (Int32 × hH)) (
            wh (A := Int32) (B := (Unit ⊕ (Int32 × hH))) (fun p4 =>
                if (rdI h1 192 23) ≤ p4 then (
                  some (.inr (.inl ()))
                ) else (
                  lz (A := Int32) (((rdI h1 192 21) + (16 : Int32)) + ((12 : Int32) * p4)) fun v6 =>
                  bP (f_Mo_u4 v6 h1) fun a7 =>
                  bP (f_Mo_u4 (v6 + (4 : Int32)) h1) fun a8 =>
                  if a8 < a7 then (
                    some (.inr (.inr ((0 : Int32), h1)))
                  ) else (
                    cO (
                      if (rdI h1 192 23) ≤ (p4 + (1 : Int32)) then (
                        some false
                      ) else (
                        bP (f_Mo_u4 (v6 + (4 : Int32)) h1) fun a9 =>
                        bP (f_Mo_u4 (v6 + (12 : Int32)) h1) fun a10 =>
                        if a9 < a10 then (
                          some false
                        ) else (
                          some true
                        )
                      )
                    ) (
                      some (.inr (.inr ((0 : Int32), h1)))
                    ) (
                      lz (A := Int32) (p4 + (1 : Int32)) fun v17 =>
                      some (.inl v17)
                    )
                  )
                )
            ) (0 : Int32)
          ) fun p5 =>
          some ((1 : Int32), h1)
        ) else (
          some ((0 : Int32), h)
        )
      )
    )
  ) else (
    some ((0 : Int32), h)
  )
set_option maxRecDepth 20000 in
theorem k_Mo_groups (x1 : Int32) (h : hH) : hx_kS S0 M_Mo_groups 4 NT [(.ref 192), (.int x1)] h (f_Mo_groups x1 h) cvI := by
  have hm := m_Mo_groups
  show hx_P S0 M_Mo_groups 4 0 [(0, (.ref 192)), (1, (.int x1))] [] NT h (f_Mo_groups x1 h) (hx_Rc cvI NT)
  unfold f_Mo_groups
  refine hp_ic_ge hm (at1 0 rfl) rfl (by exact trivial) (pc' := 3) rfl 19 rfl (tgt := 8) rfl (fun c23 => ?_) (fun c23 => ?_)
  · refine hp_cVP (M2 := M_Mo_u4) hm (at1 1 rfl) (as := [(.int ((rdI h 192 21) + (4 : Int32)))]) (rest := []) (z := 192) rfl (by exact og_192) (pc' := 15) rfl 0 rfl (lw_g (lw_at lw_m11 18 rfl) rfl) y_Mo_u4 rfl (d2 := 3) ⟨le_b rfl, pd_Mo_u4, le_b rfl⟩ (le_b rfl) og_192 (k_Mo_u4 ((rdI h 192 21) + (4 : Int32)) h) (fun a1 => ?_)
    refine hp_b hm (at1 2 rfl) (L' := [(2, (.long a1)), (0, (.ref 192)), (1, (.int x1))]) (st' := [(.int ((rdI h 192 21) + (12 : Int32))), (.ref 192)]) rfl (by exact og_192) (pc' := 27) rfl ?_
    refine hp_cVP (M2 := M_Mo_u4) hm at0 (as := [(.int ((rdI h 192 21) + (12 : Int32)))]) (rest := []) (z := 192) rfl (by exact trivial) (pc' := 27) rfl 1 rfl (lw_g (lw_at lw_m11 18 rfl) rfl) y_Mo_u4 rfl (d2 := 3) ⟨le_b rfl, pd_Mo_u4, le_b rfl⟩ (le_b rfl) og_192 (k_Mo_u4 ((rdI h 192 21) + (12 : Int32)) h) (fun a2 => ?_)
    refine hp_b hm (at1 3 rfl) (L' := [(4, (.long a2)), (2, (.long a1)), (0, (.ref 192)), (1, (.int x1))]) (st' := [(.int (lg_cmp a1 (Int32.toInt64 x1)))]) rfl (by exact trivial) (pc' := 36) rfl ?_
    refine hp_lc_gt hm at0 rfl (by exact trivial) (pc' := 36) rfl 17 rfl (tgt := 66) rfl (fun c22 => ?_) (fun c22 => ?_)
    · exact hp_ir hm (at1 4 rfl) rfl (by exact trivial) (pc' := 67) rfl 2 rfl rfl rfl (fun _ e => e)
    · refine hp_cSP (M2 := M_Mo_in) hm (at1 5 rfl) (as := [(.long a2), (.long (1 : Int64)), (.long (40 : Int64))]) (rest := []) rfl (by exact trivial) (pc' := 45) rfl 3 rfl (lw_g (lw_at lw_m9 184 rfl) rfl) y_Mo_in rfl (d2 := 1) ⟨le_b rfl, pd_Mo_in, le_b rfl⟩ (le_b rfl) (k_Mo_in a2 (1 : Int64) (40 : Int64) h) (fun a3 => ?_)
      refine hp_if_eq hm at0 rfl (by exact trivial) (pc' := 48) rfl 16 rfl (tgt := 66) rfl (fun c21 => ?_) (fun c21 => ?_)
      · exact hp_ir hm (at1 4 rfl) rfl (by exact trivial) (pc' := 67) rfl 2 rfl rfl rfl (fun _ e => e)
      · refine hp_lc_le hm (at1 6 rfl) rfl (by exact trivial) (pc' := 63) rfl 15 rfl (tgt := 68) rfl (fun c20 => ?_) (fun c20 => ?_)
        · refine hp_w hm (at1 7 rfl) (L' := [(4, (.long a2)), (2, (.long a1)), (0, (.ref 192)), (1, (.int x1))]) rfl (by exact og_192) (pc' := 75) rfl (fun h1 => ?_)
          refine hp_b hm (at1 8 rfl) (L' := [(6, (.int (0 : Int32))), (4, (.long a2)), (2, (.long a1)), (0, (.ref 192)), (1, (.int x1))]) (st' := []) rfl (by exact trivial) (pc' := 78) rfl ?_
          refine hp_E 160 (fun (p5 : Unit) => []) (fun (p5 : Unit) => []) (fun (p5 : Unit) => h1) ?_ (fun p5 => ?_)
          · refine hp_s [3, 0] rfl (L' := [(0, (.ref 192)), (6, (.int (0 : Int32)))]) ?_
            refine hp_wh (fun (p4 : Int32) => [(0, (.ref 192)), (6, (.int p4))]) [] (fun (p4 : Int32) => h1) (fun p4 => ?_) (0 : Int32)
            refine hp_ic_ge hm (at1 9 rfl) rfl (by exact og_192) (pc' := 84) rfl 13 rfl (tgt := 160) rfl (fun c19 => ?_) (fun c19 => ?_)
            · exact hp_lf [] rfl (fun _ e => e)
            · refine hp_z hm (at1 10 rfl) (fun (v6 : Int32) => [(7, (.int v6)), (0, (.ref 192)), (6, (.int p4))]) (fun (v6 : Int32) => []) rfl (by exact og_192) (pc' := 102) rfl (fun v6 => ?_)
              refine hp_cVP (M2 := M_Mo_u4) hm (at1 11 rfl) (as := [(.int v6)]) (rest := []) (z := 192) rfl (by exact trivial) (pc' := 105) rfl 4 rfl (lw_g (lw_at lw_m11 18 rfl) rfl) y_Mo_u4 rfl (d2 := 3) ⟨le_b rfl, pd_Mo_u4, le_b rfl⟩ (le_b rfl) og_192 (k_Mo_u4 v6 h1) (fun a7 => ?_)
              refine hp_cVP (M2 := M_Mo_u4) hm (at1 12 rfl) (as := [(.int (v6 + (4 : Int32)))]) (rest := [(.long a7)]) (z := 192) rfl (by exact trivial) (pc' := 113) rfl 5 rfl (lw_g (lw_at lw_m11 18 rfl) rfl) y_Mo_u4 rfl (d2 := 3) ⟨le_b rfl, pd_Mo_u4, le_b rfl⟩ (le_b rfl) og_192 (k_Mo_u4 (v6 + (4 : Int32)) h1) (fun a8 => ?_)
              refine hp_lc_gt hm (at1 13 rfl) rfl (by exact trivial) (pc' := 117) rfl 12 rfl (tgt := 152) rfl (fun c18 => ?_) (fun c18 => ?_)
              · exact hp_ir hm (at1 14 rfl) rfl (by exact trivial) (pc' := 153) rfl 6 rfl rfl rfl (fun _ e => e)
              · refine hp_cO (L0 := [(7, (.int v6)), (0, (.ref 192)), (6, (.int p4))]) (s0 := []) 152 154 ?_ ?_ ?_
                · refine hp_ic_ge hm (at1 15 rfl) rfl (by exact og_192) (pc' := 128) rfl 10 rfl (tgt := 154) rfl (fun c12 => ?_) (fun c12 => ?_)
                  · exact hp_l0 (fun _ e => e)
                  · refine hp_cVP (M2 := M_Mo_u4) hm (at1 16 rfl) (as := [(.int (v6 + (4 : Int32)))]) (rest := []) (z := 192) rfl (by exact trivial) (pc' := 136) rfl 7 rfl (lw_g (lw_at lw_m11 18 rfl) rfl) y_Mo_u4 rfl (d2 := 3) ⟨le_b rfl, pd_Mo_u4, le_b rfl⟩ (le_b rfl) og_192 (k_Mo_u4 (v6 + (4 : Int32)) h1) (fun a9 => ?_)
                    refine hp_cVP (M2 := M_Mo_u4) hm (at1 17 rfl) (as := [(.int (v6 + (12 : Int32)))]) (rest := [(.long a9)]) (z := 192) rfl (by exact trivial) (pc' := 145) rfl 8 rfl (lw_g (lw_at lw_m11 18 rfl) rfl) y_Mo_u4 rfl (d2 := 3) ⟨le_b rfl, pd_Mo_u4, le_b rfl⟩ (le_b rfl) og_192 (k_Mo_u4 (v6 + (12 : Int32)) h1) (fun a10 => ?_)
                    refine hp_lc_lt hm (at1 18 rfl) rfl (by exact trivial) (pc' := 149) rfl 9 rfl (tgt := 154) rfl (fun c11 => ?_) (fun c11 => ?_)
                    · exact hp_l0 (fun _ e => e)
                    · exact hp_l0 (fun _ e => e)
                · exact hp_ir hm (at1 14 rfl) rfl (by exact trivial) (pc' := 153) rfl 6 rfl rfl rfl (fun _ e => e)
                · refine hp_z hm (at1 19 rfl) (fun (v17 : Int32) => [(6, (.int v17)), (7, (.int v6)), (0, (.ref 192))]) (fun (v17 : Int32) => []) rfl (by exact trivial) (pc' := 157) rfl (fun v17 => ?_)
                  refine hp_goto hm 11 rfl (tgt := 78) rfl ?_
                  exact hp_lf [2, 0] rfl (fun _ e => e)
          · exact hp_ir hm (at1 20 rfl) rfl (by exact trivial) (pc' := 161) rfl 14 rfl rfl rfl (fun _ e => e)
        · exact hp_ir hm (at1 4 rfl) rfl (by exact trivial) (pc' := 67) rfl 2 rfl rfl rfl (fun _ e => e)
  · exact hp_ir hm (at1 21 rfl) rfl (by exact trivial) (pc' := 7) rfl 18 rfl rfl rfl (fun _ e => e)
/-! HintHouseModel.map()Z -/
def M_Mo_map : hM := (11, ⟨"HintHouseModel", "map", "()Z"⟩, prog_13_method_29_code, 12, (Option.some Jvm.ClassFile.FieldType.boolean), [], [(0, [(.aload_n 0, 1, 0, 0, 0, .null), (.ldc 239, 2, 0, 0, 0, (.int (1668112752 : Int32)))]), (6, [(.istore_n 1, 1, 0, 0, 0, .null), (.aload_n 0, 1, 0, 0, 0, .null), (.ldc 239, 2, 0, 0, 0, (.int (1668112752 : Int32)))]), (13, [(.istore_n 2, 1, 0, 0, 0, .null), (.iload_n 2, 1, 0, 0, 0, .null), (.iconst 4, 1, 0, 0, 0, (.int (4 : Int32)))]), (29, [(.iconst 0, 1, 0, 0, 0, (.int (0 : Int32)))]), (19, [(.aload_n 0, 1, 0, 0, 0, .null), (.iload_n 1, 1, 0, 0, 0, .null), (.iconst 2, 1, 0, 0, 0, (.int (2 : Int32))), (.iadd, 1, 0, 0, 0, .null)]), (30, [(.istore_n 3, 1, 0, 0, 0, .null), (.iload_n 2, 1, 0, 0, 0, .null), (.iconst 4, 1, 0, 0, 0, (.int (4 : Int32)))]), (66, [(.iconst 0, 1, 0, 0, 0, (.int (0 : Int32)))]), (36, [(.aload_n 0, 1, 0, 0, 0, .null), (.iload_n 1, 1, 0, 0, 0, .null)]), (44, [(.iload_n 3, 1, 0, 0, 0, .null), (.i2l, 1, 0, 0, 0, .null), (.lconst 1, 1, 0, 0, 0, (.long (1 : Int64))), (.ldc2_w 380, 3, 0, 0, 0, (.long (8 : Int64)))]), (56, [(.iload_n 2, 1, 0, 0, 0, .null), (.iconst 4, 1, 0, 0, 0, (.int (4 : Int32))), (.bipush 8, 2, 0, 0, 0, (.int (8 : Int32))), (.iload_n 3, 1, 0, 0, 0, .null), (.imul, 1, 0, 0, 0, .null), (.iadd, 1, 0, 0, 0, .null)]), (68, [(.bipush 9, 2, 0, 0, 0, (.int (9 : Int32))), (.istore 4, 2, 0, 0, 0, .null), (.lconst 0, 1, 0, 0, 0, (.long (0 : Int64))), (.lstore 5, 2, 0, 0, 0, .null), (.iconst 0, 1, 0, 0, 0, (.int (0 : Int32))), (.istore 7, 2, 0, 0, 0, .null)]), (78, [(.iload 7, 2, 0, 0, 0, .null), (.iload_n 3, 1, 0, 0, 0, .null)]), (84, [(.iload_n 1, 1, 0, 0, 0, .null), (.iconst 4, 1, 0, 0, 0, (.int (4 : Int32))), (.iadd, 1, 0, 0, 0, .null), (.bipush 8, 2, 0, 0, 0, (.int (8 : Int32))), (.iload 7, 2, 0, 0, 0, .null), (.imul, 1, 0, 0, 0, .null), (.iadd, 1, 0, 0, 0, .null), (.istore 8, 2, 0, 0, 0, .null)]), (95, [(.aload_n 0, 1, 0, 0, 0, .null), (.iload 8, 2, 0, 0, 0, .null)]), (101, [(.istore 9, 2, 0, 0, 0, .null), (.aload_n 0, 1, 0, 0, 0, .null), (.iload 8, 2, 0, 0, 0, .null), (.iconst 2, 1, 0, 0, 0, (.int (2 : Int32))), (.iadd, 1, 0, 0, 0, .null)]), (111, [(.istore 10, 2, 0, 0, 0, .null), (.iload 9, 2, 0, 0, 0, .null), (.iconst 3, 1, 0, 0, 0, (.int (3 : Int32)))]), (119, [(.iload 10, 2, 0, 0, 0, .null), (.bipush 10, 2, 0, 0, 0, (.int (10 : Int32)))]), (126, [(.iconst 0, 1, 0, 0, 0, (.int (0 : Int32)))]), (130, [(.iload 9, 2, 0, 0, 0, .null), (.iconst 3, 1, 0, 0, 0, (.int (3 : Int32)))]), (136, [(.iload 10, 2, 0, 0, 0, .null), (.iconst 1, 1, 0, 0, 0, (.int (1 : Int32)))]), (142, [(.iconst 1, 1, 0, 0, 0, (.int (1 : Int32)))]), (146, [(.iload 9, 2, 0, 0, 0, .null), (.iconst 1, 1, 0, 0, 0, (.int (1 : Int32)))]), (161, [(.bipush 9, 2, 0, 0, 0, (.int (9 : Int32)))]), (152, [(.iload 10, 2, 0, 0, 0, .null)]), (157, [(.iconst 2, 1, 0, 0, 0, (.int (2 : Int32)))]), (163, [(.istore 11, 2, 0, 0, 0, .null), (.iload 11, 2, 0, 0, 0, .null), (.iload 4, 2, 0, 0, 0, .null)]), (172, [(.iload 11, 2, 0, 0, 0, .null), (.istore 4, 2, 0, 0, 0, .null), (.aload_n 0, 1, 0, 0, 0, .null), (.iload 8, 2, 0, 0, 0, .null), (.iconst 4, 1, 0, 0, 0, (.int (4 : Int32))), (.iadd, 1, 0, 0, 0, .null)]), (184, [(.lstore 5, 2, 0, 0, 0, .null)]), (186, [(.iinc 7 1, 3, 0, 0, 0, (.int (1 : Int32)))]), (192, [(.iload 4, 2, 0, 0, 0, .null), (.bipush 9, 2, 0, 0, 0, (.int (9 : Int32)))]), (211, [(.iconst 0, 1, 0, 0, 0, (.int (0 : Int32)))]), (199, [(.lload 5, 2, 0, 0, 0, .null), (.ldc2_w 382, 3, 0, 0, 0, (.long (6 : Int64))), (.ladd, 1, 0, 0, 0, .null), (.iload_n 2, 1, 0, 0, 0, .null), (.i2l, 1, 0, 0, 0, .null), (.lcmp, 1, 0, 0, 0, .null)]), (213, [(.aload_n 0, 1, 0, 0, 0, .null), (.iload_n 1, 1, 0, 0, 0, .null), (.lload 5, 2, 0, 0, 0, .null), (.l2i, 1, 0, 0, 0, .null), (.iadd, 1, 0, 0, 0, .null), (.putfield 384, 3, 11, 21, 0, .null)]), (222, [(.aload_n 0, 1, 0, 0, 0, .null), (.iload 4, 2, 0, 0, 0, .null)]), (233, [(.iload 4, 2, 0, 0, 0, .null), (.iconst 1, 1, 0, 0, 0, (.int (1 : Int32)))]), (243, [(.iconst 0, 1, 0, 0, 0, (.int (0 : Int32)))]), (239, [(.iconst 4, 1, 0, 0, 0, (.int (4 : Int32)))]), (228, [(.bipush 12, 2, 0, 0, 0, (.int (12 : Int32)))]), (244, [(.putfield 387, 3, 11, 22, 0, .null)]), (247, [(.iload_n 2, 1, 0, 0, 0, .null), (.lload 5, 2, 0, 0, 0, .null), (.l2i, 1, 0, 0, 0, .null), (.isub, 1, 0, 0, 0, .null), (.istore 7, 2, 0, 0, 0, .null)]), (254, [(.aload_n 0, 1, 0, 0, 0, .null), (.aload_n 0, 1, 0, 0, 0, .null), (.getfield 384, 3, 11, 21, 0, .null)]), (262, [(.aload_n 0, 1, 0, 0, 0, .null), (.getfield 387, 3, 11, 22, 0, .null)]), (271, [(.aload_n 0, 1, 0, 0, 0, .null), (.getfield 387, 3, 11, 22, 0, .null)]), (320, [(.aload_n 0, 1, 0, 0, 0, .null), (.getfield 387, 3, 11, 22, 0, .null), (.iconst 4, 1, 0, 0, 0, (.int (4 : Int32)))]), (337, [(.aload_n 0, 1, 0, 0, 0, .null), (.iload 7, 2, 0, 0, 0, .null)]), (328, [(.aload_n 0, 1, 0, 0, 0, .null), (.iload 7, 2, 0, 0, 0, .null)]), (278, [(.aload_n 0, 1, 0, 0, 0, .null), (.aload_n 0, 1, 0, 0, 0, .null), (.getfield 384, 3, 11, 21, 0, .null), (.iconst 2, 1, 0, 0, 0, (.int (2 : Int32))), (.iadd, 1, 0, 0, 0, .null)]), (288, [(.sipush 262, 3, 0, 0, 0, (.int (262 : Int32)))]), (316, [(.iconst 0, 1, 0, 0, 0, (.int (0 : Int32)))]), (294, [(.iload 7, 2, 0, 0, 0, .null), (.sipush 262, 3, 0, 0, 0, (.int (262 : Int32)))]), (302, [(.aload_n 0, 1, 0, 0, 0, .null), (.sipush 256, 3, 0, 0, 0, (.int (256 : Int32)))]), (312, [(.iconst 1, 1, 0, 0, 0, (.int (1 : Int32)))]), (269, [(.iconst 0, 1, 0, 0, 0, (.int (0 : Int32)))])], [(3, .invokevirtual 251, 3), (10, .invokevirtual 257, 3), (23, .invokevirtual 213, 3), (26, .goto 4, 3), (16, .if_icmp .lt 13, 3), (67, .ireturn, 1), (38, .invokevirtual 213, 3), (50, .invokestatic 263, 3), (98, .invokevirtual 213, 3), (108, .invokevirtual 213, 3), (123, .if_icmp .ne 7, 3), (116, .if_icmp .ne 14, 3), (127, .goto 36, 3), (139, .if_icmp .ne 7, 3), (133, .if_icmp .ne 13, 3), (143, .goto 20, 3), (158, .goto 5, 3), (154, .ifCond .ne 7, 3), (149, .if_icmp .ne 12, 3), (181, .invokevirtual 297, 3), (169, .if_icmp .ge 17, 3), (189, .goto (-111), 3), (81, .if_icmp .ge 111, 3), (212, .ireturn, 1), (240, .goto 4, 3), (236, .if_icmp .ne 7, 3), (230, .goto 14, 3), (225, .ifCond .ne 8, 3), (259, .invokevirtual 213, 3), (340, .invokevirtual 396, 3), (343, .ireturn, 1), (331, .invokevirtual 393, 3), (334, .goto 9, 3), (325, .if_icmp .ne 12, 3), (285, .invokevirtual 213, 3), (317, .goto 26, 3), (306, .invokevirtual 390, 3), (313, .goto 30, 3), (309, .ifCond .eq 7, 3), (299, .if_icmp .lt 17, 3), (291, .if_icmp .ne 25, 3), (275, .ifCond .ne 45, 3), (270, .ireturn, 1), (266, .if_icmp .eq 5, 3), (208, .ifCond .le 5, 3), (196, .if_icmp .eq 15, 3), (63, .if_icmp .ge 5, 3), (53, .ifCond .eq 13, 3), (41, .ifCond .ne 25, 3), (33, .if_icmp .lt 33, 3)])
set_option maxRecDepth 100000 in
theorem m_Mo_map : hx_mok M_Mo_map = true := by decide +kernel
theorem pd_Mo_map : (parseMethodDescriptor M_Mo_map.2.1.desc).map (fun q => q.parameters.length) = some 0 := by decide +kernel
theorem y_Mo_map : hx_okV M_Mo_map := ⟨⟨lw_g (lw_at lw_m11 210 rfl) rfl, lw_g (lw_at lw_m11 209 rfl) rfl, qs216, lw_g (lw_at lw_m1 12 rfl) rfl, rfl, by decide, by decide, by decide⟩, rfl, by decide, plainFor_of_name (by decide)⟩
noncomputable def f_Mo_map (h : hH) : Option (Int32 × hH) :=
  bP (f_Mo_beginOf (1668112752 : Int32) h) fun a1 =>
  bP (f_Mo_lengthOf (1668112752 : Int32) h) fun a2 =>
  bP (A := Int32) (
    if a2 < (4 : Int32) then (
      some (0 : Int32)
    ) else (
      bP (f_Mo_u2 (a1 + (2 : Int32)) h) fun a4 =>
      some a4
    )
  ) fun p3 =>
  if a2 < (4 : Int32) then (
    some ((0 : Int32), h)
  ) else (
    bP (f_Mo_u2 a1 h) fun a6 =>
    if a6 = 0 then (
      bP (f_Mo_in (Int32.toInt64 p3) (1 : Int64) (8 : Int64)) fun a7 =>
      if a7 = 0 then (
        some ((0 : Int32), h)
      ) else (
        if ((4 : Int32) + ((8 : Int32) * p3)) ≤ a2 then (
          bP (A := (Int32 × Int64)) (
            wh (A := (Int32 × Int64 × Int32)) (B := (Int32 × Int64)) (fun p8 =>
                if p3 ≤ p8.2.2 then (
                  some (.inr (p8.1, p8.2.1))
                ) else (
                  lz (A := Int32) ((a1 + (4 : Int32)) + ((8 : Int32) * p8.2.2)) fun v10 =>
                  bP (f_Mo_u2 v10 h) fun a11 =>
                  bP (f_Mo_u2 (v10 + (2 : Int32)) h) fun a12 =>
                  lz (A := Int32) (if (a11 = (3 : Int32) ∧ a12 = (10 : Int32)) then (0 : Int32) else (if (a11 = (3 : Int32) ∧ a12 = (1 : Int32)) then (1 : Int32) else (if a11 = (1 : Int32) then (if a12 = 0 then (2 : Int32) else (9 : Int32)) else (9 : Int32)))) fun p13 =>
                  bP (A := (Int32 × Int64)) (
                    if p8.1 ≤ p13 then (
                      some (p8.1, p8.2.1)
                    ) else (
                      bP (f_Mo_u4 (v10 + (4 : Int32)) h) fun a27 =>
                      some (p13, a27)
                    )
                  ) fun p26 =>
                  lz (A := Int32) (p8.2.2 + (1 : Int32)) fun v29 =>
                  some (.inl (p26.1, p26.2, v29))
                )
            ) ((9 : Int32), (0 : Int64), (0 : Int32))
          ) fun p9 =>
          if p9.1 = (9 : Int32) then (
            some ((0 : Int32), h)
          ) else (
            if (p9.2 + (6 : Int64)) ≤ (Int32.toInt64 a2) then (
              lz (wrI h 192 21 (a1 + (Int64.toInt32 p9.2))) fun h1 =>
              lz (A := Int32) (if p9.1 = 0 then (12 : Int32) else (if p9.1 = (1 : Int32) then (4 : Int32) else (0 : Int32))) fun p31 =>
              lz (wrI h1 192 22 p31) fun h2 =>
              lz (A := Int32) (a2 - (Int64.toInt32 p9.2)) fun v34 =>
              bP (f_Mo_u2 (rdI h2 192 21) h2) fun a35 =>
              if a35 = (rdI h2 192 22) then (
                if (rdI h2 192 22) = 0 then (
                  bP (f_Mo_u2 ((rdI h2 192 21) + (2 : Int32)) h2) fun a41 =>
                  if a41 = (262 : Int32) then (
                    if v34 < (262 : Int32) then (
                      some ((0 : Int32), h2)
                    ) else (
                      bS (f_Mo_setMany (256 : Int32) h2) fun a42 h5 =>
                      if a42 = 0 then (
                        some ((0 : Int32), h5)
                      ) else (
                        some ((1 : Int32), h5)
                      )
                    )
                  ) else (
                    some ((0 : Int32), h2)
                  )
                ) else (
                  if (rdI h2 192 22) = (4 : Int32) then (
                    bS (f_Mo_segments v34 h2) fun a38 h4 =>
                    gd ((a38 = 0 ∨ a38 = 1)) <|
                    some (a38, h4)
                  ) else (
                    bS (f_Mo_groups v34 h2) fun a36 h3 =>
                    gd ((a36 = 0 ∨ a36 = 1)) <|
                    some (a36, h3)
                  )
                )
              ) else (
                some ((0 : Int32), h2)
              )
            ) else (
              some ((0 : Int32), h)
            )
          )
        ) else (
          some ((0 : Int32), h)
        )
      )
    ) else (
      some ((0 : Int32), h)
    )
  )
set_option maxRecDepth 20000 in
theorem k_Mo_map (h : hH) : hx_kS S0 M_Mo_map 5 NT [(.ref 192)] h (f_Mo_map h) cvI := by
  have hm := m_Mo_map
  show hx_P S0 M_Mo_map 5 0 [(0, (.ref 192))] [] NT h (f_Mo_map h) (hx_Rc cvI NT)
  unfold f_Mo_map
  refine hp_cVP (M2 := M_Mo_beginOf) hm (at1 0 rfl) (as := [(.int (1668112752 : Int32))]) (rest := []) (z := 192) rfl (by exact trivial) (pc' := 3) rfl 0 rfl (lw_g (lw_at lw_m9 192 rfl) rfl) y_Mo_beginOf rfl (d2 := 2) ⟨le_b rfl, pd_Mo_beginOf, le_b rfl⟩ (le_b rfl) og_192 (k_Mo_beginOf (1668112752 : Int32) h) (fun a1 => ?_)
  refine hp_b hm (at1 1 rfl) (L' := [(1, (.int a1)), (0, (.ref 192))]) (st' := [(.int (1668112752 : Int32)), (.ref 192)]) rfl (by exact trivial) (pc' := 10) rfl ?_
  refine hp_cVP (M2 := M_Mo_lengthOf) hm at0 (as := [(.int (1668112752 : Int32))]) (rest := []) (z := 192) rfl (by exact trivial) (pc' := 10) rfl 1 rfl (lw_g (lw_at lw_m9 228 rfl) rfl) y_Mo_lengthOf rfl (d2 := 2) ⟨le_b rfl, pd_Mo_lengthOf, le_b rfl⟩ (le_b rfl) og_192 (k_Mo_lengthOf (1668112752 : Int32) h) (fun a2 => ?_)
  refine hp_b hm (at1 2 rfl) (L' := [(2, (.int a2)), (1, (.int a1)), (0, (.ref 192))]) (st' := [(.int (4 : Int32)), (.int a2)]) rfl (by exact trivial) (pc' := 16) rfl ?_
  refine hp_J 30 (fun (p3 : Int32) => [(0, (.ref 192)), (1, (.int a1)), (2, (.int a2))]) (fun (p3 : Int32) => [(.int p3)]) (fun (p3 : Int32) => h) ?_ (fun p3 => ?_)
  · refine hp_ic_lt hm at0 rfl (by exact trivial) (pc' := 16) rfl 4 rfl (tgt := 29) rfl (fun c5 => ?_) (fun c5 => ?_)
    · refine hp_b hm (at1 3 rfl) (L' := [(2, (.int a2)), (1, (.int a1)), (0, (.ref 192))]) (st' := [(.int (0 : Int32))]) rfl (by exact trivial) (pc' := 30) rfl ?_
      exact hp_lf [2, 1, 0] rfl (fun _ e => e)
    · refine hp_cVP (M2 := M_Mo_u2) hm (at1 4 rfl) (as := [(.int (a1 + (2 : Int32)))]) (rest := []) (z := 192) rfl (by exact trivial) (pc' := 23) rfl 2 rfl (lw_g (lw_at lw_m9 204 rfl) rfl) y_Mo_u2 rfl (d2 := 2) ⟨le_b rfl, pd_Mo_u2, le_b rfl⟩ (le_b rfl) og_192 (k_Mo_u2 (a1 + (2 : Int32)) h) (fun a4 => ?_)
      refine hp_goto hm 3 rfl (tgt := 30) rfl ?_
      exact hp_lf [2, 1, 0] rfl (fun _ e => e)
  · refine hp_b hm (at1 5 rfl) (L' := [(3, (.int p3)), (0, (.ref 192)), (1, (.int a1)), (2, (.int a2))]) (st' := [(.int (4 : Int32)), (.int a2)]) rfl (by exact trivial) (pc' := 33) rfl ?_
    refine hp_ic_lt hm at0 rfl (by exact trivial) (pc' := 33) rfl 49 rfl (tgt := 66) rfl (fun c53 => ?_) (fun c53 => ?_)
    · exact hp_ir hm (at1 6 rfl) rfl (by exact trivial) (pc' := 67) rfl 5 rfl rfl rfl (fun _ e => e)
    · refine hp_cVP (M2 := M_Mo_u2) hm (at1 7 rfl) (as := [(.int a1)]) (rest := []) (z := 192) rfl (by exact trivial) (pc' := 38) rfl 6 rfl (lw_g (lw_at lw_m9 204 rfl) rfl) y_Mo_u2 rfl (d2 := 2) ⟨le_b rfl, pd_Mo_u2, le_b rfl⟩ (le_b rfl) og_192 (k_Mo_u2 a1 h) (fun a6 => ?_)
      refine hp_if_ne hm at0 rfl (by exact trivial) (pc' := 41) rfl 48 rfl (tgt := 66) rfl (fun c52 => ?_) (fun c52 => ?_)
      · exact hp_ir hm (at1 6 rfl) rfl (by exact trivial) (pc' := 67) rfl 5 rfl rfl rfl (fun _ e => e)
      · refine hp_cSP (M2 := M_Mo_in) hm (at1 8 rfl) (as := [(.long (Int32.toInt64 p3)), (.long (1 : Int64)), (.long (8 : Int64))]) (rest := []) rfl (by exact trivial) (pc' := 50) rfl 7 rfl (lw_g (lw_at lw_m9 184 rfl) rfl) y_Mo_in rfl (d2 := 1) ⟨le_b rfl, pd_Mo_in, le_b rfl⟩ (le_b rfl) (k_Mo_in (Int32.toInt64 p3) (1 : Int64) (8 : Int64) h) (fun a7 => ?_)
        refine hp_if_eq hm at0 rfl (by exact trivial) (pc' := 53) rfl 47 rfl (tgt := 66) rfl (fun c51 => ?_) (fun c51 => ?_)
        · exact hp_ir hm (at1 6 rfl) rfl (by exact trivial) (pc' := 67) rfl 5 rfl rfl rfl (fun _ e => e)
        · refine hp_ic_ge hm (at1 9 rfl) rfl (by exact trivial) (pc' := 63) rfl 46 rfl (tgt := 68) rfl (fun c50 => ?_) (fun c50 => ?_)
          · refine hp_b hm (at1 10 rfl) (L' := [(7, (.int (0 : Int32))), (5, (.long (0 : Int64))), (4, (.int (9 : Int32))), (3, (.int p3)), (0, (.ref 192)), (1, (.int a1)), (2, (.int a2))]) (st' := []) rfl (by exact trivial) (pc' := 78) rfl ?_
            refine hp_J 192 (fun (p9 : (Int32 × Int64)) => [(0, (.ref 192)), (1, (.int a1)), (2, (.int a2)), (4, (.int p9.1)), (5, (.long p9.2))]) (fun (p9 : (Int32 × Int64)) => []) (fun (p9 : (Int32 × Int64)) => h) ?_ (fun p9 => ?_)
            · refine hp_s [4, 5, 6, 3, 2, 1, 0] rfl (L' := [(0, (.ref 192)), (1, (.int a1)), (2, (.int a2)), (3, (.int p3)), (4, (.int (9 : Int32))), (5, (.long (0 : Int64))), (7, (.int (0 : Int32)))]) ?_
              refine hp_wh (fun (p8 : (Int32 × Int64 × Int32)) => [(0, (.ref 192)), (1, (.int a1)), (2, (.int a2)), (3, (.int p3)), (4, (.int p8.1)), (5, (.long p8.2.1)), (7, (.int p8.2.2))]) [] (fun (p8 : (Int32 × Int64 × Int32)) => h) (fun p8 => ?_) ((9 : Int32), (0 : Int64), (0 : Int32))
              refine hp_ic_ge hm (at1 11 rfl) rfl (by exact trivial) (pc' := 81) rfl 22 rfl (tgt := 192) rfl (fun c30 => ?_) (fun c30 => ?_)
              · exact hp_lf [0, 1, 2, 4, 5] rfl (fun _ e => e)
              · refine hp_z hm (at1 12 rfl) (fun (v10 : Int32) => [(8, (.int v10)), (0, (.ref 192)), (1, (.int a1)), (2, (.int a2)), (3, (.int p3)), (4, (.int p8.1)), (5, (.long p8.2.1)), (7, (.int p8.2.2))]) (fun (v10 : Int32) => []) rfl (by exact trivial) (pc' := 95) rfl (fun v10 => ?_)
                refine hp_cVP (M2 := M_Mo_u2) hm (at1 13 rfl) (as := [(.int v10)]) (rest := []) (z := 192) rfl (by exact trivial) (pc' := 98) rfl 8 rfl (lw_g (lw_at lw_m9 204 rfl) rfl) y_Mo_u2 rfl (d2 := 2) ⟨le_b rfl, pd_Mo_u2, le_b rfl⟩ (le_b rfl) og_192 (k_Mo_u2 v10 h) (fun a11 => ?_)
                refine hp_b hm (at1 14 rfl) (L' := [(9, (.int a11)), (8, (.int v10)), (0, (.ref 192)), (1, (.int a1)), (2, (.int a2)), (3, (.int p3)), (4, (.int p8.1)), (5, (.long p8.2.1)), (7, (.int p8.2.2))]) (st' := [(.int (v10 + (2 : Int32))), (.ref 192)]) rfl (by exact trivial) (pc' := 108) rfl ?_
                refine hp_cVP (M2 := M_Mo_u2) hm at0 (as := [(.int (v10 + (2 : Int32)))]) (rest := []) (z := 192) rfl (by exact trivial) (pc' := 108) rfl 9 rfl (lw_g (lw_at lw_m9 204 rfl) rfl) y_Mo_u2 rfl (d2 := 2) ⟨le_b rfl, pd_Mo_u2, le_b rfl⟩ (le_b rfl) og_192 (k_Mo_u2 (v10 + (2 : Int32)) h) (fun a12 => ?_)
                refine hp_b hm (at1 15 rfl) (L' := [(10, (.int a12)), (9, (.int a11)), (8, (.int v10)), (0, (.ref 192)), (1, (.int a1)), (2, (.int a2)), (3, (.int p3)), (4, (.int p8.1)), (5, (.long p8.2.1)), (7, (.int p8.2.2))]) (st' := [(.int (3 : Int32)), (.int a11)]) rfl (by exact trivial) (pc' := 116) rfl ?_
                refine hp_JZ 163 (fun (p13 : Int32) => [(0, (.ref 192)), (1, (.int a1)), (2, (.int a2)), (3, (.int p3)), (4, (.int p8.1)), (5, (.long p8.2.1)), (7, (.int p8.2.2)), (8, (.int v10))]) (fun (p13 : Int32) => [(.int p13)]) (fun (p13 : Int32) => h) ?_ (fun p13 => ?_)
                · refine hp_sv0 ?_
                  refine hp_cI (L0 := [(10, (.int a12)), (9, (.int a11)), (8, (.int v10)), (0, (.ref 192)), (1, (.int a1)), (2, (.int a2)), (3, (.int p3)), (4, (.int p8.1)), (5, (.long p8.2.1)), (7, (.int p8.2.2))]) (s0 := []) 126 130 ?_ (fun c18 => ?_) (fun c18 => ?_)
                  · refine hp_and ?_
                    refine hp_ic_ne hm at0 rfl (by exact trivial) (pc' := 116) rfl 11 rfl (tgt := 130) rfl (fun c15 => ?_) (fun c15 => ?_)
                    · exact hp_l0 (fun _ e => e)
                    · refine hp_dec ?_
                      refine hp_ic_ne hm (at1 16 rfl) rfl (by exact trivial) (pc' := 123) rfl 10 rfl (tgt := 130) rfl (fun c14 => ?_) (fun c14 => ?_)
                      · exact hp_l0 (fun _ e => e)
                      · exact hp_l0 (fun _ e => e)
                  · refine hp_b hm (at1 17 rfl) (L' := [(10, (.int a12)), (9, (.int a11)), (8, (.int v10)), (0, (.ref 192)), (1, (.int a1)), (2, (.int a2)), (3, (.int p3)), (4, (.int p8.1)), (5, (.long p8.2.1)), (7, (.int p8.2.2))]) (st' := [(.int (0 : Int32))]) rfl (by exact trivial) (pc' := 127) rfl ?_
                    refine hp_goto hm 12 rfl (tgt := 163) rfl ?_
                    exact hp_lf [3, 4, 5, 6, 7, 8, 9, 2] rfl (fun _ e => e)
                  · refine hp_sv0 ?_
                    refine hp_cI (L0 := [(10, (.int a12)), (9, (.int a11)), (8, (.int v10)), (0, (.ref 192)), (1, (.int a1)), (2, (.int a2)), (3, (.int p3)), (4, (.int p8.1)), (5, (.long p8.2.1)), (7, (.int p8.2.2))]) (s0 := []) 142 146 ?_ (fun c23 => ?_) (fun c23 => ?_)
                    · refine hp_and ?_
                      refine hp_ic_ne hm (at1 18 rfl) rfl (by exact trivial) (pc' := 133) rfl 14 rfl (tgt := 146) rfl (fun c20 => ?_) (fun c20 => ?_)
                      · exact hp_l0 (fun _ e => e)
                      · refine hp_dec ?_
                        refine hp_ic_ne hm (at1 19 rfl) rfl (by exact trivial) (pc' := 139) rfl 13 rfl (tgt := 146) rfl (fun c19 => ?_) (fun c19 => ?_)
                        · exact hp_l0 (fun _ e => e)
                        · exact hp_l0 (fun _ e => e)
                    · refine hp_b hm (at1 20 rfl) (L' := [(10, (.int a12)), (9, (.int a11)), (8, (.int v10)), (0, (.ref 192)), (1, (.int a1)), (2, (.int a2)), (3, (.int p3)), (4, (.int p8.1)), (5, (.long p8.2.1)), (7, (.int p8.2.2))]) (st' := [(.int (1 : Int32))]) rfl (by exact trivial) (pc' := 143) rfl ?_
                      refine hp_goto hm 15 rfl (tgt := 163) rfl ?_
                      exact hp_lf [3, 4, 5, 6, 7, 8, 9, 2] rfl (fun _ e => e)
                    · refine hp_sv0 ?_
                      refine hp_ic_ne hm (at1 21 rfl) rfl (by exact trivial) (pc' := 149) rfl 18 rfl (tgt := 161) rfl (fun c25 => ?_) (fun c25 => ?_)
                      · refine hp_b hm (at1 22 rfl) (L' := [(10, (.int a12)), (9, (.int a11)), (8, (.int v10)), (0, (.ref 192)), (1, (.int a1)), (2, (.int a2)), (3, (.int p3)), (4, (.int p8.1)), (5, (.long p8.2.1)), (7, (.int p8.2.2))]) (st' := [(.int (9 : Int32))]) rfl (by exact trivial) (pc' := 163) rfl ?_
                        exact hp_lf [3, 4, 5, 6, 7, 8, 9, 2] rfl (fun _ e => e)
                      · refine hp_sv0 ?_
                        refine hp_if_ne hm (at1 23 rfl) rfl (by exact trivial) (pc' := 154) rfl 17 rfl (tgt := 161) rfl (fun c24 => ?_) (fun c24 => ?_)
                        · refine hp_b hm (at1 22 rfl) (L' := [(10, (.int a12)), (9, (.int a11)), (8, (.int v10)), (0, (.ref 192)), (1, (.int a1)), (2, (.int a2)), (3, (.int p3)), (4, (.int p8.1)), (5, (.long p8.2.1)), (7, (.int p8.2.2))]) (st' := [(.int (9 : Int32))]) rfl (by exact trivial) (pc' := 163) rfl ?_
                          exact hp_lf [3, 4, 5, 6, 7, 8, 9, 2] rfl (fun _ e => e)
                        · refine hp_b hm (at1 24 rfl) (L' := [(10, (.int a12)), (9, (.int a11)), (8, (.int v10)), (0, (.ref 192)), (1, (.int a1)), (2, (.int a2)), (3, (.int p3)), (4, (.int p8.1)), (5, (.long p8.2.1)), (7, (.int p8.2.2))]) (st' := [(.int (2 : Int32))]) rfl (by exact trivial) (pc' := 158) rfl ?_
                          refine hp_goto hm 16 rfl (tgt := 163) rfl ?_
                          exact hp_lf [3, 4, 5, 6, 7, 8, 9, 2] rfl (fun _ e => e)
                · refine hp_b hm (at1 25 rfl) (L' := [(11, (.int p13)), (0, (.ref 192)), (1, (.int a1)), (2, (.int a2)), (3, (.int p3)), (4, (.int p8.1)), (5, (.long p8.2.1)), (7, (.int p8.2.2)), (8, (.int v10))]) (st' := [(.int p8.1), (.int p13)]) rfl (by exact trivial) (pc' := 169) rfl ?_
                  refine hp_J 186 (fun (p26 : (Int32 × Int64)) => [(0, (.ref 192)), (1, (.int a1)), (2, (.int a2)), (3, (.int p3)), (4, (.int p26.1)), (5, (.long p26.2)), (7, (.int p8.2.2))]) (fun (p26 : (Int32 × Int64)) => []) (fun (p26 : (Int32 × Int64)) => h) ?_ (fun p26 => ?_)
                  · refine hp_ic_ge hm at0 rfl (by exact trivial) (pc' := 169) rfl 20 rfl (tgt := 186) rfl (fun c28 => ?_) (fun c28 => ?_)
                    · exact hp_lf [1, 2, 3, 4, 5, 6, 7] rfl (fun _ e => e)
                    · refine hp_b hm (at1 26 rfl) (L' := [(4, (.int p13)), (11, (.int p13)), (0, (.ref 192)), (1, (.int a1)), (2, (.int a2)), (3, (.int p3)), (5, (.long p8.2.1)), (7, (.int p8.2.2)), (8, (.int v10))]) (st' := [(.int (v10 + (4 : Int32))), (.ref 192)]) rfl (by exact trivial) (pc' := 181) rfl ?_
                      refine hp_cVP (M2 := M_Mo_u4) hm at0 (as := [(.int (v10 + (4 : Int32)))]) (rest := []) (z := 192) rfl (by exact trivial) (pc' := 181) rfl 19 rfl (lw_g (lw_at lw_m11 18 rfl) rfl) y_Mo_u4 rfl (d2 := 3) ⟨le_b rfl, pd_Mo_u4, le_b rfl⟩ (le_b rfl) og_192 (k_Mo_u4 (v10 + (4 : Int32)) h) (fun a27 => ?_)
                      refine hp_b hm (at1 27 rfl) (L' := [(5, (.long a27)), (4, (.int p13)), (11, (.int p13)), (0, (.ref 192)), (1, (.int a1)), (2, (.int a2)), (3, (.int p3)), (7, (.int p8.2.2)), (8, (.int v10))]) (st' := []) rfl (by exact trivial) (pc' := 186) rfl ?_
                      exact hp_lf [3, 4, 5, 6, 1, 0, 7] rfl (fun _ e => e)
                  · refine hp_z hm (at1 28 rfl) (fun (v29 : Int32) => [(7, (.int v29)), (0, (.ref 192)), (1, (.int a1)), (2, (.int a2)), (3, (.int p3)), (4, (.int p26.1)), (5, (.long p26.2))]) (fun (v29 : Int32) => []) rfl (by exact trivial) (pc' := 189) rfl (fun v29 => ?_)
                    refine hp_goto hm 21 rfl (tgt := 78) rfl ?_
                    exact hp_lf [1, 2, 3, 4, 5, 6, 0] rfl (fun _ e => e)
            · refine hp_ic_eq hm (at1 29 rfl) rfl (by exact trivial) (pc' := 196) rfl 45 rfl (tgt := 211) rfl (fun c49 => ?_) (fun c49 => ?_)
              · exact hp_ir hm (at1 30 rfl) rfl (by exact trivial) (pc' := 212) rfl 23 rfl rfl rfl (fun _ e => e)
              · refine hp_lc_le hm (at1 31 rfl) rfl (by exact trivial) (pc' := 208) rfl 44 rfl (tgt := 213) rfl (fun c48 => ?_) (fun c48 => ?_)
                · refine hp_w hm (at1 32 rfl) (L' := [(0, (.ref 192)), (1, (.int a1)), (2, (.int a2)), (4, (.int p9.1)), (5, (.long p9.2))]) rfl (by exact og_192) (pc' := 222) rfl (fun h1 => ?_)
                  refine hp_JZ 244 (fun (p31 : Int32) => [(0, (.ref 192)), (2, (.int a2)), (5, (.long p9.2))]) (fun (p31 : Int32) => [(.int p31), (.ref 192)]) (fun (p31 : Int32) => h1) ?_ (fun p31 => ?_)
                  · refine hp_sv0 ?_
                    refine hp_if_ne hm (at1 33 rfl) rfl (by exact trivial) (pc' := 225) rfl 27 rfl (tgt := 233) rfl (fun c33 => ?_) (fun c33 => ?_)
                    · refine hp_sv0 ?_
                      refine hp_ic_ne hm (at1 34 rfl) rfl (by exact trivial) (pc' := 236) rfl 25 rfl (tgt := 243) rfl (fun c32 => ?_) (fun c32 => ?_)
                      · refine hp_b hm (at1 35 rfl) (L' := [(0, (.ref 192)), (1, (.int a1)), (2, (.int a2)), (4, (.int p9.1)), (5, (.long p9.2))]) (st' := [(.int (0 : Int32)), (.ref 192)]) rfl (by exact trivial) (pc' := 244) rfl ?_
                        exact hp_lf [0, 2, 4] rfl (fun _ e => e)
                      · refine hp_b hm (at1 36 rfl) (L' := [(0, (.ref 192)), (1, (.int a1)), (2, (.int a2)), (4, (.int p9.1)), (5, (.long p9.2))]) (st' := [(.int (4 : Int32)), (.ref 192)]) rfl (by exact trivial) (pc' := 240) rfl ?_
                        refine hp_goto hm 24 rfl (tgt := 244) rfl ?_
                        exact hp_lf [0, 2, 4] rfl (fun _ e => e)
                    · refine hp_b hm (at1 37 rfl) (L' := [(0, (.ref 192)), (1, (.int a1)), (2, (.int a2)), (4, (.int p9.1)), (5, (.long p9.2))]) (st' := [(.int (12 : Int32)), (.ref 192)]) rfl (by exact trivial) (pc' := 230) rfl ?_
                      refine hp_goto hm 26 rfl (tgt := 244) rfl ?_
                      exact hp_lf [0, 2, 4] rfl (fun _ e => e)
                  · refine hp_w hm (at1 38 rfl) (L' := [(0, (.ref 192)), (2, (.int a2)), (5, (.long p9.2))]) rfl (by exact og_192) (pc' := 247) rfl (fun h2 => ?_)
                    refine hp_z hm (at1 39 rfl) (fun (v34 : Int32) => [(7, (.int v34)), (0, (.ref 192)), (2, (.int a2)), (5, (.long p9.2))]) (fun (v34 : Int32) => []) rfl (by exact trivial) (pc' := 254) rfl (fun v34 => ?_)
                    refine hp_cVP (M2 := M_Mo_u2) hm (at1 40 rfl) (as := [(.int (rdI h2 192 21))]) (rest := []) (z := 192) rfl (by exact og_192) (pc' := 259) rfl 28 rfl (lw_g (lw_at lw_m9 204 rfl) rfl) y_Mo_u2 rfl (d2 := 2) ⟨le_b rfl, pd_Mo_u2, le_b rfl⟩ (le_b rfl) og_192 (k_Mo_u2 (rdI h2 192 21) h2) (fun a35 => ?_)
                    refine hp_ic_eq hm (at1 41 rfl) rfl (by exact og_192) (pc' := 266) rfl 43 rfl (tgt := 271) rfl (fun c47 => ?_) (fun c47 => ?_)
                    · refine hp_if_ne hm (at1 42 rfl) rfl (by exact og_192) (pc' := 275) rfl 41 rfl (tgt := 320) rfl (fun c46 => ?_) (fun c46 => ?_)
                      · refine hp_ic_ne hm (at1 43 rfl) rfl (by exact og_192) (pc' := 325) rfl 33 rfl (tgt := 337) rfl (fun c40 => ?_) (fun c40 => ?_)
                        · refine hp_cVS (M2 := M_Mo_groups) hm (at1 44 rfl) (as := [(.int v34)]) (rest := []) (z := 192) rfl (by exact trivial) (pc' := 340) rfl 29 rfl (lw_g (lw_at lw_m11 220 rfl) rfl) y_Mo_groups rfl (d2 := 4) ⟨le_b rfl, pd_Mo_groups, le_b rfl⟩ (le_b rfl) og_192 (k_Mo_groups v34 h2) (fun a36 h3 => ?_)
                          refine hp_G0 (fun q37 => ?_)
                          exact hp_ir hm at0 rfl (by exact trivial) (pc' := 343) rfl 30 rfl rfl (nar01 q37) (fun _ e => e)
                        · refine hp_cVS (M2 := M_Mo_segments) hm (at1 45 rfl) (as := [(.int v34)]) (rest := []) (z := 192) rfl (by exact trivial) (pc' := 331) rfl 31 rfl (lw_g (lw_at lw_m11 215 rfl) rfl) y_Mo_segments rfl (d2 := 3) ⟨le_b rfl, pd_Mo_segments, le_b rfl⟩ (le_b rfl) og_192 (k_Mo_segments v34 h2) (fun a38 h4 => ?_)
                          refine hp_goto hm 32 rfl (tgt := 343) rfl ?_
                          refine hp_G0 (fun q39 => ?_)
                          exact hp_ir hm at0 rfl (by exact trivial) (pc' := 343) rfl 30 rfl rfl (nar01 q39) (fun _ e => e)
                      · refine hp_cVP (M2 := M_Mo_u2) hm (at1 46 rfl) (as := [(.int ((rdI h2 192 21) + (2 : Int32)))]) (rest := []) (z := 192) rfl (by exact og_192) (pc' := 285) rfl 34 rfl (lw_g (lw_at lw_m9 204 rfl) rfl) y_Mo_u2 rfl (d2 := 2) ⟨le_b rfl, pd_Mo_u2, le_b rfl⟩ (le_b rfl) og_192 (k_Mo_u2 ((rdI h2 192 21) + (2 : Int32)) h2) (fun a41 => ?_)
                        refine hp_ic_ne hm (at1 47 rfl) rfl (by exact trivial) (pc' := 291) rfl 40 rfl (tgt := 316) rfl (fun c45 => ?_) (fun c45 => ?_)
                        · refine hp_b hm (at1 48 rfl) (L' := [(7, (.int v34)), (0, (.ref 192)), (2, (.int a2)), (5, (.long p9.2))]) (st' := [(.int (0 : Int32))]) rfl (by exact trivial) (pc' := 317) rfl ?_
                          refine hp_goto hm 35 rfl (tgt := 343) rfl ?_
                          exact hp_ir hm at0 rfl (by exact trivial) (pc' := 343) rfl 30 rfl rfl rfl (fun _ e => e)
                        · refine hp_ic_lt hm (at1 49 rfl) rfl (by exact trivial) (pc' := 299) rfl 39 rfl (tgt := 316) rfl (fun c44 => ?_) (fun c44 => ?_)
                          · refine hp_b hm (at1 48 rfl) (L' := [(7, (.int v34)), (0, (.ref 192)), (2, (.int a2)), (5, (.long p9.2))]) (st' := [(.int (0 : Int32))]) rfl (by exact trivial) (pc' := 317) rfl ?_
                            refine hp_goto hm 35 rfl (tgt := 343) rfl ?_
                            exact hp_ir hm at0 rfl (by exact trivial) (pc' := 343) rfl 30 rfl rfl rfl (fun _ e => e)
                          · refine hp_cVS (M2 := M_Mo_setMany) hm (at1 50 rfl) (as := [(.int (256 : Int32))]) (rest := []) (z := 192) rfl (by exact trivial) (pc' := 306) rfl 36 rfl (lw_g (lw_at lw_m11 211 rfl) rfl) y_Mo_setMany rfl (d2 := 1) ⟨le_b rfl, pd_Mo_setMany, le_b rfl⟩ (le_b rfl) og_192 (k_Mo_setMany (256 : Int32) h2) (fun a42 h5 => ?_)
                            refine hp_if_eq hm at0 rfl (by exact trivial) (pc' := 309) rfl 38 rfl (tgt := 316) rfl (fun c43 => ?_) (fun c43 => ?_)
                            · refine hp_b hm (at1 48 rfl) (L' := [(7, (.int v34)), (0, (.ref 192)), (2, (.int a2)), (5, (.long p9.2))]) (st' := [(.int (0 : Int32))]) rfl (by exact trivial) (pc' := 317) rfl ?_
                              refine hp_goto hm 35 rfl (tgt := 343) rfl ?_
                              exact hp_ir hm at0 rfl (by exact trivial) (pc' := 343) rfl 30 rfl rfl rfl (fun _ e => e)
                            · refine hp_b hm (at1 51 rfl) (L' := [(7, (.int v34)), (0, (.ref 192)), (2, (.int a2)), (5, (.long p9.2))]) (st' := [(.int (1 : Int32))]) rfl (by exact trivial) (pc' := 313) rfl ?_
                              refine hp_goto hm 37 rfl (tgt := 343) rfl ?_
                              exact hp_ir hm at0 rfl (by exact trivial) (pc' := 343) rfl 30 rfl rfl rfl (fun _ e => e)
                    · exact hp_ir hm (at1 52 rfl) rfl (by exact trivial) (pc' := 270) rfl 42 rfl rfl rfl (fun _ e => e)
                · exact hp_ir hm (at1 30 rfl) rfl (by exact trivial) (pc' := 212) rfl 23 rfl rfl rfl (fun _ e => e)
          · exact hp_ir hm (at1 6 rfl) rfl (by exact trivial) (pc' := 67) rfl 5 rfl rfl rfl (fun _ e => e)
/-! HintHouseModel.kerns()Z -/
def M_Mo_kerns : hM := (11, ⟨"HintHouseModel", "kerns", "()Z"⟩, prog_13_method_34_code, 5, (Option.some Jvm.ClassFile.FieldType.boolean), [], [(0, [(.aload_n 0, 1, 0, 0, 0, .null), (.iconst 0, 1, 0, 0, 0, (.int (0 : Int32))), (.putfield 405, 3, 11, 24, 0, .null)]), (5, [(.aload_n 0, 1, 0, 0, 0, .null), (.ldc_w 408, 3, 0, 0, 0, (.int (1801810542 : Int32)))]), (12, [(.iconst (-1), 1, 0, 0, 0, (.int (-1 : Int32)))]), (18, [(.aload_n 0, 1, 0, 0, 0, .null), (.ldc_w 408, 3, 0, 0, 0, (.int (1801810542 : Int32)))]), (25, [(.istore_n 1, 1, 0, 0, 0, .null), (.aload_n 0, 1, 0, 0, 0, .null), (.ldc_w 408, 3, 0, 0, 0, (.int (1801810542 : Int32)))]), (33, [(.istore_n 2, 1, 0, 0, 0, .null), (.iload_n 2, 1, 0, 0, 0, .null), (.bipush 18, 2, 0, 0, 0, (.int (18 : Int32)))]), (71, [(.iconst 0, 1, 0, 0, 0, (.int (0 : Int32)))]), (40, [(.aload_n 0, 1, 0, 0, 0, .null), (.iload_n 1, 1, 0, 0, 0, .null)]), (48, [(.aload_n 0, 1, 0, 0, 0, .null), (.iload_n 1, 1, 0, 0, 0, .null), (.iconst 2, 1, 0, 0, 0, (.int (2 : Int32))), (.iadd, 1, 0, 0, 0, .null)]), (55, [(.iconst 1, 1, 0, 0, 0, (.int (1 : Int32)))]), (59, [(.aload_n 0, 1, 0, 0, 0, .null), (.iload_n 1, 1, 0, 0, 0, .null), (.bipush 8, 2, 0, 0, 0, (.int (8 : Int32))), (.iadd, 1, 0, 0, 0, .null)]), (67, [(.iconst 1, 1, 0, 0, 0, (.int (1 : Int32)))]), (73, [(.aload_n 0, 1, 0, 0, 0, .null), (.iload_n 1, 1, 0, 0, 0, .null), (.bipush 10, 2, 0, 0, 0, (.int (10 : Int32))), (.iadd, 1, 0, 0, 0, .null)]), (81, [(.istore_n 3, 1, 0, 0, 0, .null), (.iload_n 3, 1, 0, 0, 0, .null), (.sipush 500, 3, 0, 0, 0, (.int (500 : Int32)))]), (100, [(.iconst 0, 1, 0, 0, 0, (.int (0 : Int32)))]), (89, [(.bipush 18, 2, 0, 0, 0, (.int (18 : Int32))), (.bipush 6, 2, 0, 0, 0, (.int (6 : Int32))), (.iload_n 3, 1, 0, 0, 0, .null), (.imul, 1, 0, 0, 0, .null), (.iadd, 1, 0, 0, 0, .null), (.iload_n 2, 1, 0, 0, 0, .null)]), (102, [(.iconst 1, 1, 0, 0, 0, (.int (1 : Int32))), (.istore 4, 2, 0, 0, 0, .null)]), (105, [(.iload 4, 2, 0, 0, 0, .null), (.iload_n 3, 1, 0, 0, 0, .null)]), (111, [(.aload_n 0, 1, 0, 0, 0, .null), (.iload_n 1, 1, 0, 0, 0, .null), (.bipush 18, 2, 0, 0, 0, (.int (18 : Int32))), (.iadd, 1, 0, 0, 0, .null), (.bipush 6, 2, 0, 0, 0, (.int (6 : Int32))), (.iload 4, 2, 0, 0, 0, .null), (.imul, 1, 0, 0, 0, .null), (.iadd, 1, 0, 0, 0, .null)]), (125, [(.aload_n 0, 1, 0, 0, 0, .null), (.iload_n 1, 1, 0, 0, 0, .null), (.bipush 12, 2, 0, 0, 0, (.int (12 : Int32))), (.iadd, 1, 0, 0, 0, .null), (.bipush 6, 2, 0, 0, 0, (.int (6 : Int32))), (.iload 4, 2, 0, 0, 0, .null), (.imul, 1, 0, 0, 0, .null), (.iadd, 1, 0, 0, 0, .null)]), (139, [(.lcmp, 1, 0, 0, 0, .null)]), (145, [(.iinc 4 1, 3, 0, 0, 0, (.int (1 : Int32)))]), (143, [(.iconst 0, 1, 0, 0, 0, (.int (0 : Int32)))]), (151, [(.aload_n 0, 1, 0, 0, 0, .null), (.iload_n 3, 1, 0, 0, 0, .null), (.putfield 405, 3, 11, 24, 0, .null)]), (156, [(.iconst 1, 1, 0, 0, 0, (.int (1 : Int32)))]), (16, [(.iconst 1, 1, 0, 0, 0, (.int (1 : Int32)))])], [(9, .invokevirtual 219, 3), (22, .invokevirtual 251, 3), (30, .invokevirtual 257, 3), (72, .ireturn, 1), (42, .invokevirtual 213, 3), (52, .invokevirtual 213, 3), (64, .invokevirtual 213, 3), (78, .invokevirtual 213, 3), (101, .ireturn, 1), (122, .invokevirtual 297, 3), (136, .invokevirtual 297, 3), (148, .goto (-43), 3), (144, .ireturn, 1), (140, .ifCond .gt 5, 3), (108, .if_icmp .ge 43, 3), (157, .ireturn, 1), (97, .if_icmp .le 5, 3), (86, .if_icmp .gt 14, 3), (68, .if_icmp .eq 5, 3), (56, .if_icmp .lt 15, 3), (45, .ifCond .ne 26, 3), (37, .if_icmp .lt 34, 3), (17, .ireturn, 1), (13, .if_icmp .ne 5, 3)])
set_option maxRecDepth 100000 in
theorem m_Mo_kerns : hx_mok M_Mo_kerns = true := by decide +kernel
theorem pd_Mo_kerns : (parseMethodDescriptor M_Mo_kerns.2.1.desc).map (fun q => q.parameters.length) = some 0 := by decide +kernel
theorem y_Mo_kerns : hx_okV M_Mo_kerns := ⟨⟨lw_g (lw_at lw_m11 227 rfl) rfl, lw_g (lw_at lw_m11 226 rfl) rfl, qs220, lw_g (lw_at lw_m1 12 rfl) rfl, rfl, by decide, by decide, by decide⟩, rfl, by decide, plainFor_of_name (by decide)⟩
noncomputable def f_Mo_kerns (h : hH) : Option (Int32 × hH) :=
  lz (wrI h 192 24 (0 : Int32)) fun h1 =>
  bP (f_Mo_tableOf (1801810542 : Int32) h1) fun a1 =>
  if a1 = (-1 : Int32) then (
    some ((1 : Int32), h1)
  ) else (
    bP (f_Mo_beginOf (1801810542 : Int32) h1) fun a2 =>
    bP (f_Mo_lengthOf (1801810542 : Int32) h1) fun a3 =>
    if a3 < (18 : Int32) then (
      some ((0 : Int32), h1)
    ) else (
      bP (f_Mo_u2 a2 h1) fun a4 =>
      if a4 = 0 then (
        bP (f_Mo_u2 (a2 + (2 : Int32)) h1) fun a5 =>
        if a5 < (1 : Int32) then (
          some ((0 : Int32), h1)
        ) else (
          bP (f_Mo_u2 (a2 + (8 : Int32)) h1) fun a6 =>
          if a6 = (1 : Int32) then (
            bP (f_Mo_u2 (a2 + (10 : Int32)) h1) fun a7 =>
            if (500 : Int32) < a7 then (
              some ((0 : Int32), h1)
            ) else (
              if ((18 : Int32) + ((6 : Int32) * a7)) ≤ a3 then (
                bE (P := Unit) (X := (Int32 × hH)) (
                  wh (A := Int32) (B := (Unit ⊕ (Int32 × hH))) (fun p8 =>
                      if a7 ≤ p8 then (
                        some (.inr (.inl ()))
                      ) else (
                        bP (f_Mo_u4 ((a2 + (18 : Int32)) + ((6 : Int32) * p8)) h1) fun a10 =>
                        bP (f_Mo_u4 ((a2 + (12 : Int32)) + ((6 : Int32) * p8)) h1) fun a11 =>
                        if a11 < a10 then (
                          lz (A := Int32) (p8 + (1 : Int32)) fun v12 =>
                          some (.inl v12)
                        ) else (
                          some (.inr (.inr ((0 : Int32), h1)))
                        )
                      )
                  ) (1 : Int32)
                ) fun p9 =>
                lz (wrI h1 192 24 a7) fun h2 =>
                some ((1 : Int32), h2)
              ) else (
                some ((0 : Int32), h1)
              )
            )
          ) else (
            some ((0 : Int32), h1)
          )
        )
      ) else (
        some ((0 : Int32), h1)
      )
    )
  )
set_option maxRecDepth 20000 in
theorem k_Mo_kerns (h : hH) : hx_kS S0 M_Mo_kerns 4 NT [(.ref 192)] h (f_Mo_kerns h) cvI := by
  have hm := m_Mo_kerns
  show hx_P S0 M_Mo_kerns 4 0 [(0, (.ref 192))] [] NT h (f_Mo_kerns h) (hx_Rc cvI NT)
  unfold f_Mo_kerns
  refine hp_w hm (at1 0 rfl) (L' := [(0, (.ref 192))]) rfl (by exact og_192) (pc' := 5) rfl (fun h1 => ?_)
  refine hp_cVP (M2 := M_Mo_tableOf) hm (at1 1 rfl) (as := [(.int (1801810542 : Int32))]) (rest := []) (z := 192) rfl (by exact trivial) (pc' := 9) rfl 0 rfl (lw_g (lw_at lw_m9 196 rfl) rfl) y_Mo_tableOf rfl (d2 := 1) ⟨le_b rfl, pd_Mo_tableOf, le_b rfl⟩ (le_b rfl) og_192 (k_Mo_tableOf (1801810542 : Int32) h1) (fun a1 => ?_)
  refine hp_ic_ne hm (at1 2 rfl) rfl (by exact trivial) (pc' := 13) rfl 23 rfl (tgt := 18) rfl (fun c21 => ?_) (fun c21 => ?_)
  · refine hp_cVP (M2 := M_Mo_beginOf) hm (at1 3 rfl) (as := [(.int (1801810542 : Int32))]) (rest := []) (z := 192) rfl (by exact trivial) (pc' := 22) rfl 1 rfl (lw_g (lw_at lw_m9 192 rfl) rfl) y_Mo_beginOf rfl (d2 := 2) ⟨le_b rfl, pd_Mo_beginOf, le_b rfl⟩ (le_b rfl) og_192 (k_Mo_beginOf (1801810542 : Int32) h1) (fun a2 => ?_)
    refine hp_b hm (at1 4 rfl) (L' := [(1, (.int a2)), (0, (.ref 192))]) (st' := [(.int (1801810542 : Int32)), (.ref 192)]) rfl (by exact trivial) (pc' := 30) rfl ?_
    refine hp_cVP (M2 := M_Mo_lengthOf) hm at0 (as := [(.int (1801810542 : Int32))]) (rest := []) (z := 192) rfl (by exact trivial) (pc' := 30) rfl 2 rfl (lw_g (lw_at lw_m9 228 rfl) rfl) y_Mo_lengthOf rfl (d2 := 2) ⟨le_b rfl, pd_Mo_lengthOf, le_b rfl⟩ (le_b rfl) og_192 (k_Mo_lengthOf (1801810542 : Int32) h1) (fun a3 => ?_)
    refine hp_b hm (at1 5 rfl) (L' := [(2, (.int a3)), (1, (.int a2)), (0, (.ref 192))]) (st' := [(.int (18 : Int32)), (.int a3)]) rfl (by exact trivial) (pc' := 37) rfl ?_
    refine hp_ic_lt hm at0 rfl (by exact trivial) (pc' := 37) rfl 21 rfl (tgt := 71) rfl (fun c20 => ?_) (fun c20 => ?_)
    · exact hp_ir hm (at1 6 rfl) rfl (by exact trivial) (pc' := 72) rfl 3 rfl rfl rfl (fun _ e => e)
    · refine hp_cVP (M2 := M_Mo_u2) hm (at1 7 rfl) (as := [(.int a2)]) (rest := []) (z := 192) rfl (by exact trivial) (pc' := 42) rfl 4 rfl (lw_g (lw_at lw_m9 204 rfl) rfl) y_Mo_u2 rfl (d2 := 2) ⟨le_b rfl, pd_Mo_u2, le_b rfl⟩ (le_b rfl) og_192 (k_Mo_u2 a2 h1) (fun a4 => ?_)
      refine hp_if_ne hm at0 rfl (by exact trivial) (pc' := 45) rfl 20 rfl (tgt := 71) rfl (fun c19 => ?_) (fun c19 => ?_)
      · exact hp_ir hm (at1 6 rfl) rfl (by exact trivial) (pc' := 72) rfl 3 rfl rfl rfl (fun _ e => e)
      · refine hp_cVP (M2 := M_Mo_u2) hm (at1 8 rfl) (as := [(.int (a2 + (2 : Int32)))]) (rest := []) (z := 192) rfl (by exact trivial) (pc' := 52) rfl 5 rfl (lw_g (lw_at lw_m9 204 rfl) rfl) y_Mo_u2 rfl (d2 := 2) ⟨le_b rfl, pd_Mo_u2, le_b rfl⟩ (le_b rfl) og_192 (k_Mo_u2 (a2 + (2 : Int32)) h1) (fun a5 => ?_)
        refine hp_ic_lt hm (at1 9 rfl) rfl (by exact trivial) (pc' := 56) rfl 19 rfl (tgt := 71) rfl (fun c18 => ?_) (fun c18 => ?_)
        · exact hp_ir hm (at1 6 rfl) rfl (by exact trivial) (pc' := 72) rfl 3 rfl rfl rfl (fun _ e => e)
        · refine hp_cVP (M2 := M_Mo_u2) hm (at1 10 rfl) (as := [(.int (a2 + (8 : Int32)))]) (rest := []) (z := 192) rfl (by exact trivial) (pc' := 64) rfl 6 rfl (lw_g (lw_at lw_m9 204 rfl) rfl) y_Mo_u2 rfl (d2 := 2) ⟨le_b rfl, pd_Mo_u2, le_b rfl⟩ (le_b rfl) og_192 (k_Mo_u2 (a2 + (8 : Int32)) h1) (fun a6 => ?_)
          refine hp_ic_eq hm (at1 11 rfl) rfl (by exact trivial) (pc' := 68) rfl 18 rfl (tgt := 73) rfl (fun c17 => ?_) (fun c17 => ?_)
          · refine hp_cVP (M2 := M_Mo_u2) hm (at1 12 rfl) (as := [(.int (a2 + (10 : Int32)))]) (rest := []) (z := 192) rfl (by exact trivial) (pc' := 78) rfl 7 rfl (lw_g (lw_at lw_m9 204 rfl) rfl) y_Mo_u2 rfl (d2 := 2) ⟨le_b rfl, pd_Mo_u2, le_b rfl⟩ (le_b rfl) og_192 (k_Mo_u2 (a2 + (10 : Int32)) h1) (fun a7 => ?_)
            refine hp_b hm (at1 13 rfl) (L' := [(3, (.int a7)), (2, (.int a3)), (1, (.int a2)), (0, (.ref 192))]) (st' := [(.int (500 : Int32)), (.int a7)]) rfl (by exact trivial) (pc' := 86) rfl ?_
            refine hp_ic_gt hm at0 rfl (by exact trivial) (pc' := 86) rfl 17 rfl (tgt := 100) rfl (fun c16 => ?_) (fun c16 => ?_)
            · exact hp_ir hm (at1 14 rfl) rfl (by exact trivial) (pc' := 101) rfl 8 rfl rfl rfl (fun _ e => e)
            · refine hp_ic_le hm (at1 15 rfl) rfl (by exact trivial) (pc' := 97) rfl 16 rfl (tgt := 102) rfl (fun c15 => ?_) (fun c15 => ?_)
              · refine hp_b hm (at1 16 rfl) (L' := [(4, (.int (1 : Int32))), (3, (.int a7)), (2, (.int a3)), (1, (.int a2)), (0, (.ref 192))]) (st' := []) rfl (by exact trivial) (pc' := 105) rfl ?_
                refine hp_E 151 (fun (p9 : Unit) => [(0, (.ref 192)), (3, (.int a7))]) (fun (p9 : Unit) => []) (fun (p9 : Unit) => h1) ?_ (fun p9 => ?_)
                · refine hp_s [4, 3, 1, 0] rfl (L' := [(0, (.ref 192)), (1, (.int a2)), (3, (.int a7)), (4, (.int (1 : Int32)))]) ?_
                  refine hp_wh (fun (p8 : Int32) => [(0, (.ref 192)), (1, (.int a2)), (3, (.int a7)), (4, (.int p8))]) [] (fun (p8 : Int32) => h1) (fun p8 => ?_) (1 : Int32)
                  refine hp_ic_ge hm (at1 17 rfl) rfl (by exact trivial) (pc' := 108) rfl 14 rfl (tgt := 151) rfl (fun c14 => ?_) (fun c14 => ?_)
                  · exact hp_lf [0, 2] rfl (fun _ e => e)
                  · refine hp_cVP (M2 := M_Mo_u4) hm (at1 18 rfl) (as := [(.int ((a2 + (18 : Int32)) + ((6 : Int32) * p8)))]) (rest := []) (z := 192) rfl (by exact trivial) (pc' := 122) rfl 9 rfl (lw_g (lw_at lw_m11 18 rfl) rfl) y_Mo_u4 rfl (d2 := 3) ⟨le_b rfl, pd_Mo_u4, le_b rfl⟩ (le_b rfl) og_192 (k_Mo_u4 ((a2 + (18 : Int32)) + ((6 : Int32) * p8)) h1) (fun a10 => ?_)
                    refine hp_cVP (M2 := M_Mo_u4) hm (at1 19 rfl) (as := [(.int ((a2 + (12 : Int32)) + ((6 : Int32) * p8)))]) (rest := [(.long a10)]) (z := 192) rfl (by exact trivial) (pc' := 136) rfl 10 rfl (lw_g (lw_at lw_m11 18 rfl) rfl) y_Mo_u4 rfl (d2 := 3) ⟨le_b rfl, pd_Mo_u4, le_b rfl⟩ (le_b rfl) og_192 (k_Mo_u4 ((a2 + (12 : Int32)) + ((6 : Int32) * p8)) h1) (fun a11 => ?_)
                    refine hp_lc_gt hm (at1 20 rfl) rfl (by exact trivial) (pc' := 140) rfl 13 rfl (tgt := 145) rfl (fun c13 => ?_) (fun c13 => ?_)
                    · refine hp_z hm (at1 21 rfl) (fun (v12 : Int32) => [(4, (.int v12)), (0, (.ref 192)), (1, (.int a2)), (3, (.int a7))]) (fun (v12 : Int32) => []) rfl (by exact trivial) (pc' := 148) rfl (fun v12 => ?_)
                      refine hp_goto hm 11 rfl (tgt := 105) rfl ?_
                      exact hp_lf [1, 2, 3, 0] rfl (fun _ e => e)
                    · exact hp_ir hm (at1 22 rfl) rfl (by exact trivial) (pc' := 144) rfl 12 rfl rfl rfl (fun _ e => e)
                · refine hp_w hm (at1 23 rfl) (L' := [(0, (.ref 192)), (3, (.int a7))]) rfl (by exact og_192) (pc' := 156) rfl (fun h2 => ?_)
                  exact hp_ir hm (at1 24 rfl) rfl (by exact trivial) (pc' := 157) rfl 15 rfl rfl rfl (fun _ e => e)
              · exact hp_ir hm (at1 14 rfl) rfl (by exact trivial) (pc' := 101) rfl 8 rfl rfl rfl (fun _ e => e)
          · exact hp_ir hm (at1 6 rfl) rfl (by exact trivial) (pc' := 72) rfl 3 rfl rfl rfl (fun _ e => e)
  · exact hp_ir hm (at1 25 rfl) rfl (by exact trivial) (pc' := 17) rfl 22 rfl rfl rfl (fun _ e => e)
/-! HintHouseModel.checkGlyphs()I -/
def M_Mo_checkGlyphs : hM := (11, ⟨"HintHouseModel", "checkGlyphs", "()I"⟩, prog_13_method_18_code, 2, (Option.some Jvm.ClassFile.FieldType.int), [], [(0, [(.aload_n 0, 1, 0, 0, 0, .null), (.ldc 243, 2, 0, 0, 0, (.int (1819239265 : Int32)))]), (6, [(.aload_n 0, 1, 0, 0, 0, .null), (.getfield 260, 3, 11, 12, 0, .null), (.iconst 1, 1, 0, 0, 0, (.int (1 : Int32))), (.iadd, 1, 0, 0, 0, .null), (.aload_n 0, 1, 0, 0, 0, .null), (.getfield 271, 3, 11, 11, 0, .null)]), (23, [(.iconst 4, 1, 0, 0, 0, (.int (4 : Int32)))]), (19, [(.iconst 2, 1, 0, 0, 0, (.int (2 : Int32)))]), (24, [(.imul, 1, 0, 0, 0, .null)]), (31, [(.iconst 0, 1, 0, 0, 0, (.int (0 : Int32))), (.istore_n 1, 1, 0, 0, 0, .null)]), (33, [(.iload_n 1, 1, 0, 0, 0, .null), (.aload_n 0, 1, 0, 0, 0, .null), (.getfield 260, 3, 11, 12, 0, .null)]), (41, [(.aload_n 0, 1, 0, 0, 0, .null), (.iload_n 1, 1, 0, 0, 0, .null)]), (46, [(.aload_n 0, 1, 0, 0, 0, .null), (.iload_n 1, 1, 0, 0, 0, .null), (.iconst 1, 1, 0, 0, 0, (.int (1 : Int32))), (.iadd, 1, 0, 0, 0, .null)]), (53, [(.lcmp, 1, 0, 0, 0, .null)]), (60, [(.iinc 1 1, 3, 0, 0, 0, (.int (1 : Int32)))]), (57, [(.bipush 10, 2, 0, 0, 0, (.int (10 : Int32)))]), (66, [(.aload_n 0, 1, 0, 0, 0, .null), (.aload_n 0, 1, 0, 0, 0, .null), (.getfield 260, 3, 11, 12, 0, .null)]), (74, [(.aload_n 0, 1, 0, 0, 0, .null), (.ldc 240, 2, 0, 0, 0, (.int (1735162214 : Int32)))]), (80, [(.i2l, 1, 0, 0, 0, .null), (.lcmp, 1, 0, 0, 0, .null)]), (88, [(.iconst 0, 1, 0, 0, 0, (.int (0 : Int32))), (.istore_n 1, 1, 0, 0, 0, .null)]), (90, [(.iload_n 1, 1, 0, 0, 0, .null), (.aload_n 0, 1, 0, 0, 0, .null), (.getfield 260, 3, 11, 12, 0, .null)]), (98, [(.aload_n 0, 1, 0, 0, 0, .null), (.iload_n 1, 1, 0, 0, 0, .null)]), (109, [(.iinc 1 1, 3, 0, 0, 0, (.int (1 : Int32)))]), (106, [(.bipush 11, 2, 0, 0, 0, (.int (11 : Int32)))]), (115, [(.aload_n 0, 1, 0, 0, 0, .null)]), (125, [(.aload_n 0, 1, 0, 0, 0, .null)]), (135, [(.aload_n 0, 1, 0, 0, 0, .null)]), (145, [(.aload_n 0, 1, 0, 0, 0, .null), (.ldc_w 291, 3, 0, 0, 0, (.int (1668707360 : Int32)))]), (152, [(.istore_n 1, 1, 0, 0, 0, .null), (.iload_n 1, 1, 0, 0, 0, .null), (.iconst 2, 1, 0, 0, 0, (.int (2 : Int32))), (.irem, 1, 0, 0, 0, .null)]), (192, [(.bipush 14, 2, 0, 0, 0, (.int (14 : Int32)))]), (159, [(.iload_n 1, 1, 0, 0, 0, .null), (.sipush 512, 3, 0, 0, 0, (.int (512 : Int32)))]), (166, [(.aload_n 0, 1, 0, 0, 0, .null), (.ldc_w 292, 3, 0, 0, 0, (.int (1718642541 : Int32)))]), (173, [(.sipush 2000, 3, 0, 0, 0, (.int (2000 : Int32)))]), (179, [(.aload_n 0, 1, 0, 0, 0, .null), (.ldc_w 293, 3, 0, 0, 0, (.int (1886545264 : Int32)))]), (186, [(.sipush 2000, 3, 0, 0, 0, (.int (2000 : Int32)))]), (195, [(.aload_n 0, 1, 0, 0, 0, .null), (.iload_n 1, 1, 0, 0, 0, .null), (.iconst 2, 1, 0, 0, 0, (.int (2 : Int32))), (.idiv, 1, 0, 0, 0, .null), (.putfield 294, 3, 11, 25, 0, .null)]), (202, [(.iconst 0, 1, 0, 0, 0, (.int (0 : Int32)))]), (142, [(.bipush 13, 2, 0, 0, 0, (.int (13 : Int32)))]), (132, [(.bipush 12, 2, 0, 0, 0, (.int (12 : Int32)))]), (122, [(.bipush 11, 2, 0, 0, 0, (.int (11 : Int32)))]), (85, [(.bipush 10, 2, 0, 0, 0, (.int (10 : Int32)))]), (28, [(.bipush 10, 2, 0, 0, 0, (.int (10 : Int32)))])], [(3, .invokevirtual 257, 3), (20, .goto 4, 3), (16, .ifCond .ne 7, 3), (43, .invokevirtual 274, 3), (50, .invokevirtual 274, 3), (63, .goto (-30), 3), (59, .ireturn, 1), (54, .ifCond .le 6, 3), (38, .if_icmp .ge 28, 3), (71, .invokevirtual 274, 3), (77, .invokevirtual 257, 3), (100, .invokevirtual 278, 3), (112, .goto (-22), 3), (108, .ireturn, 1), (103, .ifCond .ne 6, 3), (95, .if_icmp .ge 20, 3), (116, .invokevirtual 282, 3), (126, .invokevirtual 285, 3), (136, .invokevirtual 288, 3), (149, .invokevirtual 257, 3), (194, .ireturn, 1), (170, .invokevirtual 257, 3), (183, .invokevirtual 257, 3), (203, .ireturn, 1), (189, .if_icmp .le 6, 3), (176, .if_icmp .gt 16, 3), (163, .if_icmp .gt 29, 3), (156, .ifCond .ne 36, 3), (144, .ireturn, 1), (139, .ifCond .ne 6, 3), (134, .ireturn, 1), (129, .ifCond .ne 6, 3), (124, .ireturn, 1), (119, .ifCond .ne 6, 3), (87, .ireturn, 1), (82, .ifCond .le 6, 3), (30, .ireturn, 1), (25, .if_icmp .ge 6, 3)])
set_option maxRecDepth 100000 in
theorem m_Mo_checkGlyphs : hx_mok M_Mo_checkGlyphs = true := by decide +kernel
theorem pd_Mo_checkGlyphs : (parseMethodDescriptor M_Mo_checkGlyphs.2.1.desc).map (fun q => q.parameters.length) = some 0 := by decide +kernel
theorem y_Mo_checkGlyphs : hx_okV M_Mo_checkGlyphs := ⟨⟨lw_g (lw_at lw_m11 202 rfl) rfl, lw_g (lw_at lw_m11 201 rfl) rfl, qs214, lw_g (lw_at lw_m1 12 rfl) rfl, rfl, by decide, by decide, by decide⟩, rfl, by decide, plainFor_of_name (by decide)⟩
noncomputable def f_Mo_checkGlyphs (h : hH) : Option (Int32 × hH) :=
  bP (f_Mo_lengthOf (1819239265 : Int32) h) fun a1 =>
  lz (A := Int32) (if (rdI h 192 11) = 0 then (2 : Int32) else (4 : Int32)) fun p2 =>
  if (((rdI h 192 12) + (1 : Int32)) * p2) ≤ a1 then (
    bE (P := Unit) (X := (Int32 × hH)) (
      wh (A := Int32) (B := (Unit ⊕ (Int32 × hH))) (fun p4 =>
          if (rdI h 192 12) ≤ p4 then (
            some (.inr (.inl ()))
          ) else (
            bP (f_Mo_loca p4 h) fun a6 =>
            bP (f_Mo_loca (p4 + (1 : Int32)) h) fun a7 =>
            if a6 ≤ a7 then (
              lz (A := Int32) (p4 + (1 : Int32)) fun v8 =>
              some (.inl v8)
            ) else (
              some (.inr (.inr ((10 : Int32), h)))
            )
          )
      ) (0 : Int32)
    ) fun p5 =>
    bP (f_Mo_loca (rdI h 192 12) h) fun a11 =>
    bP (f_Mo_lengthOf (1735162214 : Int32) h) fun a12 =>
    if a11 ≤ (Int32.toInt64 a12) then (
      bE (P := hH) (X := (Int32 × hH)) (
        wh (A := (Int32 × hH)) (B := (hH ⊕ (Int32 × hH))) (fun p13 =>
            if (rdI p13.2 192 12) ≤ p13.1 then (
              some (.inr (.inl p13.2))
            ) else (
              bS (f_Mo_isGlyph p13.1 p13.2) fun a15 h1 =>
              if a15 = 0 then (
                some (.inr (.inr ((11 : Int32), h1)))
              ) else (
                lz (A := Int32) (p13.1 + (1 : Int32)) fun v16 =>
                some (.inl (v16, h1))
              )
            )
        ) ((0 : Int32), h)
      ) fun p14 =>
      bS (f_Mo_areWithin p14) fun a19 h2 =>
      if a19 = 0 then (
        some ((11 : Int32), h2)
      ) else (
        bS (f_Mo_map h2) fun a20 h3 =>
        if a20 = 0 then (
          some ((12 : Int32), h3)
        ) else (
          bS (f_Mo_kerns h3) fun a21 h4 =>
          if a21 = 0 then (
            some ((13 : Int32), h4)
          ) else (
            bP (f_Mo_lengthOf (1668707360 : Int32) h4) fun a22 =>
            if (hx_rm a22 (2 : Int32)) = 0 then (
              if (512 : Int32) < a22 then (
                some ((14 : Int32), h4)
              ) else (
                bP (f_Mo_lengthOf (1718642541 : Int32) h4) fun a23 =>
                if (2000 : Int32) < a23 then (
                  some ((14 : Int32), h4)
                ) else (
                  bP (f_Mo_lengthOf (1886545264 : Int32) h4) fun a24 =>
                  if a24 ≤ (2000 : Int32) then (
                    lz (wrI h4 192 25 (a22 / (2 : Int32))) fun h5 =>
                    some ((0 : Int32), h5)
                  ) else (
                    some ((14 : Int32), h4)
                  )
                )
              )
            ) else (
              some ((14 : Int32), h4)
            )
          )
        )
      )
    ) else (
      some ((10 : Int32), h)
    )
  ) else (
    some ((10 : Int32), h)
  )
set_option maxRecDepth 20000 in
theorem k_Mo_checkGlyphs (h : hH) : hx_kS S0 M_Mo_checkGlyphs 8 NT [(.ref 192)] h (f_Mo_checkGlyphs h) cvI := by
  have hm := m_Mo_checkGlyphs
  show hx_P S0 M_Mo_checkGlyphs 8 0 [(0, (.ref 192))] [] NT h (f_Mo_checkGlyphs h) (hx_Rc cvI NT)
  unfold f_Mo_checkGlyphs
  refine hp_cVP (M2 := M_Mo_lengthOf) hm (at1 0 rfl) (as := [(.int (1819239265 : Int32))]) (rest := []) (z := 192) rfl (by exact trivial) (pc' := 3) rfl 0 rfl (lw_g (lw_at lw_m9 228 rfl) rfl) y_Mo_lengthOf rfl (d2 := 2) ⟨le_b rfl, pd_Mo_lengthOf, le_b rfl⟩ (le_b rfl) og_192 (k_Mo_lengthOf (1819239265 : Int32) h) (fun a1 => ?_)
  refine hp_JZ 24 (fun (p2 : Int32) => [(0, (.ref 192))]) (fun (p2 : Int32) => [(.int p2), (.int ((rdI h 192 12) + (1 : Int32))), (.int a1)]) (fun (p2 : Int32) => h) ?_ (fun p2 => ?_)
  · refine hp_sv0 ?_
    refine hp_if_ne hm (at1 1 rfl) rfl (by exact ⟨og_192, og_192⟩) (pc' := 16) rfl 2 rfl (tgt := 23) rfl (fun c3 => ?_) (fun c3 => ?_)
    · refine hp_b hm (at1 2 rfl) (L' := [(0, (.ref 192))]) (st' := [(.int (4 : Int32)), (.int ((rdI h 192 12) + (1 : Int32))), (.int a1)]) rfl (by exact trivial) (pc' := 24) rfl ?_
      exact hp_lf [0] rfl (fun _ e => e)
    · refine hp_b hm (at1 3 rfl) (L' := [(0, (.ref 192))]) (st' := [(.int (2 : Int32)), (.int ((rdI h 192 12) + (1 : Int32))), (.int a1)]) rfl (by exact trivial) (pc' := 20) rfl ?_
      refine hp_goto hm 1 rfl (tgt := 24) rfl ?_
      exact hp_lf [0] rfl (fun _ e => e)
  · refine hp_ic_ge hm (at1 4 rfl) rfl (by exact trivial) (pc' := 25) rfl 37 rfl (tgt := 31) rfl (fun c33 => ?_) (fun c33 => ?_)
    · refine hp_b hm (at1 5 rfl) (L' := [(1, (.int (0 : Int32))), (0, (.ref 192))]) (st' := []) rfl (by exact trivial) (pc' := 33) rfl ?_
      refine hp_E 66 (fun (p5 : Unit) => [(0, (.ref 192))]) (fun (p5 : Unit) => []) (fun (p5 : Unit) => h) ?_ (fun p5 => ?_)
      · refine hp_s [1, 0] rfl (L' := [(0, (.ref 192)), (1, (.int (0 : Int32)))]) ?_
        refine hp_wh (fun (p4 : Int32) => [(0, (.ref 192)), (1, (.int p4))]) [] (fun (p4 : Int32) => h) (fun p4 => ?_) (0 : Int32)
        refine hp_ic_ge hm (at1 6 rfl) rfl (by exact og_192) (pc' := 38) rfl 8 rfl (tgt := 66) rfl (fun c10 => ?_) (fun c10 => ?_)
        · exact hp_lf [0] rfl (fun _ e => e)
        · refine hp_cVP (M2 := M_Mo_loca) hm (at1 7 rfl) (as := [(.int p4)]) (rest := []) (z := 192) rfl (by exact trivial) (pc' := 43) rfl 3 rfl (lw_g (lw_at lw_m11 13 rfl) rfl) y_Mo_loca rfl (d2 := 4) ⟨le_b rfl, pd_Mo_loca, le_b rfl⟩ (le_b rfl) og_192 (k_Mo_loca p4 h) (fun a6 => ?_)
          refine hp_cVP (M2 := M_Mo_loca) hm (at1 8 rfl) (as := [(.int (p4 + (1 : Int32)))]) (rest := [(.long a6)]) (z := 192) rfl (by exact trivial) (pc' := 50) rfl 4 rfl (lw_g (lw_at lw_m11 13 rfl) rfl) y_Mo_loca rfl (d2 := 4) ⟨le_b rfl, pd_Mo_loca, le_b rfl⟩ (le_b rfl) og_192 (k_Mo_loca (p4 + (1 : Int32)) h) (fun a7 => ?_)
          refine hp_lc_le hm (at1 9 rfl) rfl (by exact trivial) (pc' := 54) rfl 7 rfl (tgt := 60) rfl (fun c9 => ?_) (fun c9 => ?_)
          · refine hp_z hm (at1 10 rfl) (fun (v8 : Int32) => [(1, (.int v8)), (0, (.ref 192))]) (fun (v8 : Int32) => []) rfl (by exact trivial) (pc' := 63) rfl (fun v8 => ?_)
            refine hp_goto hm 5 rfl (tgt := 33) rfl ?_
            exact hp_lf [1, 0] rfl (fun _ e => e)
          · exact hp_ir hm (at1 11 rfl) rfl (by exact trivial) (pc' := 59) rfl 6 rfl rfl (vp_nar_int _) (fun _ e => e)
      · refine hp_cVP (M2 := M_Mo_loca) hm (at1 12 rfl) (as := [(.int (rdI h 192 12))]) (rest := []) (z := 192) rfl (by exact og_192) (pc' := 71) rfl 9 rfl (lw_g (lw_at lw_m11 13 rfl) rfl) y_Mo_loca rfl (d2 := 4) ⟨le_b rfl, pd_Mo_loca, le_b rfl⟩ (le_b rfl) og_192 (k_Mo_loca (rdI h 192 12) h) (fun a11 => ?_)
        refine hp_cVP (M2 := M_Mo_lengthOf) hm (at1 13 rfl) (as := [(.int (1735162214 : Int32))]) (rest := [(.long a11)]) (z := 192) rfl (by exact trivial) (pc' := 77) rfl 10 rfl (lw_g (lw_at lw_m9 228 rfl) rfl) y_Mo_lengthOf rfl (d2 := 2) ⟨le_b rfl, pd_Mo_lengthOf, le_b rfl⟩ (le_b rfl) og_192 (k_Mo_lengthOf (1735162214 : Int32) h) (fun a12 => ?_)
        refine hp_lc_le hm (at1 14 rfl) rfl (by exact trivial) (pc' := 82) rfl 35 rfl (tgt := 88) rfl (fun c32 => ?_) (fun c32 => ?_)
        · refine hp_b hm (at1 15 rfl) (L' := [(1, (.int (0 : Int32))), (0, (.ref 192))]) (st' := []) rfl (by exact trivial) (pc' := 90) rfl ?_
          refine hp_E 115 (fun (p14 : hH) => [(0, (.ref 192))]) (fun (p14 : hH) => []) (fun (p14 : hH) => p14) ?_ (fun p14 => ?_)
          · refine hp_s [1, 0] rfl (L' := [(0, (.ref 192)), (1, (.int (0 : Int32)))]) ?_
            refine hp_wh (fun (p13 : (Int32 × hH)) => [(0, (.ref 192)), (1, (.int p13.1))]) [] (fun (p13 : (Int32 × hH)) => p13.2) (fun p13 => ?_) ((0 : Int32), h)
            refine hp_ic_ge hm (at1 16 rfl) rfl (by exact og_192) (pc' := 95) rfl 15 rfl (tgt := 115) rfl (fun c18 => ?_) (fun c18 => ?_)
            · exact hp_lf [0] rfl (fun _ e => e)
            · refine hp_cVS (M2 := M_Mo_isGlyph) hm (at1 17 rfl) (as := [(.int p13.1)]) (rest := []) (z := 192) rfl (by exact trivial) (pc' := 100) rfl 11 rfl (lw_g (lw_at lw_m11 31 rfl) rfl) y_Mo_isGlyph rfl (d2 := 6) ⟨le_b rfl, pd_Mo_isGlyph, le_b rfl⟩ (le_b rfl) og_192 (k_Mo_isGlyph p13.1 p13.2) (fun a15 h1 => ?_)
              refine hp_if_ne hm at0 rfl (by exact trivial) (pc' := 103) rfl 14 rfl (tgt := 109) rfl (fun c17 => ?_) (fun c17 => ?_)
              · refine hp_z hm (at1 18 rfl) (fun (v16 : Int32) => [(1, (.int v16)), (0, (.ref 192))]) (fun (v16 : Int32) => []) rfl (by exact trivial) (pc' := 112) rfl (fun v16 => ?_)
                refine hp_goto hm 12 rfl (tgt := 90) rfl ?_
                exact hp_lf [1, 0] rfl (fun _ e => e)
              · exact hp_ir hm (at1 19 rfl) rfl (by exact trivial) (pc' := 108) rfl 13 rfl rfl (vp_nar_int _) (fun _ e => e)
          · refine hp_cVS (M2 := M_Mo_areWithin) hm (at1 20 rfl) (as := []) (rest := []) (z := 192) rfl (by exact trivial) (pc' := 116) rfl 16 rfl (lw_g (lw_at lw_m11 203 rfl) rfl) y_Mo_areWithin rfl (d2 := 7) ⟨le_b rfl, pd_Mo_areWithin, le_b rfl⟩ (le_b rfl) og_192 (k_Mo_areWithin p14) (fun a19 h2 => ?_)
            refine hp_if_ne hm at0 rfl (by exact trivial) (pc' := 119) rfl 33 rfl (tgt := 125) rfl (fun c31 => ?_) (fun c31 => ?_)
            · refine hp_cVS (M2 := M_Mo_map) hm (at1 21 rfl) (as := []) (rest := []) (z := 192) rfl (by exact trivial) (pc' := 126) rfl 17 rfl (lw_g (lw_at lw_m11 207 rfl) rfl) y_Mo_map rfl (d2 := 5) ⟨le_b rfl, pd_Mo_map, le_b rfl⟩ (le_b rfl) og_192 (k_Mo_map h2) (fun a20 h3 => ?_)
              refine hp_if_ne hm at0 rfl (by exact trivial) (pc' := 129) rfl 31 rfl (tgt := 135) rfl (fun c30 => ?_) (fun c30 => ?_)
              · refine hp_cVS (M2 := M_Mo_kerns) hm (at1 22 rfl) (as := []) (rest := []) (z := 192) rfl (by exact trivial) (pc' := 136) rfl 18 rfl (lw_g (lw_at lw_m11 224 rfl) rfl) y_Mo_kerns rfl (d2 := 4) ⟨le_b rfl, pd_Mo_kerns, le_b rfl⟩ (le_b rfl) og_192 (k_Mo_kerns h3) (fun a21 h4 => ?_)
                refine hp_if_ne hm at0 rfl (by exact trivial) (pc' := 139) rfl 29 rfl (tgt := 145) rfl (fun c29 => ?_) (fun c29 => ?_)
                · refine hp_cVP (M2 := M_Mo_lengthOf) hm (at1 23 rfl) (as := [(.int (1668707360 : Int32))]) (rest := []) (z := 192) rfl (by exact trivial) (pc' := 149) rfl 19 rfl (lw_g (lw_at lw_m9 228 rfl) rfl) y_Mo_lengthOf rfl (d2 := 2) ⟨le_b rfl, pd_Mo_lengthOf, le_b rfl⟩ (le_b rfl) og_192 (k_Mo_lengthOf (1668707360 : Int32) h4) (fun a22 => ?_)
                  refine hp_b hm (at1 24 rfl) (L' := [(1, (.int a22)), (0, (.ref 192))]) (st' := [(.int (hx_rm a22 (2 : Int32)))]) rfl (by exact (show ¬ (2 : Int32) = 0 by decide)) (pc' := 156) rfl ?_
                  refine hp_if_ne hm at0 rfl (by exact trivial) (pc' := 156) rfl 27 rfl (tgt := 192) rfl (fun c28 => ?_) (fun c28 => ?_)
                  · exact hp_ir hm (at1 25 rfl) rfl (by exact trivial) (pc' := 194) rfl 20 rfl rfl (vp_nar_int _) (fun _ e => e)
                  · refine hp_ic_gt hm (at1 26 rfl) rfl (by exact trivial) (pc' := 163) rfl 26 rfl (tgt := 192) rfl (fun c27 => ?_) (fun c27 => ?_)
                    · exact hp_ir hm (at1 25 rfl) rfl (by exact trivial) (pc' := 194) rfl 20 rfl rfl (vp_nar_int _) (fun _ e => e)
                    · refine hp_cVP (M2 := M_Mo_lengthOf) hm (at1 27 rfl) (as := [(.int (1718642541 : Int32))]) (rest := []) (z := 192) rfl (by exact trivial) (pc' := 170) rfl 21 rfl (lw_g (lw_at lw_m9 228 rfl) rfl) y_Mo_lengthOf rfl (d2 := 2) ⟨le_b rfl, pd_Mo_lengthOf, le_b rfl⟩ (le_b rfl) og_192 (k_Mo_lengthOf (1718642541 : Int32) h4) (fun a23 => ?_)
                      refine hp_ic_gt hm (at1 28 rfl) rfl (by exact trivial) (pc' := 176) rfl 25 rfl (tgt := 192) rfl (fun c26 => ?_) (fun c26 => ?_)
                      · exact hp_ir hm (at1 25 rfl) rfl (by exact trivial) (pc' := 194) rfl 20 rfl rfl (vp_nar_int _) (fun _ e => e)
                      · refine hp_cVP (M2 := M_Mo_lengthOf) hm (at1 29 rfl) (as := [(.int (1886545264 : Int32))]) (rest := []) (z := 192) rfl (by exact trivial) (pc' := 183) rfl 22 rfl (lw_g (lw_at lw_m9 228 rfl) rfl) y_Mo_lengthOf rfl (d2 := 2) ⟨le_b rfl, pd_Mo_lengthOf, le_b rfl⟩ (le_b rfl) og_192 (k_Mo_lengthOf (1886545264 : Int32) h4) (fun a24 => ?_)
                        refine hp_ic_le hm (at1 30 rfl) rfl (by exact trivial) (pc' := 189) rfl 24 rfl (tgt := 195) rfl (fun c25 => ?_) (fun c25 => ?_)
                        · refine hp_w hm (at1 31 rfl) (L' := [(1, (.int a22)), (0, (.ref 192))]) rfl (by exact ⟨(show ¬ (2 : Int32) = 0 by decide), og_192⟩) (pc' := 202) rfl (fun h5 => ?_)
                          exact hp_ir hm (at1 32 rfl) rfl (by exact trivial) (pc' := 203) rfl 23 rfl rfl (vp_nar_int _) (fun _ e => e)
                        · exact hp_ir hm (at1 25 rfl) rfl (by exact trivial) (pc' := 194) rfl 20 rfl rfl (vp_nar_int _) (fun _ e => e)
                · exact hp_ir hm (at1 33 rfl) rfl (by exact trivial) (pc' := 144) rfl 28 rfl rfl (vp_nar_int _) (fun _ e => e)
              · exact hp_ir hm (at1 34 rfl) rfl (by exact trivial) (pc' := 134) rfl 30 rfl rfl (vp_nar_int _) (fun _ e => e)
            · exact hp_ir hm (at1 35 rfl) rfl (by exact trivial) (pc' := 124) rfl 32 rfl rfl (vp_nar_int _) (fun _ e => e)
        · exact hp_ir hm (at1 36 rfl) rfl (by exact trivial) (pc' := 87) rfl 34 rfl rfl (vp_nar_int _) (fun _ e => e)
    · exact hp_ir hm (at1 37 rfl) rfl (by exact trivial) (pc' := 30) rfl 36 rfl rfl (vp_nar_int _) (fun _ e => e)
