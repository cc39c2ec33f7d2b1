/-! LAYER 2b: methods (printed by gen/dec.py): In_acrossLine HH_signOf In_reaches In_lineSide In_compare In_squares In_curveSide In_piece In_acrossCurve In_has HH_isIn HH_canvas HH_isPen HH_drawNow HH_draw HH_pixel HH_type Mo_in Mo_put Mo_tableOf Mo_beginOf Mo_u1 Mo_u2 Mo_s2 Mo_sizeOf Mo_nearest Mo_over Mo_scaled Mo_lengthOf Mo_setRounding Mo_settings Mo_fail Mo_codeByte Mo_has Mo_pop Mo_pointOf Mo_by Mo_originally Mo_singled Mo_rounded Mo_atLeast Mo_between Mo_touch -/
/-! HintHouse$Inside.acrossLine(IJJ)I -/
def M_In_acrossLine : hM := (10, ⟨"HintHouse$Inside", "acrossLine", "(IJJ)I"⟩, prog_5_method_7_code, 12, (Option.some Jvm.ClassFile.FieldType.int), [], [(0, [(.aload_n 0, 1, 0, 0, 0, .null), (.getfield 24, 3, 10, 4, 4, .null), (.iload_n 1, 1, 0, 0, 0, .null), (.iaload, 1, 0, 0, 0, .null), (.aload_n 0, 1, 0, 0, 0, .null), (.getfield 11, 3, 10, 0, 4, .null), (.iload_n 1, 1, 0, 0, 0, .null), (.iaload, 1, 0, 0, 0, .null), (.isub, 1, 0, 0, 0, .null), (.i2l, 1, 0, 0, 0, .null), (.lload 4, 2, 0, 0, 0, .null), (.aload_n 0, 1, 0, 0, 0, .null), (.getfield 15, 3, 10, 1, 4, .null), (.iload_n 1, 1, 0, 0, 0, .null), (.iaload, 1, 0, 0, 0, .null), (.i2l, 1, 0, 0, 0, .null), (.lsub, 1, 0, 0, 0, .null), (.lmul, 1, 0, 0, 0, .null), (.aload_n 0, 1, 0, 0, 0, .null), (.getfield 27, 3, 10, 5, 4, .null), (.iload_n 1, 1, 0, 0, 0, .null), (.iaload, 1, 0, 0, 0, .null), (.aload_n 0, 1, 0, 0, 0, .null), (.getfield 15, 3, 10, 1, 4, .null), (.iload_n 1, 1, 0, 0, 0, .null), (.iaload, 1, 0, 0, 0, .null), (.isub, 1, 0, 0, 0, .null), (.i2l, 1, 0, 0, 0, .null), (.lload_n 2, 1, 0, 0, 0, .null), (.aload_n 0, 1, 0, 0, 0, .null), (.getfield 11, 3, 10, 0, 4, .null), (.iload_n 1, 1, 0, 0, 0, .null), (.iaload, 1, 0, 0, 0, .null), (.i2l, 1, 0, 0, 0, .null), (.lsub, 1, 0, 0, 0, .null), (.lmul, 1, 0, 0, 0, .null), (.lsub, 1, 0, 0, 0, .null), (.lstore 6, 2, 0, 0, 0, .null)]), (52, [(.lload_n 2, 1, 0, 0, 0, .null), (.aload_n 0, 1, 0, 0, 0, .null), (.getfield 11, 3, 10, 0, 4, .null), (.iload_n 1, 1, 0, 0, 0, .null), (.iaload, 1, 0, 0, 0, .null), (.aload_n 0, 1, 0, 0, 0, .null), (.getfield 24, 3, 10, 4, 4, .null), (.iload_n 1, 1, 0, 0, 0, .null), (.iaload, 1, 0, 0, 0, .null)]), (68, [(.i2l, 1, 0, 0, 0, .null), (.lcmp, 1, 0, 0, 0, .null)]), (98, [(.iconst 0, 1, 0, 0, 0, (.int (0 : Int32)))]), (73, [(.lload_n 2, 1, 0, 0, 0, .null), (.aload_n 0, 1, 0, 0, 0, .null), (.getfield 11, 3, 10, 0, 4, .null), (.iload_n 1, 1, 0, 0, 0, .null), (.iaload, 1, 0, 0, 0, .null), (.aload_n 0, 1, 0, 0, 0, .null), (.getfield 24, 3, 10, 4, 4, .null), (.iload_n 1, 1, 0, 0, 0, .null), (.iaload, 1, 0, 0, 0, .null)]), (89, [(.i2l, 1, 0, 0, 0, .null), (.lcmp, 1, 0, 0, 0, .null)]), (94, [(.iconst 1, 1, 0, 0, 0, (.int (1 : Int32)))]), (99, [(.istore 8, 2, 0, 0, 0, .null), (.lload 4, 2, 0, 0, 0, .null), (.aload_n 0, 1, 0, 0, 0, .null), (.getfield 15, 3, 10, 1, 4, .null), (.iload_n 1, 1, 0, 0, 0, .null), (.iaload, 1, 0, 0, 0, .null), (.aload_n 0, 1, 0, 0, 0, .null), (.getfield 27, 3, 10, 5, 4, .null), (.iload_n 1, 1, 0, 0, 0, .null), (.iaload, 1, 0, 0, 0, .null)]), (118, [(.i2l, 1, 0, 0, 0, .null), (.lcmp, 1, 0, 0, 0, .null)]), (149, [(.iconst 0, 1, 0, 0, 0, (.int (0 : Int32)))]), (123, [(.lload 4, 2, 0, 0, 0, .null), (.aload_n 0, 1, 0, 0, 0, .null), (.getfield 15, 3, 10, 1, 4, .null), (.iload_n 1, 1, 0, 0, 0, .null), (.iaload, 1, 0, 0, 0, .null), (.aload_n 0, 1, 0, 0, 0, .null), (.getfield 27, 3, 10, 5, 4, .null), (.iload_n 1, 1, 0, 0, 0, .null), (.iaload, 1, 0, 0, 0, .null)]), (140, [(.i2l, 1, 0, 0, 0, .null), (.lcmp, 1, 0, 0, 0, .null)]), (145, [(.iconst 1, 1, 0, 0, 0, (.int (1 : Int32)))]), (150, [(.istore 9, 2, 0, 0, 0, .null), (.aload_n 0, 1, 0, 0, 0, .null), (.lload 6, 2, 0, 0, 0, .null), (.lconst 0, 1, 0, 0, 0, (.long (0 : Int64))), (.lcmp, 1, 0, 0, 0, .null)]), (174, [(.iconst 0, 1, 0, 0, 0, (.int (0 : Int32)))]), (160, [(.iload 8, 2, 0, 0, 0, .null)]), (165, [(.iload 9, 2, 0, 0, 0, .null)]), (170, [(.iconst 1, 1, 0, 0, 0, (.int (1 : Int32)))]), (175, [(.putfield 87, 3, 10, 13, 1, .null)]), (178, [(.aload_n 0, 1, 0, 0, 0, .null), (.getfield 15, 3, 10, 1, 4, .null), (.iload_n 1, 1, 0, 0, 0, .null), (.iaload, 1, 0, 0, 0, .null), (.i2l, 1, 0, 0, 0, .null), (.lload 4, 2, 0, 0, 0, .null), (.lcmp, 1, 0, 0, 0, .null)]), (208, [(.iconst 0, 1, 0, 0, 0, (.int (0 : Int32)))]), (191, [(.lload 4, 2, 0, 0, 0, .null), (.aload_n 0, 1, 0, 0, 0, .null), (.getfield 27, 3, 10, 5, 4, .null), (.iload_n 1, 1, 0, 0, 0, .null), (.iaload, 1, 0, 0, 0, .null), (.i2l, 1, 0, 0, 0, .null), (.lcmp, 1, 0, 0, 0, .null)]), (204, [(.iconst 1, 1, 0, 0, 0, (.int (1 : Int32)))]), (209, [(.istore 10, 2, 0, 0, 0, .null), (.aload_n 0, 1, 0, 0, 0, .null), (.getfield 27, 3, 10, 5, 4, .null), (.iload_n 1, 1, 0, 0, 0, .null), (.iaload, 1, 0, 0, 0, .null), (.i2l, 1, 0, 0, 0, .null), (.lload 4, 2, 0, 0, 0, .null), (.lcmp, 1, 0, 0, 0, .null)]), (241, [(.iconst 0, 1, 0, 0, 0, (.int (0 : Int32)))]), (224, [(.lload 4, 2, 0, 0, 0, .null), (.aload_n 0, 1, 0, 0, 0, .null), (.getfield 15, 3, 10, 1, 4, .null), (.iload_n 1, 1, 0, 0, 0, .null), (.iaload, 1, 0, 0, 0, .null), (.i2l, 1, 0, 0, 0, .null), (.lcmp, 1, 0, 0, 0, .null)]), (237, [(.iconst 1, 1, 0, 0, 0, (.int (1 : Int32)))]), (242, [(.istore 11, 2, 0, 0, 0, .null), (.iload 10, 2, 0, 0, 0, .null)]), (249, [(.lload 6, 2, 0, 0, 0, .null), (.lconst 0, 1, 0, 0, 0, (.long (0 : Int64))), (.lcmp, 1, 0, 0, 0, .null)]), (260, [(.iload 11, 2, 0, 0, 0, .null)]), (276, [(.iconst 0, 1, 0, 0, 0, (.int (0 : Int32)))]), (265, [(.lload 6, 2, 0, 0, 0, .null), (.lconst 0, 1, 0, 0, 0, (.long (0 : Int64))), (.lcmp, 1, 0, 0, 0, .null)]), (272, [(.iconst (-1), 1, 0, 0, 0, (.int (-1 : Int32)))]), (256, [(.iconst 1, 1, 0, 0, 0, (.int (1 : Int32)))])], [(65, .invokestatic 97, 3), (86, .invokestatic 103, 3), (95, .goto 4, 3), (91, .ifCond .gt 7, 3), (70, .ifCond .lt 28, 3), (115, .invokestatic 97, 3), (137, .invokestatic 103, 3), (146, .goto 4, 3), (142, .ifCond .gt 7, 3), (120, .ifCond .lt 29, 3), (171, .goto 4, 3), (167, .ifCond .eq 7, 3), (162, .ifCond .eq 12, 3), (157, .ifCond .ne 17, 3), (205, .goto 4, 3), (201, .ifCond .ge 7, 3), (188, .ifCond .gt 20, 3), (238, .goto 4, 3), (234, .ifCond .ge 7, 3), (221, .ifCond .gt 20, 3), (253, .ifCond .le 7, 3), (246, .ifCond .eq 14, 3), (277, .ireturn, 1), (273, .goto 4, 3), (269, .ifCond .ge 7, 3), (262, .ifCond .eq 14, 3), (257, .goto 20, 3)])
set_option maxRecDepth 100000 in
theorem m_In_acrossLine : hx_mok M_In_acrossLine = true := by decide +kernel
theorem pd_In_acrossLine : (parseMethodDescriptor M_In_acrossLine.2.1.desc).map (fun q => q.parameters.length) = some 3 := by decide +kernel
theorem y_In_acrossLine : hx_okV M_In_acrossLine := ⟨⟨lw_g (lw_at lw_m7 140 rfl) rfl, lw_g (lw_at lw_m7 139 rfl) rfl, qs112, lw_g (lw_at lw_m1 11 rfl) rfl, rfl, by decide, by decide, by decide⟩, rfl, by decide, plainFor_of_name (by decide)⟩
noncomputable def f_In_acrossLine (x1 : Int32) (x2 : Int64) (x3 : Int64) (h : hH) : Option (Int32 × hH) :=
  gd (vp_in x1 220) <|
  lz (A := Int64) (((Int32.toInt64 ((rdI h 187 (Int32.toNatClampNeg x1)) - (rdI h 183 (Int32.toNatClampNeg x1)))) * (x3 - (Int32.toInt64 (rdI h 184 (Int32.toNatClampNeg x1))))) - ((Int32.toInt64 ((rdI h 188 (Int32.toNatClampNeg x1)) - (rdI h 184 (Int32.toNatClampNeg x1)))) * (x2 - (Int32.toInt64 (rdI h 183 (Int32.toNatClampNeg x1)))))) fun v1 =>
  gd (vp_in x1 220) <|
  bP (f_JM_min_2 (rdI h 183 (Int32.toNatClampNeg x1)) (rdI h 187 (Int32.toNatClampNeg x1))) fun a4 =>
  bP (A := Int32) (
    if x2 < (Int32.toInt64 a4) then (
      some (0 : Int32)
    ) else (
      gd (vp_in x1 220) <|
      bP (f_JM_max_2 (rdI h 183 (Int32.toNatClampNeg x1)) (rdI h 187 (Int32.toNatClampNeg x1))) fun a7 =>
      if (Int32.toInt64 a7) < x2 then (
        some (0 : Int32)
      ) else (
        some (1 : Int32)
      )
    )
  ) fun p5 =>
  gd (vp_in x1 220) <|
  bP (f_JM_min_2 (rdI h 184 (Int32.toNatClampNeg x1)) (rdI h 188 (Int32.toNatClampNeg x1))) fun a11 =>
  bP (A := Int32) (
    if x3 < (Int32.toInt64 a11) then (
      some (0 : Int32)
    ) else (
      gd (vp_in x1 220) <|
      bP (f_JM_max_2 (rdI h 184 (Int32.toNatClampNeg x1)) (rdI h 188 (Int32.toNatClampNeg x1))) fun a14 =>
      if (Int32.toInt64 a14) < x3 then (
        some (0 : Int32)
      ) else (
        some (1 : Int32)
      )
    )
  ) fun p12 =>
  lz (A := Int32) (if v1 = (0 : Int64) then (if p5 = 0 then (0 : Int32) else (if p12 = 0 then (0 : Int32) else (1 : Int32))) else (0 : Int32)) fun p17 =>
  gd ((p17 = 0 ∨ p17 = 1)) <|
  lz (wrI h 182 13 p17) fun h1 =>
  gd (vp_in x1 220) <|
  bP (A := Int32) (
    if x3 < (Int32.toInt64 (rdI h1 184 (Int32.toNatClampNeg x1))) then (
      some (0 : Int32)
    ) else (
      gd (vp_in x1 220) <|
      if (Int32.toInt64 (rdI h1 188 (Int32.toNatClampNeg x1))) ≤ x3 then (
        some (0 : Int32)
      ) else (
        some (1 : Int32)
      )
    )
  ) fun p23 =>
  gd (vp_in x1 220) <|
  bP (A := Int32) (
    if x3 < (Int32.toInt64 (rdI h1 188 (Int32.toNatClampNeg x1))) then (
      some (0 : Int32)
    ) else (
      gd (vp_in x1 220) <|
      if (Int32.toInt64 (rdI h1 184 (Int32.toNatClampNeg x1))) ≤ x3 then (
        some (0 : Int32)
      ) else (
        some (1 : Int32)
      )
    )
  ) fun p28 =>
  if (p23 = 0 ∨ v1 ≤ (0 : Int64)) then (
    if p28 = 0 then (
      some ((0 : Int32), h1)
    ) else (
      if (0 : Int64) ≤ v1 then (
        some ((0 : Int32), h1)
      ) else (
        some ((-1 : Int32), h1)
      )
    )
  ) else (
    some ((1 : Int32), h1)
  )
set_option maxRecDepth 20000 in
theorem k_In_acrossLine (x1 : Int32) (x2 : Int64) (x3 : Int64) (h : hH) : hx_kS S0 M_In_acrossLine 2 NT [(.ref 182), (.int x1), (.long x2), (.long x3)] h (f_In_acrossLine x1 x2 x3 h) cvI := by
  have hm := m_In_acrossLine
  show hx_P S0 M_In_acrossLine 2 0 [(0, (.ref 182)), (1, (.int x1)), (2, (.long x2)), (4, (.long x3))] [] NT h (f_In_acrossLine x1 x2 x3 h) (hx_Rc cvI NT)
  unfold f_In_acrossLine
  refine hp_GZ hm (at1 0 rfl) (fun (v1 : Int64) => [(6, (.long v1)), (0, (.ref 182)), (1, (.int x1)), (2, (.long x2)), (4, (.long x3))]) (fun (v1 : Int64) => []) rfl (fun hP => (by exact ⟨⟨⟨⟨⟨⟨⟨⟨⟨⟨⟨og_182, ⟨og_187, hP⟩⟩, og_182⟩, ⟨og_183, hP⟩⟩, og_182⟩, ⟨og_184, hP⟩⟩, og_182⟩, ⟨og_188, hP⟩⟩, og_182⟩, ⟨og_184, hP⟩⟩, og_182⟩, ⟨og_183, hP⟩⟩)) (pc' := 52) rfl (fun q2 v1 => ?_)
  refine hp_G hm (at1 1 rfl) (L' := [(6, (.long v1)), (0, (.ref 182)), (1, (.int x1)), (2, (.long x2)), (4, (.long x3))]) (st' := [(.int (rdI h 187 (Int32.toNatClampNeg x1))), (.int (rdI h 183 (Int32.toNatClampNeg x1))), (.long x2)]) rfl (fun hP => (by exact ⟨⟨⟨og_182, ⟨og_183, hP⟩⟩, og_182⟩, ⟨og_187, hP⟩⟩)) (pc' := 65) rfl (fun q3 => ?_)
  refine hp_cSP (M2 := M_JM_min_2) hm at0 (as := [(.int (rdI h 183 (Int32.toNatClampNeg x1))), (.int (rdI h 187 (Int32.toNatClampNeg x1)))]) (rest := [(.long x2)]) rfl (by exact trivial) (pc' := 65) rfl 0 rfl (lw_g (lw_at lw_m7 141 rfl) rfl) y_JM_min_2 rfl (d2 := 1) ⟨le_b rfl, pd_JM_min_2, le_b rfl⟩ (le_b rfl) (k_JM_min_2 (rdI h 183 (Int32.toNatClampNeg x1)) (rdI h 187 (Int32.toNatClampNeg x1)) h) (fun a4 => ?_)
  refine hp_J 99 (fun (p5 : Int32) => [(0, (.ref 182)), (1, (.int x1)), (4, (.long x3)), (6, (.long v1))]) (fun (p5 : Int32) => [(.int p5)]) (fun (p5 : Int32) => h) ?_ (fun p5 => ?_)
  · refine hp_lc_lt hm (at1 2 rfl) rfl (by exact trivial) (pc' := 70) rfl 4 rfl (tgt := 98) rfl (fun c9 => ?_) (fun c9 => ?_)
    · refine hp_b hm (at1 3 rfl) (L' := [(6, (.long v1)), (0, (.ref 182)), (1, (.int x1)), (2, (.long x2)), (4, (.long x3))]) (st' := [(.int (0 : Int32))]) rfl (by exact trivial) (pc' := 99) rfl ?_
      exact hp_lf [1, 2, 4, 0] rfl (fun _ e => e)
    · refine hp_G hm (at1 4 rfl) (L' := [(6, (.long v1)), (0, (.ref 182)), (1, (.int x1)), (2, (.long x2)), (4, (.long x3))]) (st' := [(.int (rdI h 187 (Int32.toNatClampNeg x1))), (.int (rdI h 183 (Int32.toNatClampNeg x1))), (.long x2)]) rfl (fun hP => (by exact ⟨⟨⟨og_182, ⟨og_183, hP⟩⟩, og_182⟩, ⟨og_187, hP⟩⟩)) (pc' := 86) rfl (fun q6 => ?_)
      refine hp_cSP (M2 := M_JM_max_2) hm at0 (as := [(.int (rdI h 183 (Int32.toNatClampNeg x1))), (.int (rdI h 187 (Int32.toNatClampNeg x1)))]) (rest := [(.long x2)]) rfl (by exact trivial) (pc' := 86) rfl 1 rfl (lw_g (lw_at lw_m7 142 rfl) rfl) y_JM_max_2 rfl (d2 := 1) ⟨le_b rfl, pd_JM_max_2, le_b rfl⟩ (le_b rfl) (k_JM_max_2 (rdI h 183 (Int32.toNatClampNeg x1)) (rdI h 187 (Int32.toNatClampNeg x1)) h) (fun a7 => ?_)
      refine hp_lc_gt hm (at1 5 rfl) rfl (by exact trivial) (pc' := 91) rfl 3 rfl (tgt := 98) rfl (fun c8 => ?_) (fun c8 => ?_)
      · refine hp_b hm (at1 3 rfl) (L' := [(6, (.long v1)), (0, (.ref 182)), (1, (.int x1)), (2, (.long x2)), (4, (.long x3))]) (st' := [(.int (0 : Int32))]) rfl (by exact trivial) (pc' := 99) rfl ?_
        exact hp_lf [1, 2, 4, 0] rfl (fun _ e => e)
      · refine hp_b hm (at1 6 rfl) (L' := [(6, (.long v1)), (0, (.ref 182)), (1, (.int x1)), (2, (.long x2)), (4, (.long x3))]) (st' := [(.int (1 : Int32))]) rfl (by exact trivial) (pc' := 95) rfl ?_
        refine hp_goto hm 2 rfl (tgt := 99) rfl ?_
        exact hp_lf [1, 2, 4, 0] rfl (fun _ e => e)
  · refine hp_G hm (at1 7 rfl) (L' := [(8, (.int p5)), (0, (.ref 182)), (1, (.int x1)), (4, (.long x3)), (6, (.long v1))]) (st' := [(.int (rdI h 188 (Int32.toNatClampNeg x1))), (.int (rdI h 184 (Int32.toNatClampNeg x1))), (.long x3)]) rfl (fun hP => (by exact ⟨⟨⟨og_182, ⟨og_184, hP⟩⟩, og_182⟩, ⟨og_188, hP⟩⟩)) (pc' := 115) rfl (fun q10 => ?_)
    refine hp_cSP (M2 := M_JM_min_2) hm at0 (as := [(.int (rdI h 184 (Int32.toNatClampNeg x1))), (.int (rdI h 188 (Int32.toNatClampNeg x1)))]) (rest := [(.long x3)]) rfl (by exact trivial) (pc' := 115) rfl 5 rfl (lw_g (lw_at lw_m7 141 rfl) rfl) y_JM_min_2 rfl (d2 := 1) ⟨le_b rfl, pd_JM_min_2, le_b rfl⟩ (le_b rfl) (k_JM_min_2 (rdI h 184 (Int32.toNatClampNeg x1)) (rdI h 188 (Int32.toNatClampNeg x1)) h) (fun a11 => ?_)
    refine hp_J 150 (fun (p12 : Int32) => [(0, (.ref 182)), (1, (.int x1)), (4, (.long x3)), (6, (.long v1)), (8, (.int p5))]) (fun (p12 : Int32) => [(.int p12)]) (fun (p12 : Int32) => h) ?_ (fun p12 => ?_)
    · refine hp_lc_lt hm (at1 8 rfl) rfl (by exact trivial) (pc' := 120) rfl 9 rfl (tgt := 149) rfl (fun c16 => ?_) (fun c16 => ?_)
      · refine hp_b hm (at1 9 rfl) (L' := [(8, (.int p5)), (0, (.ref 182)), (1, (.int x1)), (4, (.long x3)), (6, (.long v1))]) (st' := [(.int (0 : Int32))]) rfl (by exact trivial) (pc' := 150) rfl ?_
        exact hp_lf [1, 2, 3, 4, 0] rfl (fun _ e => e)
      · refine hp_G hm (at1 10 rfl) (L' := [(8, (.int p5)), (0, (.ref 182)), (1, (.int x1)), (4, (.long x3)), (6, (.long v1))]) (st' := [(.int (rdI h 188 (Int32.toNatClampNeg x1))), (.int (rdI h 184 (Int32.toNatClampNeg x1))), (.long x3)]) rfl (fun hP => (by exact ⟨⟨⟨og_182, ⟨og_184, hP⟩⟩, og_182⟩, ⟨og_188, hP⟩⟩)) (pc' := 137) rfl (fun q13 => ?_)
        refine hp_cSP (M2 := M_JM_max_2) hm at0 (as := [(.int (rdI h 184 (Int32.toNatClampNeg x1))), (.int (rdI h 188 (Int32.toNatClampNeg x1)))]) (rest := [(.long x3)]) rfl (by exact trivial) (pc' := 137) rfl 6 rfl (lw_g (lw_at lw_m7 142 rfl) rfl) y_JM_max_2 rfl (d2 := 1) ⟨le_b rfl, pd_JM_max_2, le_b rfl⟩ (le_b rfl) (k_JM_max_2 (rdI h 184 (Int32.toNatClampNeg x1)) (rdI h 188 (Int32.toNatClampNeg x1)) h) (fun a14 => ?_)
        refine hp_lc_gt hm (at1 11 rfl) rfl (by exact trivial) (pc' := 142) rfl 8 rfl (tgt := 149) rfl (fun c15 => ?_) (fun c15 => ?_)
        · refine hp_b hm (at1 9 rfl) (L' := [(8, (.int p5)), (0, (.ref 182)), (1, (.int x1)), (4, (.long x3)), (6, (.long v1))]) (st' := [(.int (0 : Int32))]) rfl (by exact trivial) (pc' := 150) rfl ?_
          exact hp_lf [1, 2, 3, 4, 0] rfl (fun _ e => e)
        · refine hp_b hm (at1 12 rfl) (L' := [(8, (.int p5)), (0, (.ref 182)), (1, (.int x1)), (4, (.long x3)), (6, (.long v1))]) (st' := [(.int (1 : Int32))]) rfl (by exact trivial) (pc' := 146) rfl ?_
          refine hp_goto hm 7 rfl (tgt := 150) rfl ?_
          exact hp_lf [1, 2, 3, 4, 0] rfl (fun _ e => e)
    · refine hp_b hm (at1 13 rfl) (L' := [(9, (.int p12)), (0, (.ref 182)), (1, (.int x1)), (4, (.long x3)), (6, (.long v1)), (8, (.int p5))]) (st' := [(.int (lg_cmp v1 (0 : Int64))), (.ref 182)]) rfl (by exact trivial) (pc' := 157) rfl ?_
      refine hp_JZ 175 (fun (p17 : Int32) => [(0, (.ref 182)), (1, (.int x1)), (4, (.long x3)), (6, (.long v1))]) (fun (p17 : Int32) => [(.int p17), (.ref 182)]) (fun (p17 : Int32) => h) ?_ (fun p17 => ?_)
      · refine hp_sv0 ?_
        refine hp_lc_ne hm at0 rfl (by exact trivial) (pc' := 157) rfl 13 rfl (tgt := 174) rfl (fun c20 => ?_) (fun c20 => ?_)
        · refine hp_b hm (at1 14 rfl) (L' := [(9, (.int p12)), (0, (.ref 182)), (1, (.int x1)), (4, (.long x3)), (6, (.long v1)), (8, (.int p5))]) (st' := [(.int (0 : Int32)), (.ref 182)]) rfl (by exact trivial) (pc' := 175) rfl ?_
          exact hp_lf [1, 2, 3, 4] rfl (fun _ e => e)
        · refine hp_sv0 ?_
          refine hp_if_eq hm (at1 15 rfl) rfl (by exact trivial) (pc' := 162) rfl 12 rfl (tgt := 174) rfl (fun c19 => ?_) (fun c19 => ?_)
          · refine hp_b hm (at1 14 rfl) (L' := [(9, (.int p12)), (0, (.ref 182)), (1, (.int x1)), (4, (.long x3)), (6, (.long v1)), (8, (.int p5))]) (st' := [(.int (0 : Int32)), (.ref 182)]) rfl (by exact trivial) (pc' := 175) rfl ?_
            exact hp_lf [1, 2, 3, 4] rfl (fun _ e => e)
          · refine hp_sv0 ?_
            refine hp_if_eq hm (at1 16 rfl) rfl (by exact trivial) (pc' := 167) rfl 11 rfl (tgt := 174) rfl (fun c18 => ?_) (fun c18 => ?_)
            · refine hp_b hm (at1 14 rfl) (L' := [(9, (.int p12)), (0, (.ref 182)), (1, (.int x1)), (4, (.long x3)), (6, (.long v1)), (8, (.int p5))]) (st' := [(.int (0 : Int32)), (.ref 182)]) rfl (by exact trivial) (pc' := 175) rfl ?_
              exact hp_lf [1, 2, 3, 4] rfl (fun _ e => e)
            · refine hp_b hm (at1 17 rfl) (L' := [(9, (.int p12)), (0, (.ref 182)), (1, (.int x1)), (4, (.long x3)), (6, (.long v1)), (8, (.int p5))]) (st' := [(.int (1 : Int32)), (.ref 182)]) rfl (by exact trivial) (pc' := 171) rfl ?_
              refine hp_goto hm 10 rfl (tgt := 175) rfl ?_
              exact hp_lf [1, 2, 3, 4] rfl (fun _ e => e)
      · refine hp_GW hm (at1 18 rfl) (L' := [(0, (.ref 182)), (1, (.int x1)), (4, (.long x3)), (6, (.long v1))]) rfl (fun hP => (by exact ⟨og_182, hP⟩)) (pc' := 178) rfl (fun q21 h1 => ?_)
        refine hp_G hm (at1 19 rfl) (L' := [(0, (.ref 182)), (1, (.int x1)), (4, (.long x3)), (6, (.long v1))]) (st' := [(.int (lg_cmp (Int32.toInt64 (rdI h1 184 (Int32.toNatClampNeg x1))) x3))]) rfl (fun hP => (by exact ⟨og_182, ⟨og_184, hP⟩⟩)) (pc' := 188) rfl (fun q22 => ?_)
        refine hp_J 209 (fun (p23 : Int32) => [(0, (.ref 182)), (1, (.int x1)), (4, (.long x3)), (6, (.long v1))]) (fun (p23 : Int32) => [(.int p23)]) (fun (p23 : Int32) => h1) ?_ (fun p23 => ?_)
        · refine hp_lc_gt hm at0 rfl (by exact trivial) (pc' := 188) rfl 16 rfl (tgt := 208) rfl (fun c26 => ?_) (fun c26 => ?_)
          · refine hp_b hm (at1 20 rfl) (L' := [(0, (.ref 182)), (1, (.int x1)), (4, (.long x3)), (6, (.long v1))]) (st' := [(.int (0 : Int32))]) rfl (by exact trivial) (pc' := 209) rfl ?_
            exact hp_lf [0, 1, 2, 3] rfl (fun _ e => e)
          · refine hp_G hm (at1 21 rfl) (L' := [(0, (.ref 182)), (1, (.int x1)), (4, (.long x3)), (6, (.long v1))]) (st' := [(.int (lg_cmp x3 (Int32.toInt64 (rdI h1 188 (Int32.toNatClampNeg x1)))))]) rfl (fun hP => (by exact ⟨og_182, ⟨og_188, hP⟩⟩)) (pc' := 201) rfl (fun q24 => ?_)
            refine hp_lc_ge hm at0 rfl (by exact trivial) (pc' := 201) rfl 15 rfl (tgt := 208) rfl (fun c25 => ?_) (fun c25 => ?_)
            · refine hp_b hm (at1 20 rfl) (L' := [(0, (.ref 182)), (1, (.int x1)), (4, (.long x3)), (6, (.long v1))]) (st' := [(.int (0 : Int32))]) rfl (by exact trivial) (pc' := 209) rfl ?_
              exact hp_lf [0, 1, 2, 3] rfl (fun _ e => e)
            · refine hp_b hm (at1 22 rfl) (L' := [(0, (.ref 182)), (1, (.int x1)), (4, (.long x3)), (6, (.long v1))]) (st' := [(.int (1 : Int32))]) rfl (by exact trivial) (pc' := 205) rfl ?_
              refine hp_goto hm 14 rfl (tgt := 209) rfl ?_
              exact hp_lf [0, 1, 2, 3] rfl (fun _ e => e)
        · refine hp_G hm (at1 23 rfl) (L' := [(10, (.int p23)), (0, (.ref 182)), (1, (.int x1)), (4, (.long x3)), (6, (.long v1))]) (st' := [(.int (lg_cmp (Int32.toInt64 (rdI h1 188 (Int32.toNatClampNeg x1))) x3))]) rfl (fun hP => (by exact ⟨og_182, ⟨og_188, hP⟩⟩)) (pc' := 221) rfl (fun q27 => ?_)
          refine hp_J 242 (fun (p28 : Int32) => [(6, (.long v1)), (10, (.int p23))]) (fun (p28 : Int32) => [(.int p28)]) (fun (p28 : Int32) => h1) ?_ (fun p28 => ?_)
          · refine hp_lc_gt hm at0 rfl (by exact trivial) (pc' := 221) rfl 19 rfl (tgt := 241) rfl (fun c31 => ?_) (fun c31 => ?_)
            · refine hp_b hm (at1 24 rfl) (L' := [(10, (.int p23)), (0, (.ref 182)), (1, (.int x1)), (4, (.long x3)), (6, (.long v1))]) (st' := [(.int (0 : Int32))]) rfl (by exact trivial) (pc' := 242) rfl ?_
              exact hp_lf [4, 0] rfl (fun _ e => e)
            · refine hp_G hm (at1 25 rfl) (L' := [(10, (.int p23)), (0, (.ref 182)), (1, (.int x1)), (4, (.long x3)), (6, (.long v1))]) (st' := [(.int (lg_cmp x3 (Int32.toInt64 (rdI h1 184 (Int32.toNatClampNeg x1)))))]) rfl (fun hP => (by exact ⟨og_182, ⟨og_184, hP⟩⟩)) (pc' := 234) rfl (fun q29 => ?_)
              refine hp_lc_ge hm at0 rfl (by exact trivial) (pc' := 234) rfl 18 rfl (tgt := 241) rfl (fun c30 => ?_) (fun c30 => ?_)
              · refine hp_b hm (at1 24 rfl) (L' := [(10, (.int p23)), (0, (.ref 182)), (1, (.int x1)), (4, (.long x3)), (6, (.long v1))]) (st' := [(.int (0 : Int32))]) rfl (by exact trivial) (pc' := 242) rfl ?_
                exact hp_lf [4, 0] rfl (fun _ e => e)
              · refine hp_b hm (at1 26 rfl) (L' := [(10, (.int p23)), (0, (.ref 182)), (1, (.int x1)), (4, (.long x3)), (6, (.long v1))]) (st' := [(.int (1 : Int32))]) rfl (by exact trivial) (pc' := 238) rfl ?_
                refine hp_goto hm 17 rfl (tgt := 242) rfl ?_
                exact hp_lf [4, 0] rfl (fun _ e => e)
          · refine hp_b hm (at1 27 rfl) (L' := [(11, (.int p28)), (6, (.long v1)), (10, (.int p23))]) (st' := [(.int p23)]) rfl (by exact trivial) (pc' := 246) rfl ?_
            refine hp_cI (L0 := [(11, (.int p28)), (6, (.long v1)), (10, (.int p23))]) (s0 := []) 260 256 ?_ (fun c36 => ?_) (fun c36 => ?_)
            · refine hp_or ?_
              refine hp_if_eq hm at0 rfl (by exact trivial) (pc' := 246) rfl 21 rfl (tgt := 260) rfl (fun c35 => ?_) (fun c35 => ?_)
              · exact hp_l0 (fun _ e => e)
              · refine hp_dec ?_
                refine hp_lc_le hm (at1 28 rfl) rfl (by exact trivial) (pc' := 253) rfl 20 rfl (tgt := 260) rfl (fun c34 => ?_) (fun c34 => ?_)
                · exact hp_l0 (fun _ e => e)
                · exact hp_l0 (fun _ e => e)
            · refine hp_if_eq hm (at1 29 rfl) rfl (by exact trivial) (pc' := 262) rfl 25 rfl (tgt := 276) rfl (fun c38 => ?_) (fun c38 => ?_)
              · refine hp_b hm (at1 30 rfl) (L' := [(11, (.int p28)), (6, (.long v1)), (10, (.int p23))]) (st' := [(.int (0 : Int32))]) rfl (by exact trivial) (pc' := 277) rfl ?_
                exact hp_ir hm at0 rfl (by exact trivial) (pc' := 277) rfl 22 rfl rfl (vp_nar_int _) (fun _ e => e)
              · refine hp_lc_ge hm (at1 31 rfl) rfl (by exact trivial) (pc' := 269) rfl 24 rfl (tgt := 276) rfl (fun c37 => ?_) (fun c37 => ?_)
                · refine hp_b hm (at1 30 rfl) (L' := [(11, (.int p28)), (6, (.long v1)), (10, (.int p23))]) (st' := [(.int (0 : Int32))]) rfl (by exact trivial) (pc' := 277) rfl ?_
                  exact hp_ir hm at0 rfl (by exact trivial) (pc' := 277) rfl 22 rfl rfl (vp_nar_int _) (fun _ e => e)
                · refine hp_b hm (at1 32 rfl) (L' := [(11, (.int p28)), (6, (.long v1)), (10, (.int p23))]) (st' := [(.int (-1 : Int32))]) rfl (by exact trivial) (pc' := 273) rfl ?_
                  refine hp_goto hm 23 rfl (tgt := 277) rfl ?_
                  exact hp_ir hm at0 rfl (by exact trivial) (pc' := 277) rfl 22 rfl rfl (vp_nar_int _) (fun _ e => e)
            · refine hp_b hm (at1 33 rfl) (L' := [(11, (.int p28)), (6, (.long v1)), (10, (.int p23))]) (st' := [(.int (1 : Int32))]) rfl (by exact trivial) (pc' := 257) rfl ?_
              refine hp_goto hm 26 rfl (tgt := 277) rfl ?_
              exact hp_ir hm at0 rfl (by exact trivial) (pc' := 277) rfl 22 rfl rfl (vp_nar_int _) (fun _ e => e)
/-! HintHouse.signOf(J)I -/
def M_HH_signOf : hM := (0, ⟨"HintHouse", "signOf", "(J)I"⟩, prog_1_method_4_code, 2, (Option.some Jvm.ClassFile.FieldType.int), [], [(0, [(.lload_n 0, 1, 0, 0, 0, .null), (.lconst 0, 1, 0, 0, 0, (.long (0 : Int64))), (.lcmp, 1, 0, 0, 0, .null)]), (10, [(.lload_n 0, 1, 0, 0, 0, .null), (.lconst 0, 1, 0, 0, 0, (.long (0 : Int64))), (.lcmp, 1, 0, 0, 0, .null)]), (20, [(.iconst 0, 1, 0, 0, 0, (.int (0 : Int32)))]), (16, [(.iconst (-1), 1, 0, 0, 0, (.int (-1 : Int32)))]), (6, [(.iconst 1, 1, 0, 0, 0, (.int (1 : Int32)))])], [(21, .ireturn, 1), (17, .goto 4, 3), (13, .ifCond .ge 7, 3), (7, .goto 14, 3), (3, .ifCond .le 7, 3)])
set_option maxRecDepth 100000 in
theorem m_HH_signOf : hx_mok M_HH_signOf = true := by decide +kernel
theorem pd_HH_signOf : (parseMethodDescriptor M_HH_signOf.2.1.desc).map (fun q => q.parameters.length) = some 1 := by decide +kernel
theorem y_HH_signOf : hx_okS M_HH_signOf := ⟨⟨lw_g (lw_at lw_m7 154 rfl) rfl, lw_g (lw_at lw_m7 153 rfl) rfl, lw_g (lw_at lw_m1 1 rfl) rfl, by decide, by decide⟩, rfl, by decide, plainFor_of_name (by decide), rfl⟩
noncomputable def f_HH_signOf (x1 : Int64) : Option Int32 :=
  if x1 ≤ (0 : Int64) then (
    if (0 : Int64) ≤ x1 then (
      some (0 : Int32)
    ) else (
      some (-1 : Int32)
    )
  ) else (
    some (1 : Int32)
  )
set_option maxRecDepth 20000 in
theorem k_HH_signOf (x1 : Int64) (h : hH) : hx_kP S0 M_HH_signOf 1 NT [(.long x1)] h (f_HH_signOf x1) cvI := by
  have hm := m_HH_signOf
  show hx_P S0 M_HH_signOf 1 0 [(0, (.long x1))] [] NT h (f_HH_signOf x1) (hx_Rp cvI NT h)
  unfold f_HH_signOf
  refine hp_lc_le hm (at1 0 rfl) rfl (by exact trivial) (pc' := 3) rfl 4 rfl (tgt := 10) rfl (fun c2 => ?_) (fun c2 => ?_)
  · refine hp_lc_ge hm (at1 1 rfl) rfl (by exact trivial) (pc' := 13) rfl 2 rfl (tgt := 20) rfl (fun c1 => ?_) (fun c1 => ?_)
    · refine hp_b hm (at1 2 rfl) (L' := [(0, (.long x1))]) (st' := [(.int (0 : Int32))]) rfl (by exact trivial) (pc' := 21) rfl ?_
      exact hp_ir hm at0 rfl (by exact trivial) (pc' := 21) rfl 0 rfl rfl (vp_nar_int _) (fun _ e => e)
    · refine hp_b hm (at1 3 rfl) (L' := [(0, (.long x1))]) (st' := [(.int (-1 : Int32))]) rfl (by exact trivial) (pc' := 17) rfl ?_
      refine hp_goto hm 1 rfl (tgt := 21) rfl ?_
      exact hp_ir hm at0 rfl (by exact trivial) (pc' := 21) rfl 0 rfl rfl (vp_nar_int _) (fun _ e => e)
  · refine hp_b hm (at1 4 rfl) (L' := [(0, (.long x1))]) (st' := [(.int (1 : Int32))]) rfl (by exact trivial) (pc' := 7) rfl ?_
    refine hp_goto hm 3 rfl (tgt := 21) rfl ?_
    exact hp_ir hm at0 rfl (by exact trivial) (pc' := 21) rfl 0 rfl rfl (vp_nar_int _) (fun _ e => e)
/-! HintHouse$Inside.reaches()Z -/
def M_In_reaches : hM := (10, ⟨"HintHouse$Inside", "reaches", "()Z"⟩, prog_5_method_9_code, 4, (Option.some Jvm.ClassFile.FieldType.boolean), [], [(0, [(.aload_n 0, 1, 0, 0, 0, .null), (.getfield 118, 3, 10, 17, 2, .null), (.ldc2_w 106, 3, 0, 0, 0, (.long (2 : Int64))), (.aload_n 0, 1, 0, 0, 0, .null), (.getfield 121, 3, 10, 18, 2, .null), (.lmul, 1, 0, 0, 0, .null), (.ladd, 1, 0, 0, 0, .null), (.aload_n 0, 1, 0, 0, 0, .null), (.getfield 124, 3, 10, 19, 2, .null), (.ladd, 1, 0, 0, 0, .null), (.lstore_n 1, 1, 0, 0, 0, .null)]), (19, [(.aload_n 0, 1, 0, 0, 0, .null), (.getfield 124, 3, 10, 19, 2, .null)]), (26, [(.lload_n 1, 1, 0, 0, 0, .null)]), (30, [(.imul, 1, 0, 0, 0, .null)]), (36, [(.aload_n 0, 1, 0, 0, 0, .null), (.getfield 118, 3, 10, 17, 2, .null), (.lconst 0, 1, 0, 0, 0, (.long (0 : Int64))), (.lcmp, 1, 0, 0, 0, .null)]), (85, [(.iconst 0, 1, 0, 0, 0, (.int (0 : Int32)))]), (45, [(.aload_n 0, 1, 0, 0, 0, .null), (.getfield 118, 3, 10, 17, 2, .null)]), (52, [(.aload_n 0, 1, 0, 0, 0, .null), (.getfield 121, 3, 10, 18, 2, .null)]), (59, [(.ineg, 1, 0, 0, 0, .null)]), (63, [(.aload_n 0, 1, 0, 0, 0, .null), (.getfield 121, 3, 10, 18, 2, .null)]), (70, [(.aload_n 0, 1, 0, 0, 0, .null), (.getfield 118, 3, 10, 17, 2, .null)]), (77, [(.lcmp, 1, 0, 0, 0, .null)]), (81, [(.iconst 1, 1, 0, 0, 0, (.int (1 : Int32)))]), (86, [(.istore_n 3, 1, 0, 0, 0, .null), (.iload_n 3, 1, 0, 0, 0, .null)]), (136, [(.iconst 0, 1, 0, 0, 0, (.int (0 : Int32)))]), (91, [(.aload_n 0, 1, 0, 0, 0, .null), (.getfield 124, 3, 10, 19, 2, .null), (.aload_n 0, 1, 0, 0, 0, .null), (.getfield 118, 3, 10, 17, 2, .null), (.lmul, 1, 0, 0, 0, .null), (.aload_n 0, 1, 0, 0, 0, .null), (.getfield 121, 3, 10, 18, 2, .null), (.aload_n 0, 1, 0, 0, 0, .null), (.getfield 121, 3, 10, 18, 2, .null), (.lmul, 1, 0, 0, 0, .null), (.lsub, 1, 0, 0, 0, .null)]), (113, [(.aload_n 0, 1, 0, 0, 0, .null), (.getfield 118, 3, 10, 17, 2, .null)]), (120, [(.imul, 1, 0, 0, 0, .null), (.aload_n 0, 1, 0, 0, 0, .null), (.getfield 124, 3, 10, 19, 2, .null)]), (128, [(.imul, 1, 0, 0, 0, .null)]), (132, [(.iconst 1, 1, 0, 0, 0, (.int (1 : Int32)))]), (34, [(.iconst 1, 1, 0, 0, 0, (.int (1 : Int32)))])], [(23, .invokestatic 131, 3), (27, .invokestatic 131, 3), (49, .invokestatic 131, 3), (56, .invokestatic 131, 3), (67, .invokestatic 135, 3), (74, .invokestatic 135, 3), (82, .goto 4, 3), (78, .ifCond .ge 7, 3), (60, .if_icmp .ne 25, 3), (42, .ifCond .eq 43, 3), (137, .ireturn, 1), (110, .invokestatic 131, 3), (117, .invokestatic 131, 3), (125, .invokestatic 131, 3), (133, .goto 4, 3), (129, .ifCond .gt 7, 3), (88, .ifCond .eq 48, 3), (35, .ireturn, 1), (31, .ifCond .gt 5, 3)])
set_option maxRecDepth 100000 in
theorem m_In_reaches : hx_mok M_In_reaches = true := by decide +kernel
theorem pd_In_reaches : (parseMethodDescriptor M_In_reaches.2.1.desc).map (fun q => q.parameters.length) = some 0 := by decide +kernel
theorem y_In_reaches : hx_okV M_In_reaches := ⟨⟨lw_g (lw_at lw_m7 151 rfl) rfl, lw_g (lw_at lw_m7 150 rfl) rfl, qs114, lw_g (lw_at lw_m1 11 rfl) rfl, rfl, by decide, by decide, by decide⟩, rfl, by decide, plainFor_of_name (by decide)⟩
noncomputable def f_In_reaches (h : hH) : Option Int32 :=
  lz (A := Int64) (((rdL h 182 17) + ((2 : Int64) * (rdL h 182 18))) + (rdL h 182 19)) fun v1 =>
  bP (f_HH_signOf (rdL h 182 19)) fun a2 =>
  bP (f_HH_signOf v1) fun a3 =>
  if 0 < (a2 * a3) then (
    bP (A := Int32) (
      if (rdL h 182 17) = (0 : Int64) then (
        some (0 : Int32)
      ) else (
        bP (f_HH_signOf (rdL h 182 17)) fun a5 =>
        bP (f_HH_signOf (rdL h 182 18)) fun a6 =>
        if a5 = (-a6) then (
          bP (f_JM_abs (rdL h 182 18)) fun a7 =>
          bP (f_JM_abs (rdL h 182 17)) fun a8 =>
          if a8 ≤ a7 then (
            some (0 : Int32)
          ) else (
            some (1 : Int32)
          )
        ) else (
          some (0 : Int32)
        )
      )
    ) fun p4 =>
    if p4 = 0 then (
      some (0 : Int32)
    ) else (
      bP (f_HH_signOf (((rdL h 182 19) * (rdL h 182 17)) - ((rdL h 182 18) * (rdL h 182 18)))) fun a12 =>
      bP (f_HH_signOf (rdL h 182 17)) fun a13 =>
      bP (f_HH_signOf (rdL h 182 19)) fun a14 =>
      if 0 < ((a12 * a13) * a14) then (
        some (0 : Int32)
      ) else (
        some (1 : Int32)
      )
    )
  ) else (
    some (1 : Int32)
  )
set_option maxRecDepth 20000 in
theorem k_In_reaches (h : hH) : hx_kP S0 M_In_reaches 2 NT [(.ref 182)] h (f_In_reaches h) cvI := by
  have hm := m_In_reaches
  show hx_P S0 M_In_reaches 2 0 [(0, (.ref 182))] [] NT h (f_In_reaches h) (hx_Rp cvI NT h)
  unfold f_In_reaches
  refine hp_z hm (at1 0 rfl) (fun (v1 : Int64) => [(1, (.long v1)), (0, (.ref 182))]) (fun (v1 : Int64) => []) rfl (by exact ⟨⟨og_182, og_182⟩, og_182⟩) (pc' := 19) rfl (fun v1 => ?_)
  refine hp_cNP (M2 := M_HH_signOf) hm (at1 1 rfl) (as := [(.long (rdL h 182 19))]) (rest := []) rfl (by exact og_182) (pc' := 23) rfl 0 rfl (hmn_10_131) y_HH_signOf rfl (d2 := 1) ⟨le_b rfl, pd_HH_signOf, le_b rfl⟩ (le_b rfl) (k_HH_signOf (rdL h 182 19) h) (fun a2 => ?_)
  refine hp_cNP (M2 := M_HH_signOf) hm (at1 2 rfl) (as := [(.long v1)]) (rest := [(.int a2)]) rfl (by exact trivial) (pc' := 27) rfl 1 rfl (hmn_10_131) y_HH_signOf rfl (d2 := 1) ⟨le_b rfl, pd_HH_signOf, le_b rfl⟩ (le_b rfl) (k_HH_signOf v1 h) (fun a3 => ?_)
  refine hp_if_gt hm (at1 3 rfl) rfl (by exact trivial) (pc' := 31) rfl 18 rfl (tgt := 36) rfl (fun c17 => ?_) (fun c17 => ?_)
  · refine hp_J 86 (fun (p4 : Int32) => [(0, (.ref 182))]) (fun (p4 : Int32) => [(.int p4)]) (fun (p4 : Int32) => h) ?_ (fun p4 => ?_)
    · refine hp_lc_eq hm (at1 4 rfl) rfl (by exact og_182) (pc' := 42) rfl 9 rfl (tgt := 85) rfl (fun c11 => ?_) (fun c11 => ?_)
      · refine hp_b hm (at1 5 rfl) (L' := [(1, (.long v1)), (0, (.ref 182))]) (st' := [(.int (0 : Int32))]) rfl (by exact trivial) (pc' := 86) rfl ?_
        exact hp_lf [1] rfl (fun _ e => e)
      · refine hp_cNP (M2 := M_HH_signOf) hm (at1 6 rfl) (as := [(.long (rdL h 182 17))]) (rest := []) rfl (by exact og_182) (pc' := 49) rfl 2 rfl (hmn_10_131) y_HH_signOf rfl (d2 := 1) ⟨le_b rfl, pd_HH_signOf, le_b rfl⟩ (le_b rfl) (k_HH_signOf (rdL h 182 17) h) (fun a5 => ?_)
        refine hp_cNP (M2 := M_HH_signOf) hm (at1 7 rfl) (as := [(.long (rdL h 182 18))]) (rest := [(.int a5)]) rfl (by exact og_182) (pc' := 56) rfl 3 rfl (hmn_10_131) y_HH_signOf rfl (d2 := 1) ⟨le_b rfl, pd_HH_signOf, le_b rfl⟩ (le_b rfl) (k_HH_signOf (rdL h 182 18) h) (fun a6 => ?_)
        refine hp_ic_ne hm (at1 8 rfl) rfl (by exact trivial) (pc' := 60) rfl 8 rfl (tgt := 85) rfl (fun c10 => ?_) (fun c10 => ?_)
        · refine hp_b hm (at1 5 rfl) (L' := [(1, (.long v1)), (0, (.ref 182))]) (st' := [(.int (0 : Int32))]) rfl (by exact trivial) (pc' := 86) rfl ?_
          exact hp_lf [1] rfl (fun _ e => e)
        · refine hp_cSP (M2 := M_JM_abs) hm (at1 9 rfl) (as := [(.long (rdL h 182 18))]) (rest := []) rfl (by exact og_182) (pc' := 67) rfl 4 rfl (lw_g (lw_at lw_m7 155 rfl) rfl) y_JM_abs rfl (d2 := 1) ⟨le_b rfl, pd_JM_abs, le_b rfl⟩ (le_b rfl) (k_JM_abs (rdL h 182 18) h) (fun a7 => ?_)
          refine hp_cSP (M2 := M_JM_abs) hm (at1 10 rfl) (as := [(.long (rdL h 182 17))]) (rest := [(.long a7)]) rfl (by exact og_182) (pc' := 74) rfl 5 rfl (lw_g (lw_at lw_m7 155 rfl) rfl) y_JM_abs rfl (d2 := 1) ⟨le_b rfl, pd_JM_abs, le_b rfl⟩ (le_b rfl) (k_JM_abs (rdL h 182 17) h) (fun a8 => ?_)
          refine hp_lc_ge hm (at1 11 rfl) rfl (by exact trivial) (pc' := 78) rfl 7 rfl (tgt := 85) rfl (fun c9 => ?_) (fun c9 => ?_)
          · refine hp_b hm (at1 5 rfl) (L' := [(1, (.long v1)), (0, (.ref 182))]) (st' := [(.int (0 : Int32))]) rfl (by exact trivial) (pc' := 86) rfl ?_
            exact hp_lf [1] rfl (fun _ e => e)
          · refine hp_b hm (at1 12 rfl) (L' := [(1, (.long v1)), (0, (.ref 182))]) (st' := [(.int (1 : Int32))]) rfl (by exact trivial) (pc' := 82) rfl ?_
            refine hp_goto hm 6 rfl (tgt := 86) rfl ?_
            exact hp_lf [1] rfl (fun _ e => e)
    · refine hp_b hm (at1 13 rfl) (L' := [(3, (.int p4)), (0, (.ref 182))]) (st' := [(.int p4)]) rfl (by exact trivial) (pc' := 88) rfl ?_
      refine hp_if_eq hm at0 rfl (by exact trivial) (pc' := 88) rfl 16 rfl (tgt := 136) rfl (fun c16 => ?_) (fun c16 => ?_)
      · refine hp_b hm (at1 14 rfl) (L' := [(3, (.int p4)), (0, (.ref 182))]) (st' := [(.int (0 : Int32))]) rfl (by exact trivial) (pc' := 137) rfl ?_
        exact hp_ir hm at0 rfl (by exact trivial) (pc' := 137) rfl 10 rfl rfl rfl (fun _ e => e)
      · refine hp_cNP (M2 := M_HH_signOf) hm (at1 15 rfl) (as := [(.long (((rdL h 182 19) * (rdL h 182 17)) - ((rdL h 182 18) * (rdL h 182 18))))]) (rest := []) rfl (by exact ⟨⟨⟨og_182, og_182⟩, og_182⟩, og_182⟩) (pc' := 110) rfl 11 rfl (hmn_10_131) y_HH_signOf rfl (d2 := 1) ⟨le_b rfl, pd_HH_signOf, le_b rfl⟩ (le_b rfl) (k_HH_signOf (((rdL h 182 19) * (rdL h 182 17)) - ((rdL h 182 18) * (rdL h 182 18))) h) (fun a12 => ?_)
        refine hp_cNP (M2 := M_HH_signOf) hm (at1 16 rfl) (as := [(.long (rdL h 182 17))]) (rest := [(.int a12)]) rfl (by exact og_182) (pc' := 117) rfl 12 rfl (hmn_10_131) y_HH_signOf rfl (d2 := 1) ⟨le_b rfl, pd_HH_signOf, le_b rfl⟩ (le_b rfl) (k_HH_signOf (rdL h 182 17) h) (fun a13 => ?_)
        refine hp_cNP (M2 := M_HH_signOf) hm (at1 17 rfl) (as := [(.long (rdL h 182 19))]) (rest := [(.int (a12 * a13))]) rfl (by exact og_182) (pc' := 125) rfl 13 rfl (hmn_10_131) y_HH_signOf rfl (d2 := 1) ⟨le_b rfl, pd_HH_signOf, le_b rfl⟩ (le_b rfl) (k_HH_signOf (rdL h 182 19) h) (fun a14 => ?_)
        refine hp_if_gt hm (at1 18 rfl) rfl (by exact trivial) (pc' := 129) rfl 15 rfl (tgt := 136) rfl (fun c15 => ?_) (fun c15 => ?_)
        · refine hp_b hm (at1 14 rfl) (L' := [(3, (.int p4)), (0, (.ref 182))]) (st' := [(.int (0 : Int32))]) rfl (by exact trivial) (pc' := 137) rfl ?_
          exact hp_ir hm at0 rfl (by exact trivial) (pc' := 137) rfl 10 rfl rfl rfl (fun _ e => e)
        · refine hp_b hm (at1 19 rfl) (L' := [(3, (.int p4)), (0, (.ref 182))]) (st' := [(.int (1 : Int32))]) rfl (by exact trivial) (pc' := 133) rfl ?_
          refine hp_goto hm 14 rfl (tgt := 137) rfl ?_
          exact hp_ir hm at0 rfl (by exact trivial) (pc' := 137) rfl 10 rfl rfl rfl (fun _ e => e)
  · exact hp_ir hm (at1 20 rfl) rfl (by exact trivial) (pc' := 35) rfl 17 rfl rfl rfl (fun _ e => e)
/-! HintHouse$Inside.lineSide()I -/
def M_In_lineSide : hM := (10, ⟨"HintHouse$Inside", "lineSide", "()I"⟩, prog_5_method_11_code, 1, (Option.some Jvm.ClassFile.FieldType.int), [], [(0, [(.aload_n 0, 1, 0, 0, 0, .null), (.getfield 118, 3, 10, 17, 2, .null), (.aload_n 0, 1, 0, 0, 0, .null), (.getfield 115, 3, 10, 16, 2, .null), (.lmul, 1, 0, 0, 0, .null), (.aload_n 0, 1, 0, 0, 0, .null), (.getfield 115, 3, 10, 16, 2, .null), (.lmul, 1, 0, 0, 0, .null), (.ldc2_w 151, 3, 0, 0, 0, (.long (4 : Int64))), (.aload_n 0, 1, 0, 0, 0, .null), (.getfield 112, 3, 10, 15, 2, .null), (.lmul, 1, 0, 0, 0, .null), (.aload_n 0, 1, 0, 0, 0, .null), (.getfield 121, 3, 10, 18, 2, .null), (.lmul, 1, 0, 0, 0, .null), (.aload_n 0, 1, 0, 0, 0, .null), (.getfield 115, 3, 10, 16, 2, .null), (.lmul, 1, 0, 0, 0, .null), (.lsub, 1, 0, 0, 0, .null), (.ldc2_w 151, 3, 0, 0, 0, (.long (4 : Int64))), (.aload_n 0, 1, 0, 0, 0, .null), (.getfield 112, 3, 10, 15, 2, .null), (.lmul, 1, 0, 0, 0, .null), (.aload_n 0, 1, 0, 0, 0, .null), (.getfield 112, 3, 10, 15, 2, .null), (.lmul, 1, 0, 0, 0, .null), (.aload_n 0, 1, 0, 0, 0, .null), (.getfield 124, 3, 10, 19, 2, .null), (.lmul, 1, 0, 0, 0, .null), (.ladd, 1, 0, 0, 0, .null)])], [(52, .invokestatic 131, 3), (55, .ireturn, 1)])
set_option maxRecDepth 100000 in
theorem m_In_lineSide : hx_mok M_In_lineSide = true := by decide +kernel
theorem pd_In_lineSide : (parseMethodDescriptor M_In_lineSide.2.1.desc).map (fun q => q.parameters.length) = some 0 := by decide +kernel
theorem y_In_lineSide : hx_okV M_In_lineSide := ⟨⟨lw_g (lw_at lw_m7 163 rfl) rfl, lw_g (lw_at lw_m7 162 rfl) rfl, qs116, lw_g (lw_at lw_m1 11 rfl) rfl, rfl, by decide, by decide, by decide⟩, rfl, by decide, plainFor_of_name (by decide)⟩
noncomputable def f_In_lineSide (h : hH) : Option Int32 :=
  bP (f_HH_signOf (((((rdL h 182 17) * (rdL h 182 16)) * (rdL h 182 16)) - ((((4 : Int64) * (rdL h 182 15)) * (rdL h 182 18)) * (rdL h 182 16))) + ((((4 : Int64) * (rdL h 182 15)) * (rdL h 182 15)) * (rdL h 182 19)))) fun a1 =>
  some a1
set_option maxRecDepth 20000 in
theorem k_In_lineSide (h : hH) : hx_kP S0 M_In_lineSide 2 NT [(.ref 182)] h (f_In_lineSide h) cvI := by
  have hm := m_In_lineSide
  show hx_P S0 M_In_lineSide 2 0 [(0, (.ref 182))] [] NT h (f_In_lineSide h) (hx_Rp cvI NT h)
  unfold f_In_lineSide
  refine hp_cNP (M2 := M_HH_signOf) hm (at1 0 rfl) (as := [(.long (((((rdL h 182 17) * (rdL h 182 16)) * (rdL h 182 16)) - ((((4 : Int64) * (rdL h 182 15)) * (rdL h 182 18)) * (rdL h 182 16))) + ((((4 : Int64) * (rdL h 182 15)) * (rdL h 182 15)) * (rdL h 182 19))))]) (rest := []) rfl (by exact ⟨⟨⟨⟨⟨⟨⟨⟨og_182, og_182⟩, og_182⟩, og_182⟩, og_182⟩, og_182⟩, og_182⟩, og_182⟩, og_182⟩) (pc' := 52) rfl 0 rfl (hmn_10_131) y_HH_signOf rfl (d2 := 1) ⟨le_b rfl, pd_HH_signOf, le_b rfl⟩ (le_b rfl) (k_HH_signOf (((((rdL h 182 17) * (rdL h 182 16)) * (rdL h 182 16)) - ((((4 : Int64) * (rdL h 182 15)) * (rdL h 182 18)) * (rdL h 182 16))) + ((((4 : Int64) * (rdL h 182 15)) * (rdL h 182 15)) * (rdL h 182 19))) h) (fun a1 => ?_)
  exact hp_ir hm at0 rfl (by exact trivial) (pc' := 55) rfl 1 rfl rfl (vp_nar_int _) (fun _ e => e)
/-! HintHouse$Inside.compare(JJI)I -/
def M_In_compare : hM := (10, ⟨"HintHouse$Inside", "compare", "(JJI)I"⟩, prog_5_method_13_code, 6, (Option.some Jvm.ClassFile.FieldType.int), [], [(0, [(.iload 5, 2, 0, 0, 0, .null)]), (16, [(.iload 5, 2, 0, 0, 0, .null), (.iconst 1, 1, 0, 0, 0, (.int (1 : Int32)))]), (35, [(.aload_n 0, 1, 0, 0, 0, .null), (.getfield 112, 3, 10, 15, 2, .null), (.lload_n 1, 1, 0, 0, 0, .null), (.lmul, 1, 0, 0, 0, .null), (.lload_n 3, 1, 0, 0, 0, .null), (.aload_n 0, 1, 0, 0, 0, .null), (.getfield 108, 3, 10, 14, 2, .null), (.lmul, 1, 0, 0, 0, .null), (.lsub, 1, 0, 0, 0, .null)]), (51, [(.aload_n 0, 1, 0, 0, 0, .null), (.getfield 108, 3, 10, 14, 2, .null)]), (58, [(.imul, 1, 0, 0, 0, .null), (.lload_n 1, 1, 0, 0, 0, .null)]), (63, [(.imul, 1, 0, 0, 0, .null)]), (22, [(.lload_n 3, 1, 0, 0, 0, .null), (.lload_n 1, 1, 0, 0, 0, .null), (.ladd, 1, 0, 0, 0, .null)]), (28, [(.ineg, 1, 0, 0, 0, .null), (.lload_n 1, 1, 0, 0, 0, .null)]), (33, [(.imul, 1, 0, 0, 0, .null)]), (5, [(.lload_n 3, 1, 0, 0, 0, .null)]), (9, [(.ineg, 1, 0, 0, 0, .null), (.lload_n 1, 1, 0, 0, 0, .null)]), (14, [(.imul, 1, 0, 0, 0, .null)])], [(48, .invokestatic 131, 3), (55, .invokestatic 131, 3), (60, .invokestatic 131, 3), (64, .ireturn, 1), (25, .invokestatic 131, 3), (30, .invokestatic 131, 3), (34, .ireturn, 1), (19, .if_icmp .ne 16, 3), (6, .invokestatic 131, 3), (11, .invokestatic 131, 3), (15, .ireturn, 1), (2, .ifCond .ne 14, 3)])
set_option maxRecDepth 100000 in
theorem m_In_compare : hx_mok M_In_compare = true := by decide +kernel
theorem pd_In_compare : (parseMethodDescriptor M_In_compare.2.1.desc).map (fun q => q.parameters.length) = some 3 := by decide +kernel
theorem y_In_compare : hx_okV M_In_compare := ⟨⟨lw_g (lw_at lw_m7 172 rfl) rfl, lw_g (lw_at lw_m7 171 rfl) rfl, qs118, lw_g (lw_at lw_m1 11 rfl) rfl, rfl, by decide, by decide, by decide⟩, rfl, by decide, plainFor_of_name (by decide)⟩
noncomputable def f_In_compare (x1 : Int64) (x2 : Int64) (x3 : Int32) (h : hH) : Option Int32 :=
  if x3 = 0 then (
    bP (f_HH_signOf x2) fun a7 =>
    bP (f_HH_signOf x1) fun a8 =>
    some ((-a7) * a8)
  ) else (
    if x3 = (1 : Int32) then (
      bP (f_HH_signOf (x2 + x1)) fun a4 =>
      bP (f_HH_signOf x1) fun a5 =>
      some ((-a4) * a5)
    ) else (
      bP (f_HH_signOf (((rdL h 182 15) * x1) - (x2 * (rdL h 182 14)))) fun a1 =>
      bP (f_HH_signOf (rdL h 182 14)) fun a2 =>
      bP (f_HH_signOf x1) fun a3 =>
      some ((a1 * a2) * a3)
    )
  )
set_option maxRecDepth 20000 in
theorem k_In_compare (x1 : Int64) (x2 : Int64) (x3 : Int32) (h : hH) : hx_kP S0 M_In_compare 2 NT [(.ref 182), (.long x1), (.long x2), (.int x3)] h (f_In_compare x1 x2 x3 h) cvI := by
  have hm := m_In_compare
  show hx_P S0 M_In_compare 2 0 [(0, (.ref 182)), (1, (.long x1)), (3, (.long x2)), (5, (.int x3))] [] NT h (f_In_compare x1 x2 x3 h) (hx_Rp cvI NT h)
  unfold f_In_compare
  refine hp_if_ne hm (at1 0 rfl) rfl (by exact trivial) (pc' := 2) rfl 11 rfl (tgt := 16) rfl (fun c9 => ?_) (fun c9 => ?_)
  · refine hp_ic_ne hm (at1 1 rfl) rfl (by exact trivial) (pc' := 19) rfl 7 rfl (tgt := 35) rfl (fun c6 => ?_) (fun c6 => ?_)
    · refine hp_cNP (M2 := M_HH_signOf) hm (at1 2 rfl) (as := [(.long (((rdL h 182 15) * x1) - (x2 * (rdL h 182 14))))]) (rest := []) rfl (by exact ⟨og_182, og_182⟩) (pc' := 48) rfl 0 rfl (hmn_10_131) y_HH_signOf rfl (d2 := 1) ⟨le_b rfl, pd_HH_signOf, le_b rfl⟩ (le_b rfl) (k_HH_signOf (((rdL h 182 15) * x1) - (x2 * (rdL h 182 14))) h) (fun a1 => ?_)
      refine hp_cNP (M2 := M_HH_signOf) hm (at1 3 rfl) (as := [(.long (rdL h 182 14))]) (rest := [(.int a1)]) rfl (by exact og_182) (pc' := 55) rfl 1 rfl (hmn_10_131) y_HH_signOf rfl (d2 := 1) ⟨le_b rfl, pd_HH_signOf, le_b rfl⟩ (le_b rfl) (k_HH_signOf (rdL h 182 14) h) (fun a2 => ?_)
      refine hp_cNP (M2 := M_HH_signOf) hm (at1 4 rfl) (as := [(.long x1)]) (rest := [(.int (a1 * a2))]) rfl (by exact trivial) (pc' := 60) rfl 2 rfl (hmn_10_131) y_HH_signOf rfl (d2 := 1) ⟨le_b rfl, pd_HH_signOf, le_b rfl⟩ (le_b rfl) (k_HH_signOf x1 h) (fun a3 => ?_)
      exact hp_ir hm (at1 5 rfl) rfl (by exact trivial) (pc' := 64) rfl 3 rfl rfl (vp_nar_int _) (fun _ e => e)
    · refine hp_cNP (M2 := M_HH_signOf) hm (at1 6 rfl) (as := [(.long (x2 + x1))]) (rest := []) rfl (by exact trivial) (pc' := 25) rfl 4 rfl (hmn_10_131) y_HH_signOf rfl (d2 := 1) ⟨le_b rfl, pd_HH_signOf, le_b rfl⟩ (le_b rfl) (k_HH_signOf (x2 + x1) h) (fun a4 => ?_)
      refine hp_cNP (M2 := M_HH_signOf) hm (at1 7 rfl) (as := [(.long x1)]) (rest := [(.int (-a4))]) rfl (by exact trivial) (pc' := 30) rfl 5 rfl (hmn_10_131) y_HH_signOf rfl (d2 := 1) ⟨le_b rfl, pd_HH_signOf, le_b rfl⟩ (le_b rfl) (k_HH_signOf x1 h) (fun a5 => ?_)
      exact hp_ir hm (at1 8 rfl) rfl (by exact trivial) (pc' := 34) rfl 6 rfl rfl (vp_nar_int _) (fun _ e => e)
  · refine hp_cNP (M2 := M_HH_signOf) hm (at1 9 rfl) (as := [(.long x2)]) (rest := []) rfl (by exact trivial) (pc' := 6) rfl 8 rfl (hmn_10_131) y_HH_signOf rfl (d2 := 1) ⟨le_b rfl, pd_HH_signOf, le_b rfl⟩ (le_b rfl) (k_HH_signOf x2 h) (fun a7 => ?_)
    refine hp_cNP (M2 := M_HH_signOf) hm (at1 10 rfl) (as := [(.long x1)]) (rest := [(.int (-a7))]) rfl (by exact trivial) (pc' := 11) rfl 9 rfl (hmn_10_131) y_HH_signOf rfl (d2 := 1) ⟨le_b rfl, pd_HH_signOf, le_b rfl⟩ (le_b rfl) (k_HH_signOf x1 h) (fun a8 => ?_)
    exact hp_ir hm (at1 11 rfl) rfl (by exact trivial) (pc' := 15) rfl 10 rfl rfl (vp_nar_int _) (fun _ e => e)
/-! HintHouse$Inside.squares(JJJ)I -/
def M_In_squares : hM := (10, ⟨"HintHouse$Inside", "squares", "(JJJ)I"⟩, prog_5_method_14_code, 12, (Option.some Jvm.ClassFile.FieldType.int), [], [(0, [(.lload_n 0, 1, 0, 0, 0, .null), (.lload 4, 2, 0, 0, 0, .null), (.ldiv, 1, 0, 0, 0, .null), (.lstore 6, 2, 0, 0, 0, .null)]), (6, [(.lload_n 0, 1, 0, 0, 0, .null), (.lload 4, 2, 0, 0, 0, .null), (.lrem, 1, 0, 0, 0, .null), (.lstore 8, 2, 0, 0, 0, .null)]), (12, [(.lload 6, 2, 0, 0, 0, .null), (.ldc2_w 161, 3, 0, 0, 0, (.long (65536 : Int64))), (.lcmp, 1, 0, 0, 0, .null)]), (31, [(.iconst 1, 1, 0, 0, 0, (.int (1 : Int32)))]), (21, [(.lload 6, 2, 0, 0, 0, .null), (.lload 6, 2, 0, 0, 0, .null), (.lmul, 1, 0, 0, 0, .null), (.lload_n 2, 1, 0, 0, 0, .null), (.lcmp, 1, 0, 0, 0, .null)]), (33, [(.lload 6, 2, 0, 0, 0, .null), (.lconst 1, 1, 0, 0, 0, (.long (1 : Int64))), (.ladd, 1, 0, 0, 0, .null), (.lload 6, 2, 0, 0, 0, .null), (.lconst 1, 1, 0, 0, 0, (.long (1 : Int64))), (.ladd, 1, 0, 0, 0, .null), (.lmul, 1, 0, 0, 0, .null), (.lload_n 2, 1, 0, 0, 0, .null), (.lcmp, 1, 0, 0, 0, .null)]), (49, [(.lload_n 2, 1, 0, 0, 0, .null), (.lload 6, 2, 0, 0, 0, .null), (.lload 6, 2, 0, 0, 0, .null), (.lmul, 1, 0, 0, 0, .null), (.lsub, 1, 0, 0, 0, .null), (.lload 4, 2, 0, 0, 0, .null), (.lmul, 1, 0, 0, 0, .null), (.ldc2_w 106, 3, 0, 0, 0, (.long (2 : Int64))), (.lload 6, 2, 0, 0, 0, .null), (.lmul, 1, 0, 0, 0, .null), (.lload 8, 2, 0, 0, 0, .null), (.lmul, 1, 0, 0, 0, .null), (.lsub, 1, 0, 0, 0, .null), (.lstore 10, 2, 0, 0, 0, .null)]), (71, [(.lload 10, 2, 0, 0, 0, .null), (.lconst 0, 1, 0, 0, 0, (.long (0 : Int64))), (.lcmp, 1, 0, 0, 0, .null)]), (80, [(.lload 10, 2, 0, 0, 0, .null), (.lload 8, 2, 0, 0, 0, .null), (.lcmp, 1, 0, 0, 0, .null)]), (101, [(.lload 8, 2, 0, 0, 0, .null), (.lload 8, 2, 0, 0, 0, .null), (.lmul, 1, 0, 0, 0, .null), (.lload 10, 2, 0, 0, 0, .null), (.lload 4, 2, 0, 0, 0, .null), (.lmul, 1, 0, 0, 0, .null), (.lsub, 1, 0, 0, 0, .null)]), (88, [(.lload 10, 2, 0, 0, 0, .null), (.lconst 0, 1, 0, 0, 0, (.long (0 : Int64))), (.lcmp, 1, 0, 0, 0, .null)]), (99, [(.iconst (-1), 1, 0, 0, 0, (.int (-1 : Int32)))]), (95, [(.iconst 0, 1, 0, 0, 0, (.int (0 : Int32)))]), (78, [(.iconst 1, 1, 0, 0, 0, (.int (1 : Int32)))]), (47, [(.iconst (-1), 1, 0, 0, 0, (.int (-1 : Int32)))])], [(32, .ireturn, 1), (112, .invokestatic 131, 3), (115, .ireturn, 1), (100, .ireturn, 1), (96, .goto 4, 3), (92, .ifCond .ne 7, 3), (85, .ifCond .lt 16, 3), (79, .ireturn, 1), (75, .ifCond .ge 5, 3), (48, .ireturn, 1), (44, .ifCond .gt 5, 3), (28, .ifCond .le 5, 3), (18, .ifCond .gt 13, 3)])
set_option maxRecDepth 100000 in
theorem m_In_squares : hx_mok M_In_squares = true := by decide +kernel
theorem pd_In_squares : (parseMethodDescriptor M_In_squares.2.1.desc).map (fun q => q.parameters.length) = some 3 := by decide +kernel
theorem y_In_squares : hx_okS M_In_squares := ⟨⟨lw_g (lw_at lw_m7 175 rfl) rfl, lw_g (lw_at lw_m7 174 rfl) rfl, lw_g (lw_at lw_m1 11 rfl) rfl, by decide, by decide⟩, rfl, by decide, plainFor_of_name (by decide), rfl⟩
noncomputable def f_In_squares (x1 : Int64) (x2 : Int64) (x3 : Int64) : Option Int32 :=
  gd (¬ x3 = 0) <|
  lz (A := Int64) (x1 / x3) fun v1 =>
  gd (¬ x3 = 0) <|
  lz (A := Int64) (hx_rL x1 x3) fun v3 =>
  if (65536 : Int64) < v1 then (
    some (1 : Int32)
  ) else (
    if (v1 * v1) ≤ x2 then (
      if x2 < ((v1 + (1 : Int64)) * (v1 + (1 : Int64))) then (
        lz (A := Int64) (((x2 - (v1 * v1)) * x3) - (((2 : Int64) * v1) * v3)) fun v5 =>
        if (0 : Int64) ≤ v5 then (
          if v5 < v3 then (
            bP (f_HH_signOf ((v3 * v3) - (v5 * x3))) fun a6 =>
            some a6
          ) else (
            if v5 = (0 : Int64) then (
              some (0 : Int32)
            ) else (
              some (-1 : Int32)
            )
          )
        ) else (
          some (1 : Int32)
        )
      ) else (
        some (-1 : Int32)
      )
    ) else (
      some (1 : Int32)
    )
  )
set_option maxRecDepth 20000 in
theorem k_In_squares (x1 : Int64) (x2 : Int64) (x3 : Int64) (h : hH) : hx_kP S0 M_In_squares 2 NT [(.long x1), (.long x2), (.long x3)] h (f_In_squares x1 x2 x3) cvI := by
  have hm := m_In_squares
  show hx_P S0 M_In_squares 2 0 [(0, (.long x1)), (2, (.long x2)), (4, (.long x3))] [] NT h (f_In_squares x1 x2 x3) (hx_Rp cvI NT h)
  unfold f_In_squares
  refine hp_GZ hm (at1 0 rfl) (fun (v1 : Int64) => [(6, (.long v1)), (0, (.long x1)), (2, (.long x2)), (4, (.long x3))]) (fun (v1 : Int64) => []) rfl (fun hP => (by exact hP)) (pc' := 6) rfl (fun q2 v1 => ?_)
  refine hp_GZ hm (at1 1 rfl) (fun (v3 : Int64) => [(8, (.long v3)), (6, (.long v1)), (0, (.long x1)), (2, (.long x2)), (4, (.long x3))]) (fun (v3 : Int64) => []) rfl (fun hP => (by exact hP)) (pc' := 12) rfl (fun q4 v3 => ?_)
  refine hp_lc_gt hm (at1 2 rfl) rfl (by exact trivial) (pc' := 18) rfl 12 rfl (tgt := 31) rfl (fun c12 => ?_) (fun c12 => ?_)
  · exact hp_ir hm (at1 3 rfl) rfl (by exact trivial) (pc' := 32) rfl 0 rfl rfl (vp_nar_int _) (fun _ e => e)
  · refine hp_lc_le hm (at1 4 rfl) rfl (by exact trivial) (pc' := 28) rfl 11 rfl (tgt := 33) rfl (fun c11 => ?_) (fun c11 => ?_)
    · refine hp_lc_gt hm (at1 5 rfl) rfl (by exact trivial) (pc' := 44) rfl 10 rfl (tgt := 49) rfl (fun c10 => ?_) (fun c10 => ?_)
      · refine hp_z hm (at1 6 rfl) (fun (v5 : Int64) => [(10, (.long v5)), (8, (.long v3)), (6, (.long v1)), (0, (.long x1)), (2, (.long x2)), (4, (.long x3))]) (fun (v5 : Int64) => []) rfl (by exact trivial) (pc' := 71) rfl (fun v5 => ?_)
        refine hp_lc_ge hm (at1 7 rfl) rfl (by exact trivial) (pc' := 75) rfl 8 rfl (tgt := 80) rfl (fun c9 => ?_) (fun c9 => ?_)
        · refine hp_lc_lt hm (at1 8 rfl) rfl (by exact trivial) (pc' := 85) rfl 6 rfl (tgt := 101) rfl (fun c8 => ?_) (fun c8 => ?_)
          · refine hp_cNP (M2 := M_HH_signOf) hm (at1 9 rfl) (as := [(.long ((v3 * v3) - (v5 * x3)))]) (rest := []) rfl (by exact trivial) (pc' := 112) rfl 1 rfl (hmn_10_131) y_HH_signOf rfl (d2 := 1) ⟨le_b rfl, pd_HH_signOf, le_b rfl⟩ (le_b rfl) (k_HH_signOf ((v3 * v3) - (v5 * x3)) h) (fun a6 => ?_)
            exact hp_ir hm at0 rfl (by exact trivial) (pc' := 115) rfl 2 rfl rfl (vp_nar_int _) (fun _ e => e)
          · refine hp_lc_ne hm (at1 10 rfl) rfl (by exact trivial) (pc' := 92) rfl 5 rfl (tgt := 99) rfl (fun c7 => ?_) (fun c7 => ?_)
            · refine hp_b hm (at1 11 rfl) (L' := [(10, (.long v5)), (8, (.long v3)), (6, (.long v1)), (0, (.long x1)), (2, (.long x2)), (4, (.long x3))]) (st' := [(.int (-1 : Int32))]) rfl (by exact trivial) (pc' := 100) rfl ?_
              exact hp_ir hm at0 rfl (by exact trivial) (pc' := 100) rfl 3 rfl rfl (vp_nar_int _) (fun _ e => e)
            · refine hp_b hm (at1 12 rfl) (L' := [(10, (.long v5)), (8, (.long v3)), (6, (.long v1)), (0, (.long x1)), (2, (.long x2)), (4, (.long x3))]) (st' := [(.int (0 : Int32))]) rfl (by exact trivial) (pc' := 96) rfl ?_
              refine hp_goto hm 4 rfl (tgt := 100) rfl ?_
              exact hp_ir hm at0 rfl (by exact trivial) (pc' := 100) rfl 3 rfl rfl (vp_nar_int _) (fun _ e => e)
        · exact hp_ir hm (at1 13 rfl) rfl (by exact trivial) (pc' := 79) rfl 7 rfl rfl (vp_nar_int _) (fun _ e => e)
      · exact hp_ir hm (at1 14 rfl) rfl (by exact trivial) (pc' := 48) rfl 9 rfl rfl (vp_nar_int _) (fun _ e => e)
    · exact hp_ir hm (at1 3 rfl) rfl (by exact trivial) (pc' := 32) rfl 0 rfl rfl (vp_nar_int _) (fun _ e => e)
/-! HintHouse$Inside.curveSide(ZII)I -/
def M_In_curveSide : hM := (10, ⟨"HintHouse$Inside", "curveSide", "(ZII)I"⟩, prog_5_method_12_code, 12, (Option.some Jvm.ClassFile.FieldType.int), [], [(0, [(.ldc2_w 106, 3, 0, 0, 0, (.long (2 : Int64))), (.aload_n 0, 1, 0, 0, 0, .null), (.getfield 121, 3, 10, 18, 2, .null), (.aload_n 0, 1, 0, 0, 0, .null), (.getfield 108, 3, 10, 14, 2, .null), (.lmul, 1, 0, 0, 0, .null), (.aload_n 0, 1, 0, 0, 0, .null), (.getfield 112, 3, 10, 15, 2, .null), (.aload_n 0, 1, 0, 0, 0, .null), (.getfield 118, 3, 10, 17, 2, .null), (.lmul, 1, 0, 0, 0, .null), (.lsub, 1, 0, 0, 0, .null), (.lmul, 1, 0, 0, 0, .null), (.lstore 4, 2, 0, 0, 0, .null)]), (25, [(.aload_n 0, 1, 0, 0, 0, .null), (.getfield 124, 3, 10, 19, 2, .null), (.aload_n 0, 1, 0, 0, 0, .null), (.getfield 108, 3, 10, 14, 2, .null), (.lmul, 1, 0, 0, 0, .null), (.aload_n 0, 1, 0, 0, 0, .null), (.getfield 115, 3, 10, 16, 2, .null), (.aload_n 0, 1, 0, 0, 0, .null), (.getfield 118, 3, 10, 17, 2, .null), (.lmul, 1, 0, 0, 0, .null), (.lsub, 1, 0, 0, 0, .null), (.lstore 6, 2, 0, 0, 0, .null)]), (46, [(.lload 4, 2, 0, 0, 0, .null), (.lconst 0, 1, 0, 0, 0, (.long (0 : Int64))), (.lcmp, 1, 0, 0, 0, .null)]), (67, [(.aload_n 0, 1, 0, 0, 0, .null), (.getfield 108, 3, 10, 14, 2, .null)]), (74, [(.lload 4, 2, 0, 0, 0, .null)]), (79, [(.imul, 1, 0, 0, 0, .null), (.istore 8, 2, 0, 0, 0, .null)]), (82, [(.aload_n 0, 1, 0, 0, 0, .null), (.lload 4, 2, 0, 0, 0, .null), (.lload 6, 2, 0, 0, 0, .null), (.iload_n 2, 1, 0, 0, 0, .null)]), (97, [(.aload_n 0, 1, 0, 0, 0, .null), (.lload 4, 2, 0, 0, 0, .null), (.lload 6, 2, 0, 0, 0, .null), (.iload_n 3, 1, 0, 0, 0, .null)]), (113, [(.aload_n 0, 1, 0, 0, 0, .null), (.getfield 108, 3, 10, 14, 2, .null), (.lload 6, 2, 0, 0, 0, .null), (.lmul, 1, 0, 0, 0, .null), (.aload_n 0, 1, 0, 0, 0, .null), (.getfield 112, 3, 10, 15, 2, .null), (.lload 4, 2, 0, 0, 0, .null), (.lmul, 1, 0, 0, 0, .null), (.lsub, 1, 0, 0, 0, .null)]), (131, [(.lstore 9, 2, 0, 0, 0, .null), (.aload_n 0, 1, 0, 0, 0, .null), (.getfield 108, 3, 10, 14, 2, .null)]), (140, [(.lload 9, 2, 0, 0, 0, .null), (.aload_n 0, 1, 0, 0, 0, .null), (.getfield 112, 3, 10, 15, 2, .null), (.aload_n 0, 1, 0, 0, 0, .null), (.getfield 112, 3, 10, 15, 2, .null), (.lmul, 1, 0, 0, 0, .null), (.aload_n 0, 1, 0, 0, 0, .null), (.getfield 108, 3, 10, 14, 2, .null), (.aload_n 0, 1, 0, 0, 0, .null), (.getfield 115, 3, 10, 16, 2, .null), (.lmul, 1, 0, 0, 0, .null), (.lsub, 1, 0, 0, 0, .null), (.lload 4, 2, 0, 0, 0, .null)]), (169, [(.imul, 1, 0, 0, 0, .null), (.istore 11, 2, 0, 0, 0, .null)]), (172, [(.iload_n 1, 1, 0, 0, 0, .null)]), (185, [(.iload 11, 2, 0, 0, 0, .null), (.iload 8, 2, 0, 0, 0, .null), (.imul, 1, 0, 0, 0, .null)]), (176, [(.iload 11, 2, 0, 0, 0, .null), (.ineg, 1, 0, 0, 0, .null), (.iload 8, 2, 0, 0, 0, .null), (.imul, 1, 0, 0, 0, .null)]), (109, [(.iload 8, 2, 0, 0, 0, .null), (.ineg, 1, 0, 0, 0, .null)]), (94, [(.iload 8, 2, 0, 0, 0, .null)]), (53, [(.lload 6, 2, 0, 0, 0, .null)]), (58, [(.aload_n 0, 1, 0, 0, 0, .null), (.getfield 108, 3, 10, 14, 2, .null)]), (65, [(.imul, 1, 0, 0, 0, .null)])], [(71, .invokestatic 131, 3), (76, .invokestatic 131, 3), (88, .invokevirtual 153, 3), (103, .invokevirtual 153, 3), (128, .invokestatic 135, 3), (137, .invokestatic 131, 3), (163, .invokestatic 135, 3), (166, .invokestatic 157, 3), (190, .ireturn, 1), (182, .goto 8, 3), (173, .ifCond .eq 12, 3), (112, .ireturn, 1), (106, .ifCond .le 7, 3), (96, .ireturn, 1), (91, .ifCond .ge 6, 3), (55, .invokestatic 131, 3), (62, .invokestatic 131, 3), (66, .ireturn, 1), (50, .ifCond .ne 17, 3)])
set_option maxRecDepth 100000 in
theorem m_In_curveSide : hx_mok M_In_curveSide = true := by decide +kernel
theorem pd_In_curveSide : (parseMethodDescriptor M_In_curveSide.2.1.desc).map (fun q => q.parameters.length) = some 3 := by decide +kernel
theorem y_In_curveSide : hx_okV M_In_curveSide := ⟨⟨lw_g (lw_at lw_m7 168 rfl) rfl, lw_g (lw_at lw_m7 167 rfl) rfl, qs117, lw_g (lw_at lw_m1 11 rfl) rfl, rfl, by decide, by decide, by decide⟩, rfl, by decide, plainFor_of_name (by decide)⟩
noncomputable def f_In_curveSide (x1 : Int32) (x2 : Int32) (x3 : Int32) (h : hH) : Option Int32 :=
  lz (A := Int64) ((2 : Int64) * (((rdL h 182 18) * (rdL h 182 14)) - ((rdL h 182 15) * (rdL h 182 17)))) fun v1 =>
  lz (A := Int64) (((rdL h 182 19) * (rdL h 182 14)) - ((rdL h 182 16) * (rdL h 182 17))) fun v2 =>
  if v1 = (0 : Int64) then (
    bP (f_HH_signOf v2) fun a16 =>
    bP (f_HH_signOf (rdL h 182 14)) fun a17 =>
    some (a16 * a17)
  ) else (
    bP (f_HH_signOf (rdL h 182 14)) fun a3 =>
    bP (f_HH_signOf v1) fun a4 =>
    lz (A := Int32) (a3 * a4) fun v5 =>
    bP (f_In_compare v1 v2 x2 h) fun a6 =>
    if 0 ≤ a6 then (
      bP (f_In_compare v1 v2 x3 h) fun a7 =>
      if a7 ≤ 0 then (
        bP (f_JM_abs (((rdL h 182 14) * v2) - ((rdL h 182 15) * v1))) fun a8 =>
        bP (f_HH_signOf (rdL h 182 14)) fun a9 =>
        bP (f_JM_abs v1) fun a10 =>
        bP (f_In_squares a8 (((rdL h 182 15) * (rdL h 182 15)) - ((rdL h 182 14) * (rdL h 182 16))) a10) fun a11 =>
        lz (A := Int32) (a9 * a11) fun v12 =>
        if x1 = 0 then (
          some (v12 * v5)
        ) else (
          some ((-v12) * v5)
        )
      ) else (
        some (-v5)
      )
    ) else (
      some v5
    )
  )
set_option maxRecDepth 20000 in
theorem k_In_curveSide (x1 : Int32) (x2 : Int32) (x3 : Int32) (h : hH) : hx_kP S0 M_In_curveSide 3 NT [(.ref 182), (.int x1), (.int x2), (.int x3)] h (f_In_curveSide x1 x2 x3 h) cvI := by
  have hm := m_In_curveSide
  show hx_P S0 M_In_curveSide 3 0 [(0, (.ref 182)), (1, (.int x1)), (2, (.int x2)), (3, (.int x3))] [] NT h (f_In_curveSide x1 x2 x3 h) (hx_Rp cvI NT h)
  unfold f_In_curveSide
  refine hp_z hm (at1 0 rfl) (fun (v1 : Int64) => [(4, (.long v1)), (0, (.ref 182)), (1, (.int x1)), (2, (.int x2)), (3, (.int x3))]) (fun (v1 : Int64) => []) rfl (by exact ⟨⟨⟨og_182, og_182⟩, og_182⟩, og_182⟩) (pc' := 25) rfl (fun v1 => ?_)
  refine hp_z hm (at1 1 rfl) (fun (v2 : Int64) => [(6, (.long v2)), (4, (.long v1)), (0, (.ref 182)), (1, (.int x1)), (2, (.int x2)), (3, (.int x3))]) (fun (v2 : Int64) => []) rfl (by exact ⟨⟨⟨og_182, og_182⟩, og_182⟩, og_182⟩) (pc' := 46) rfl (fun v2 => ?_)
  refine hp_lc_ne hm (at1 2 rfl) rfl (by exact trivial) (pc' := 50) rfl 18 rfl (tgt := 67) rfl (fun c18 => ?_) (fun c18 => ?_)
  · refine hp_cNP (M2 := M_HH_signOf) hm (at1 3 rfl) (as := [(.long (rdL h 182 14))]) (rest := []) rfl (by exact og_182) (pc' := 71) rfl 0 rfl (hmn_10_131) y_HH_signOf rfl (d2 := 1) ⟨le_b rfl, pd_HH_signOf, le_b rfl⟩ (le_b rfl) (k_HH_signOf (rdL h 182 14) h) (fun a3 => ?_)
    refine hp_cNP (M2 := M_HH_signOf) hm (at1 4 rfl) (as := [(.long v1)]) (rest := [(.int a3)]) rfl (by exact trivial) (pc' := 76) rfl 1 rfl (hmn_10_131) y_HH_signOf rfl (d2 := 1) ⟨le_b rfl, pd_HH_signOf, le_b rfl⟩ (le_b rfl) (k_HH_signOf v1 h) (fun a4 => ?_)
    refine hp_z hm (at1 5 rfl) (fun (v5 : Int32) => [(8, (.int v5)), (6, (.long v2)), (4, (.long v1)), (0, (.ref 182)), (1, (.int x1)), (2, (.int x2)), (3, (.int x3))]) (fun (v5 : Int32) => []) rfl (by exact trivial) (pc' := 82) rfl (fun v5 => ?_)
    refine hp_cVP (M2 := M_In_compare) hm (at1 6 rfl) (as := [(.long v1), (.long v2), (.int x2)]) (rest := []) (z := 182) rfl (by exact trivial) (pc' := 88) rfl 2 rfl (lw_g (lw_at lw_m7 169 rfl) rfl) y_In_compare rfl (d2 := 2) ⟨le_b rfl, pd_In_compare, le_b rfl⟩ (le_b rfl) og_182 (k_In_compare v1 v2 x2 h) (fun a6 => ?_)
    refine hp_if_ge hm at0 rfl (by exact trivial) (pc' := 91) rfl 14 rfl (tgt := 97) rfl (fun c15 => ?_) (fun c15 => ?_)
    · refine hp_cVP (M2 := M_In_compare) hm (at1 7 rfl) (as := [(.long v1), (.long v2), (.int x3)]) (rest := []) (z := 182) rfl (by exact trivial) (pc' := 103) rfl 3 rfl (lw_g (lw_at lw_m7 169 rfl) rfl) y_In_compare rfl (d2 := 2) ⟨le_b rfl, pd_In_compare, le_b rfl⟩ (le_b rfl) og_182 (k_In_compare v1 v2 x3 h) (fun a7 => ?_)
      refine hp_if_le hm at0 rfl (by exact trivial) (pc' := 106) rfl 12 rfl (tgt := 113) rfl (fun c14 => ?_) (fun c14 => ?_)
      · refine hp_cSP (M2 := M_JM_abs) hm (at1 8 rfl) (as := [(.long (((rdL h 182 14) * v2) - ((rdL h 182 15) * v1)))]) (rest := []) rfl (by exact ⟨og_182, og_182⟩) (pc' := 128) rfl 4 rfl (lw_g (lw_at lw_m7 155 rfl) rfl) y_JM_abs rfl (d2 := 1) ⟨le_b rfl, pd_JM_abs, le_b rfl⟩ (le_b rfl) (k_JM_abs (((rdL h 182 14) * v2) - ((rdL h 182 15) * v1)) h) (fun a8 => ?_)
        refine hp_b hm (at1 9 rfl) (L' := [(9, (.long a8)), (8, (.int v5)), (6, (.long v2)), (4, (.long v1)), (0, (.ref 182)), (1, (.int x1)), (2, (.int x2)), (3, (.int x3))]) (st' := [(.long (rdL h 182 14))]) rfl (by exact og_182) (pc' := 137) rfl ?_
        refine hp_cNP (M2 := M_HH_signOf) hm at0 (as := [(.long (rdL h 182 14))]) (rest := []) rfl (by exact trivial) (pc' := 137) rfl 5 rfl (hmn_10_131) y_HH_signOf rfl (d2 := 1) ⟨le_b rfl, pd_HH_signOf, le_b rfl⟩ (le_b rfl) (k_HH_signOf (rdL h 182 14) h) (fun a9 => ?_)
        refine hp_cSP (M2 := M_JM_abs) hm (at1 10 rfl) (as := [(.long v1)]) (rest := [(.long (((rdL h 182 15) * (rdL h 182 15)) - ((rdL h 182 14) * (rdL h 182 16)))), (.long a8), (.int a9)]) rfl (by exact ⟨⟨⟨og_182, og_182⟩, og_182⟩, og_182⟩) (pc' := 163) rfl 6 rfl (lw_g (lw_at lw_m7 155 rfl) rfl) y_JM_abs rfl (d2 := 1) ⟨le_b rfl, pd_JM_abs, le_b rfl⟩ (le_b rfl) (k_JM_abs v1 h) (fun a10 => ?_)
        refine hp_cSP (M2 := M_In_squares) hm at0 (as := [(.long a8), (.long (((rdL h 182 15) * (rdL h 182 15)) - ((rdL h 182 14) * (rdL h 182 16)))), (.long a10)]) (rest := [(.int a9)]) rfl (by exact trivial) (pc' := 166) rfl 7 rfl (lw_g (lw_at lw_m7 173 rfl) rfl) y_In_squares rfl (d2 := 2) ⟨le_b rfl, pd_In_squares, le_b rfl⟩ (le_b rfl) (k_In_squares a8 (((rdL h 182 15) * (rdL h 182 15)) - ((rdL h 182 14) * (rdL h 182 16))) a10 h) (fun a11 => ?_)
        refine hp_z hm (at1 11 rfl) (fun (v12 : Int32) => [(11, (.int v12)), (9, (.long a8)), (8, (.int v5)), (6, (.long v2)), (4, (.long v1)), (0, (.ref 182)), (1, (.int x1)), (2, (.int x2)), (3, (.int x3))]) (fun (v12 : Int32) => []) rfl (by exact trivial) (pc' := 172) rfl (fun v12 => ?_)
        refine hp_if_eq hm (at1 12 rfl) rfl (by exact trivial) (pc' := 173) rfl 10 rfl (tgt := 185) rfl (fun c13 => ?_) (fun c13 => ?_)
        · refine hp_b hm (at1 13 rfl) (L' := [(11, (.int v12)), (9, (.long a8)), (8, (.int v5)), (6, (.long v2)), (4, (.long v1)), (0, (.ref 182)), (1, (.int x1)), (2, (.int x2)), (3, (.int x3))]) (st' := [(.int (v12 * v5))]) rfl (by exact trivial) (pc' := 190) rfl ?_
          exact hp_ir hm at0 rfl (by exact trivial) (pc' := 190) rfl 8 rfl rfl (vp_nar_int _) (fun _ e => e)
        · refine hp_b hm (at1 14 rfl) (L' := [(11, (.int v12)), (9, (.long a8)), (8, (.int v5)), (6, (.long v2)), (4, (.long v1)), (0, (.ref 182)), (1, (.int x1)), (2, (.int x2)), (3, (.int x3))]) (st' := [(.int ((-v12) * v5))]) rfl (by exact trivial) (pc' := 182) rfl ?_
          refine hp_goto hm 9 rfl (tgt := 190) rfl ?_
          exact hp_ir hm at0 rfl (by exact trivial) (pc' := 190) rfl 8 rfl rfl (vp_nar_int _) (fun _ e => e)
      · exact hp_ir hm (at1 15 rfl) rfl (by exact trivial) (pc' := 112) rfl 11 rfl rfl (vp_nar_int _) (fun _ e => e)
    · exact hp_ir hm (at1 16 rfl) rfl (by exact trivial) (pc' := 96) rfl 13 rfl rfl (vp_nar_int _) (fun _ e => e)
  · refine hp_cNP (M2 := M_HH_signOf) hm (at1 17 rfl) (as := [(.long v2)]) (rest := []) rfl (by exact trivial) (pc' := 55) rfl 15 rfl (hmn_10_131) y_HH_signOf rfl (d2 := 1) ⟨le_b rfl, pd_HH_signOf, le_b rfl⟩ (le_b rfl) (k_HH_signOf v2 h) (fun a16 => ?_)
    refine hp_cNP (M2 := M_HH_signOf) hm (at1 18 rfl) (as := [(.long (rdL h 182 14))]) (rest := [(.int a16)]) rfl (by exact og_182) (pc' := 62) rfl 16 rfl (hmn_10_131) y_HH_signOf rfl (d2 := 1) ⟨le_b rfl, pd_HH_signOf, le_b rfl⟩ (le_b rfl) (k_HH_signOf (rdL h 182 14) h) (fun a17 => ?_)
    exact hp_ir hm (at1 19 rfl) rfl (by exact trivial) (pc' := 66) rfl 17 rfl rfl (vp_nar_int _) (fun _ e => e)
/-! HintHouse$Inside.piece(IIZII)I -/
def M_In_piece : hM := (10, ⟨"HintHouse$Inside", "piece", "(IIZII)I"⟩, prog_5_method_10_code, 9, (Option.some Jvm.ClassFile.FieldType.int), [], [(0, [(.iload_n 3, 1, 0, 0, 0, .null)]), (20, [(.iload_n 1, 1, 0, 0, 0, .null)]), (32, [(.iconst 0, 1, 0, 0, 0, (.int (0 : Int32)))]), (24, [(.iload_n 2, 1, 0, 0, 0, .null)]), (28, [(.iconst 1, 1, 0, 0, 0, (.int (1 : Int32)))]), (4, [(.iload_n 1, 1, 0, 0, 0, .null)]), (16, [(.iconst 0, 1, 0, 0, 0, (.int (0 : Int32)))]), (8, [(.iload_n 2, 1, 0, 0, 0, .null)]), (12, [(.iconst 1, 1, 0, 0, 0, (.int (1 : Int32)))]), (33, [(.istore 6, 2, 0, 0, 0, .null), (.iload 6, 2, 0, 0, 0, .null)]), (42, [(.aload_n 0, 1, 0, 0, 0, .null), (.getfield 108, 3, 10, 14, 2, .null), (.lconst 0, 1, 0, 0, 0, (.long (0 : Int64))), (.lcmp, 1, 0, 0, 0, .null)]), (58, [(.aload_n 0, 1, 0, 0, 0, .null), (.iload_n 3, 1, 0, 0, 0, .null), (.iload 4, 2, 0, 0, 0, .null), (.iload 5, 2, 0, 0, 0, .null)]), (51, [(.aload_n 0, 1, 0, 0, 0, .null)]), (67, [(.istore 7, 2, 0, 0, 0, .null), (.aload_n 0, 1, 0, 0, 0, .null), (.iload 7, 2, 0, 0, 0, .null)]), (79, [(.iconst 0, 1, 0, 0, 0, (.int (0 : Int32)))]), (75, [(.iconst 1, 1, 0, 0, 0, (.int (1 : Int32)))]), (80, [(.putfield 87, 3, 10, 13, 1, .null)]), (83, [(.iload_n 3, 1, 0, 0, 0, .null)]), (103, [(.iload_n 2, 1, 0, 0, 0, .null)]), (115, [(.iconst 0, 1, 0, 0, 0, (.int (0 : Int32)))]), (107, [(.iload_n 1, 1, 0, 0, 0, .null)]), (111, [(.iconst 1, 1, 0, 0, 0, (.int (1 : Int32)))]), (87, [(.iload_n 1, 1, 0, 0, 0, .null)]), (99, [(.iconst 0, 1, 0, 0, 0, (.int (0 : Int32)))]), (91, [(.iload_n 2, 1, 0, 0, 0, .null)]), (95, [(.iconst 1, 1, 0, 0, 0, (.int (1 : Int32)))]), (116, [(.istore 8, 2, 0, 0, 0, .null), (.iload 8, 2, 0, 0, 0, .null)]), (140, [(.iconst 0, 1, 0, 0, 0, (.int (0 : Int32)))]), (123, [(.iload 7, 2, 0, 0, 0, .null)]), (128, [(.iload_n 3, 1, 0, 0, 0, .null)]), (136, [(.iconst (-1), 1, 0, 0, 0, (.int (-1 : Int32)))]), (132, [(.iconst 1, 1, 0, 0, 0, (.int (1 : Int32)))]), (40, [(.iconst 0, 1, 0, 0, 0, (.int (0 : Int32)))])], [(29, .goto 4, 3), (25, .ifCond .gt 7, 3), (21, .ifCond .lt 11, 3), (17, .goto 16, 3), (13, .goto 20, 3), (9, .ifCond .lt 7, 3), (5, .ifCond .gt 11, 3), (1, .ifCond .eq 19, 3), (64, .invokevirtual 147, 3), (52, .invokevirtual 143, 3), (55, .goto 12, 3), (48, .ifCond .ne 10, 3), (76, .goto 4, 3), (72, .ifCond .ne 7, 3), (112, .goto 4, 3), (108, .ifCond .le 7, 3), (104, .ifCond .gt 11, 3), (100, .goto 16, 3), (96, .goto 20, 3), (92, .ifCond .le 7, 3), (88, .ifCond .gt 11, 3), (84, .ifCond .eq 19, 3), (141, .ireturn, 1), (137, .goto 4, 3), (133, .goto 8, 3), (129, .ifCond .eq 7, 3), (125, .ifCond .le 15, 3), (120, .ifCond .eq 20, 3), (41, .ireturn, 1), (37, .ifCond .ne 5, 3)])
set_option maxRecDepth 100000 in
theorem m_In_piece : hx_mok M_In_piece = true := by decide +kernel
theorem pd_In_piece : (parseMethodDescriptor M_In_piece.2.1.desc).map (fun q => q.parameters.length) = some 5 := by decide +kernel
theorem y_In_piece : hx_okV M_In_piece := ⟨⟨lw_g (lw_at lw_m7 159 rfl) rfl, lw_g (lw_at lw_m7 158 rfl) rfl, qs115, lw_g (lw_at lw_m1 11 rfl) rfl, rfl, by decide, by decide, by decide⟩, rfl, by decide, plainFor_of_name (by decide)⟩
noncomputable def f_In_piece (x1 : Int32) (x2 : Int32) (x3 : Int32) (x4 : Int32) (x5 : Int32) (h : hH) : Option (Int32 × hH) :=
  lz (A := Int32) (if x3 = 0 then (if x1 < 0 then (0 : Int32) else (if 0 < x2 then (0 : Int32) else (1 : Int32))) else (if 0 < x1 then (0 : Int32) else (if x2 < 0 then (0 : Int32) else (1 : Int32)))) fun p1 =>
  if p1 = 0 then (
    some ((0 : Int32), h)
  ) else (
    bP (A := Int32) (
      if (rdL h 182 14) = (0 : Int64) then (
        bP (f_In_lineSide h) fun a9 =>
        some a9
      ) else (
        bP (f_In_curveSide x3 x4 x5 h) fun a8 =>
        some a8
      )
    ) fun p7 =>
    lz (A := Int32) (if p7 = 0 then (1 : Int32) else (0 : Int32)) fun p11 =>
    gd ((p11 = 0 ∨ p11 = 1)) <|
    lz (wrI h 182 13 p11) fun h1 =>
    lz (A := Int32) (if x3 = 0 then (if 0 < x2 then (0 : Int32) else (if x1 ≤ 0 then (0 : Int32) else (1 : Int32))) else (if 0 < x1 then (0 : Int32) else (if x2 ≤ 0 then (0 : Int32) else (1 : Int32)))) fun p14 =>
    if p14 = 0 then (
      some ((0 : Int32), h1)
    ) else (
      if p7 ≤ 0 then (
        some ((0 : Int32), h1)
      ) else (
        if x3 = 0 then (
          some ((-1 : Int32), h1)
        ) else (
          some ((1 : Int32), h1)
        )
      )
    )
  )
set_option maxRecDepth 20000 in
theorem k_In_piece (x1 : Int32) (x2 : Int32) (x3 : Int32) (x4 : Int32) (x5 : Int32) (h : hH) : hx_kS S0 M_In_piece 4 NT [(.ref 182), (.int x1), (.int x2), (.int x3), (.int x4), (.int x5)] h (f_In_piece x1 x2 x3 x4 x5 h) cvI := by
  have hm := m_In_piece
  show hx_P S0 M_In_piece 4 0 [(0, (.ref 182)), (1, (.int x1)), (2, (.int x2)), (3, (.int x3)), (4, (.int x4)), (5, (.int x5))] [] NT h (f_In_piece x1 x2 x3 x4 x5 h) (hx_Rc cvI NT)
  unfold f_In_piece
  refine hp_JZ 33 (fun (p1 : Int32) => [(0, (.ref 182)), (1, (.int x1)), (2, (.int x2)), (3, (.int x3)), (4, (.int x4)), (5, (.int x5))]) (fun (p1 : Int32) => [(.int p1)]) (fun (p1 : Int32) => h) ?_ (fun p1 => ?_)
  · refine hp_sv0 ?_
    refine hp_if_eq hm (at1 0 rfl) rfl (by exact trivial) (pc' := 1) rfl 7 rfl (tgt := 20) rfl (fun c6 => ?_) (fun c6 => ?_)
    · refine hp_sv0 ?_
      refine hp_if_lt hm (at1 1 rfl) rfl (by exact trivial) (pc' := 21) rfl 2 rfl (tgt := 32) rfl (fun c3 => ?_) (fun c3 => ?_)
      · refine hp_b hm (at1 2 rfl) (L' := [(0, (.ref 182)), (1, (.int x1)), (2, (.int x2)), (3, (.int x3)), (4, (.int x4)), (5, (.int x5))]) (st' := [(.int (0 : Int32))]) rfl (by exact trivial) (pc' := 33) rfl ?_
        exact hp_lf [0, 1, 2, 3, 4, 5] rfl (fun _ e => e)
      · refine hp_sv0 ?_
        refine hp_if_gt hm (at1 3 rfl) rfl (by exact trivial) (pc' := 25) rfl 1 rfl (tgt := 32) rfl (fun c2 => ?_) (fun c2 => ?_)
        · refine hp_b hm (at1 2 rfl) (L' := [(0, (.ref 182)), (1, (.int x1)), (2, (.int x2)), (3, (.int x3)), (4, (.int x4)), (5, (.int x5))]) (st' := [(.int (0 : Int32))]) rfl (by exact trivial) (pc' := 33) rfl ?_
          exact hp_lf [0, 1, 2, 3, 4, 5] rfl (fun _ e => e)
        · refine hp_b hm (at1 4 rfl) (L' := [(0, (.ref 182)), (1, (.int x1)), (2, (.int x2)), (3, (.int x3)), (4, (.int x4)), (5, (.int x5))]) (st' := [(.int (1 : Int32))]) rfl (by exact trivial) (pc' := 29) rfl ?_
          refine hp_goto hm 0 rfl (tgt := 33) rfl ?_
          exact hp_lf [0, 1, 2, 3, 4, 5] rfl (fun _ e => e)
    · refine hp_sv0 ?_
      refine hp_if_gt hm (at1 5 rfl) rfl (by exact trivial) (pc' := 5) rfl 6 rfl (tgt := 16) rfl (fun c5 => ?_) (fun c5 => ?_)
      · refine hp_b hm (at1 6 rfl) (L' := [(0, (.ref 182)), (1, (.int x1)), (2, (.int x2)), (3, (.int x3)), (4, (.int x4)), (5, (.int x5))]) (st' := [(.int (0 : Int32))]) rfl (by exact trivial) (pc' := 17) rfl ?_
        refine hp_goto hm 3 rfl (tgt := 33) rfl ?_
        exact hp_lf [0, 1, 2, 3, 4, 5] rfl (fun _ e => e)
      · refine hp_sv0 ?_
        refine hp_if_lt hm (at1 7 rfl) rfl (by exact trivial) (pc' := 9) rfl 5 rfl (tgt := 16) rfl (fun c4 => ?_) (fun c4 => ?_)
        · refine hp_b hm (at1 6 rfl) (L' := [(0, (.ref 182)), (1, (.int x1)), (2, (.int x2)), (3, (.int x3)), (4, (.int x4)), (5, (.int x5))]) (st' := [(.int (0 : Int32))]) rfl (by exact trivial) (pc' := 17) rfl ?_
          refine hp_goto hm 3 rfl (tgt := 33) rfl ?_
          exact hp_lf [0, 1, 2, 3, 4, 5] rfl (fun _ e => e)
        · refine hp_b hm (at1 8 rfl) (L' := [(0, (.ref 182)), (1, (.int x1)), (2, (.int x2)), (3, (.int x3)), (4, (.int x4)), (5, (.int x5))]) (st' := [(.int (1 : Int32))]) rfl (by exact trivial) (pc' := 13) rfl ?_
          refine hp_goto hm 4 rfl (tgt := 33) rfl ?_
          exact hp_lf [0, 1, 2, 3, 4, 5] rfl (fun _ e => e)
  · refine hp_b hm (at1 9 rfl) (L' := [(6, (.int p1)), (0, (.ref 182)), (1, (.int x1)), (2, (.int x2)), (3, (.int x3)), (4, (.int x4)), (5, (.int x5))]) (st' := [(.int p1)]) rfl (by exact trivial) (pc' := 37) rfl ?_
    refine hp_if_ne hm at0 rfl (by exact trivial) (pc' := 37) rfl 29 rfl (tgt := 42) rfl (fun c23 => ?_) (fun c23 => ?_)
    · refine hp_J 67 (fun (p7 : Int32) => [(0, (.ref 182)), (1, (.int x1)), (2, (.int x2)), (3, (.int x3))]) (fun (p7 : Int32) => [(.int p7)]) (fun (p7 : Int32) => h) ?_ (fun p7 => ?_)
      · refine hp_lc_ne hm (at1 10 rfl) rfl (by exact og_182) (pc' := 48) rfl 11 rfl (tgt := 58) rfl (fun c10 => ?_) (fun c10 => ?_)
        · refine hp_cVP (M2 := M_In_curveSide) hm (at1 11 rfl) (as := [(.int x3), (.int x4), (.int x5)]) (rest := []) (z := 182) rfl (by exact trivial) (pc' := 64) rfl 8 rfl (lw_g (lw_at lw_m7 165 rfl) rfl) y_In_curveSide rfl (d2 := 3) ⟨le_b rfl, pd_In_curveSide, le_b rfl⟩ (le_b rfl) og_182 (k_In_curveSide x3 x4 x5 h) (fun a8 => ?_)
          exact hp_lf [1, 2, 3, 4] rfl (fun _ e => e)
        · refine hp_cVP (M2 := M_In_lineSide) hm (at1 12 rfl) (as := []) (rest := []) (z := 182) rfl (by exact trivial) (pc' := 52) rfl 9 rfl (lw_g (lw_at lw_m7 160 rfl) rfl) y_In_lineSide rfl (d2 := 2) ⟨le_b rfl, pd_In_lineSide, le_b rfl⟩ (le_b rfl) og_182 (k_In_lineSide h) (fun a9 => ?_)
          refine hp_goto hm 10 rfl (tgt := 67) rfl ?_
          exact hp_lf [1, 2, 3, 4] rfl (fun _ e => e)
      · refine hp_b hm (at1 13 rfl) (L' := [(7, (.int p7)), (0, (.ref 182)), (1, (.int x1)), (2, (.int x2)), (3, (.int x3))]) (st' := [(.int p7), (.ref 182)]) rfl (by exact trivial) (pc' := 72) rfl ?_
        refine hp_JZ 80 (fun (p11 : Int32) => [(1, (.int x1)), (2, (.int x2)), (3, (.int x3)), (7, (.int p7))]) (fun (p11 : Int32) => [(.int p11), (.ref 182)]) (fun (p11 : Int32) => h) ?_ (fun p11 => ?_)
        · refine hp_sv0 ?_
          refine hp_if_ne hm at0 rfl (by exact trivial) (pc' := 72) rfl 13 rfl (tgt := 79) rfl (fun c12 => ?_) (fun c12 => ?_)
          · refine hp_b hm (at1 14 rfl) (L' := [(7, (.int p7)), (0, (.ref 182)), (1, (.int x1)), (2, (.int x2)), (3, (.int x3))]) (st' := [(.int (0 : Int32)), (.ref 182)]) rfl (by exact trivial) (pc' := 80) rfl ?_
            exact hp_lf [2, 3, 4, 0] rfl (fun _ e => e)
          · refine hp_b hm (at1 15 rfl) (L' := [(7, (.int p7)), (0, (.ref 182)), (1, (.int x1)), (2, (.int x2)), (3, (.int x3))]) (st' := [(.int (1 : Int32)), (.ref 182)]) rfl (by exact trivial) (pc' := 76) rfl ?_
            refine hp_goto hm 12 rfl (tgt := 80) rfl ?_
            exact hp_lf [2, 3, 4, 0] rfl (fun _ e => e)
        · refine hp_GW hm (at1 16 rfl) (L' := [(1, (.int x1)), (2, (.int x2)), (3, (.int x3)), (7, (.int p7))]) rfl (fun hP => (by exact ⟨og_182, hP⟩)) (pc' := 83) rfl (fun q13 h1 => ?_)
          refine hp_JZ 116 (fun (p14 : Int32) => [(3, (.int x3)), (7, (.int p7))]) (fun (p14 : Int32) => [(.int p14)]) (fun (p14 : Int32) => h1) ?_ (fun p14 => ?_)
          · refine hp_sv0 ?_
            refine hp_if_eq hm (at1 17 rfl) rfl (by exact trivial) (pc' := 84) rfl 21 rfl (tgt := 103) rfl (fun c19 => ?_) (fun c19 => ?_)
            · refine hp_sv0 ?_
              refine hp_if_gt hm (at1 18 rfl) rfl (by exact trivial) (pc' := 104) rfl 16 rfl (tgt := 115) rfl (fun c16 => ?_) (fun c16 => ?_)
              · refine hp_b hm (at1 19 rfl) (L' := [(1, (.int x1)), (2, (.int x2)), (3, (.int x3)), (7, (.int p7))]) (st' := [(.int (0 : Int32))]) rfl (by exact trivial) (pc' := 116) rfl ?_
                exact hp_lf [2, 3] rfl (fun _ e => e)
              · refine hp_sv0 ?_
                refine hp_if_le hm (at1 20 rfl) rfl (by exact trivial) (pc' := 108) rfl 15 rfl (tgt := 115) rfl (fun c15 => ?_) (fun c15 => ?_)
                · refine hp_b hm (at1 19 rfl) (L' := [(1, (.int x1)), (2, (.int x2)), (3, (.int x3)), (7, (.int p7))]) (st' := [(.int (0 : Int32))]) rfl (by exact trivial) (pc' := 116) rfl ?_
                  exact hp_lf [2, 3] rfl (fun _ e => e)
                · refine hp_b hm (at1 21 rfl) (L' := [(1, (.int x1)), (2, (.int x2)), (3, (.int x3)), (7, (.int p7))]) (st' := [(.int (1 : Int32))]) rfl (by exact trivial) (pc' := 112) rfl ?_
                  refine hp_goto hm 14 rfl (tgt := 116) rfl ?_
                  exact hp_lf [2, 3] rfl (fun _ e => e)
            · refine hp_sv0 ?_
              refine hp_if_gt hm (at1 22 rfl) rfl (by exact trivial) (pc' := 88) rfl 20 rfl (tgt := 99) rfl (fun c18 => ?_) (fun c18 => ?_)
              · refine hp_b hm (at1 23 rfl) (L' := [(1, (.int x1)), (2, (.int x2)), (3, (.int x3)), (7, (.int p7))]) (st' := [(.int (0 : Int32))]) rfl (by exact trivial) (pc' := 100) rfl ?_
                refine hp_goto hm 17 rfl (tgt := 116) rfl ?_
                exact hp_lf [2, 3] rfl (fun _ e => e)
              · refine hp_sv0 ?_
                refine hp_if_le hm (at1 24 rfl) rfl (by exact trivial) (pc' := 92) rfl 19 rfl (tgt := 99) rfl (fun c17 => ?_) (fun c17 => ?_)
                · refine hp_b hm (at1 23 rfl) (L' := [(1, (.int x1)), (2, (.int x2)), (3, (.int x3)), (7, (.int p7))]) (st' := [(.int (0 : Int32))]) rfl (by exact trivial) (pc' := 100) rfl ?_
                  refine hp_goto hm 17 rfl (tgt := 116) rfl ?_
                  exact hp_lf [2, 3] rfl (fun _ e => e)
                · refine hp_b hm (at1 25 rfl) (L' := [(1, (.int x1)), (2, (.int x2)), (3, (.int x3)), (7, (.int p7))]) (st' := [(.int (1 : Int32))]) rfl (by exact trivial) (pc' := 96) rfl ?_
                  refine hp_goto hm 18 rfl (tgt := 116) rfl ?_
                  exact hp_lf [2, 3] rfl (fun _ e => e)
          · refine hp_b hm (at1 26 rfl) (L' := [(8, (.int p14)), (3, (.int x3)), (7, (.int p7))]) (st' := [(.int p14)]) rfl (by exact trivial) (pc' := 120) rfl ?_
            refine hp_if_eq hm at0 rfl (by exact trivial) (pc' := 120) rfl 27 rfl (tgt := 140) rfl (fun c22 => ?_) (fun c22 => ?_)
            · refine hp_b hm (at1 27 rfl) (L' := [(8, (.int p14)), (3, (.int x3)), (7, (.int p7))]) (st' := [(.int (0 : Int32))]) rfl (by exact trivial) (pc' := 141) rfl ?_
              exact hp_ir hm at0 rfl (by exact trivial) (pc' := 141) rfl 22 rfl rfl (vp_nar_int _) (fun _ e => e)
            · refine hp_if_le hm (at1 28 rfl) rfl (by exact trivial) (pc' := 125) rfl 26 rfl (tgt := 140) rfl (fun c21 => ?_) (fun c21 => ?_)
              · refine hp_b hm (at1 27 rfl) (L' := [(8, (.int p14)), (3, (.int x3)), (7, (.int p7))]) (st' := [(.int (0 : Int32))]) rfl (by exact trivial) (pc' := 141) rfl ?_
                exact hp_ir hm at0 rfl (by exact trivial) (pc' := 141) rfl 22 rfl rfl (vp_nar_int _) (fun _ e => e)
              · refine hp_if_eq hm (at1 29 rfl) rfl (by exact trivial) (pc' := 129) rfl 25 rfl (tgt := 136) rfl (fun c20 => ?_) (fun c20 => ?_)
                · refine hp_b hm (at1 30 rfl) (L' := [(8, (.int p14)), (3, (.int x3)), (7, (.int p7))]) (st' := [(.int (-1 : Int32))]) rfl (by exact trivial) (pc' := 137) rfl ?_
                  refine hp_goto hm 23 rfl (tgt := 141) rfl ?_
                  exact hp_ir hm at0 rfl (by exact trivial) (pc' := 141) rfl 22 rfl rfl (vp_nar_int _) (fun _ e => e)
                · refine hp_b hm (at1 31 rfl) (L' := [(8, (.int p14)), (3, (.int x3)), (7, (.int p7))]) (st' := [(.int (1 : Int32))]) rfl (by exact trivial) (pc' := 133) rfl ?_
                  refine hp_goto hm 24 rfl (tgt := 141) rfl ?_
                  exact hp_ir hm at0 rfl (by exact trivial) (pc' := 141) rfl 22 rfl rfl (vp_nar_int _) (fun _ e => e)
    · exact hp_ir hm (at1 32 rfl) rfl (by exact trivial) (pc' := 41) rfl 28 rfl rfl (vp_nar_int _) (fun _ e => e)
/-! HintHouse$Inside.acrossCurve(IJJ)I -/
def M_In_acrossCurve : hM := (10, ⟨"HintHouse$Inside", "acrossCurve", "(IJJ)I"⟩, prog_5_method_8_code, 10, (Option.some Jvm.ClassFile.FieldType.int), [], [(0, [(.aload_n 0, 1, 0, 0, 0, .null), (.aload_n 0, 1, 0, 0, 0, .null), (.getfield 15, 3, 10, 1, 4, .null), (.iload_n 1, 1, 0, 0, 0, .null), (.iaload, 1, 0, 0, 0, .null), (.i2l, 1, 0, 0, 0, .null), (.ldc2_w 106, 3, 0, 0, 0, (.long (2 : Int64))), (.aload_n 0, 1, 0, 0, 0, .null), (.getfield 21, 3, 10, 3, 4, .null), (.iload_n 1, 1, 0, 0, 0, .null), (.iaload, 1, 0, 0, 0, .null), (.i2l, 1, 0, 0, 0, .null), (.lmul, 1, 0, 0, 0, .null), (.lsub, 1, 0, 0, 0, .null), (.aload_n 0, 1, 0, 0, 0, .null), (.getfield 27, 3, 10, 5, 4, .null), (.iload_n 1, 1, 0, 0, 0, .null), (.iaload, 1, 0, 0, 0, .null), (.i2l, 1, 0, 0, 0, .null), (.ladd, 1, 0, 0, 0, .null), (.putfield 108, 3, 10, 14, 2, .null)]), (31, [(.aload_n 0, 1, 0, 0, 0, .null), (.aload_n 0, 1, 0, 0, 0, .null), (.getfield 21, 3, 10, 3, 4, .null), (.iload_n 1, 1, 0, 0, 0, .null), (.iaload, 1, 0, 0, 0, .null), (.aload_n 0, 1, 0, 0, 0, .null), (.getfield 15, 3, 10, 1, 4, .null), (.iload_n 1, 1, 0, 0, 0, .null), (.iaload, 1, 0, 0, 0, .null), (.isub, 1, 0, 0, 0, .null), (.i2l, 1, 0, 0, 0, .null), (.putfield 112, 3, 10, 15, 2, .null)]), (49, [(.aload_n 0, 1, 0, 0, 0, .null), (.aload_n 0, 1, 0, 0, 0, .null), (.getfield 15, 3, 10, 1, 4, .null), (.iload_n 1, 1, 0, 0, 0, .null), (.iaload, 1, 0, 0, 0, .null), (.i2l, 1, 0, 0, 0, .null), (.lload 4, 2, 0, 0, 0, .null), (.lsub, 1, 0, 0, 0, .null), (.putfield 115, 3, 10, 16, 2, .null)]), (63, [(.aload_n 0, 1, 0, 0, 0, .null), (.aload_n 0, 1, 0, 0, 0, .null), (.getfield 11, 3, 10, 0, 4, .null), (.iload_n 1, 1, 0, 0, 0, .null), (.iaload, 1, 0, 0, 0, .null), (.i2l, 1, 0, 0, 0, .null), (.ldc2_w 106, 3, 0, 0, 0, (.long (2 : Int64))), (.aload_n 0, 1, 0, 0, 0, .null), (.getfield 18, 3, 10, 2, 4, .null), (.iload_n 1, 1, 0, 0, 0, .null), (.iaload, 1, 0, 0, 0, .null), (.i2l, 1, 0, 0, 0, .null), (.lmul, 1, 0, 0, 0, .null), (.lsub, 1, 0, 0, 0, .null), (.aload_n 0, 1, 0, 0, 0, .null), (.getfield 24, 3, 10, 4, 4, .null), (.iload_n 1, 1, 0, 0, 0, .null), (.iaload, 1, 0, 0, 0, .null), (.i2l, 1, 0, 0, 0, .null), (.ladd, 1, 0, 0, 0, .null), (.putfield 118, 3, 10, 17, 2, .null)]), (94, [(.aload_n 0, 1, 0, 0, 0, .null), (.aload_n 0, 1, 0, 0, 0, .null), (.getfield 18, 3, 10, 2, 4, .null), (.iload_n 1, 1, 0, 0, 0, .null), (.iaload, 1, 0, 0, 0, .null), (.aload_n 0, 1, 0, 0, 0, .null), (.getfield 11, 3, 10, 0, 4, .null), (.iload_n 1, 1, 0, 0, 0, .null), (.iaload, 1, 0, 0, 0, .null), (.isub, 1, 0, 0, 0, .null), (.i2l, 1, 0, 0, 0, .null), (.putfield 121, 3, 10, 18, 2, .null)]), (112, [(.aload_n 0, 1, 0, 0, 0, .null), (.aload_n 0, 1, 0, 0, 0, .null), (.getfield 11, 3, 10, 0, 4, .null), (.iload_n 1, 1, 0, 0, 0, .null), (.iaload, 1, 0, 0, 0, .null), (.i2l, 1, 0, 0, 0, .null), (.lload_n 2, 1, 0, 0, 0, .null), (.lsub, 1, 0, 0, 0, .null), (.putfield 124, 3, 10, 19, 2, .null)]), (125, [(.aload_n 0, 1, 0, 0, 0, .null), (.getfield 108, 3, 10, 14, 2, .null), (.lconst 0, 1, 0, 0, 0, (.long (0 : Int64))), (.lcmp, 1, 0, 0, 0, .null)]), (134, [(.aload_n 0, 1, 0, 0, 0, .null), (.getfield 112, 3, 10, 15, 2, .null), (.lconst 0, 1, 0, 0, 0, (.long (0 : Int64))), (.lcmp, 1, 0, 0, 0, .null)]), (143, [(.aload_n 0, 1, 0, 0, 0, .null), (.aload_n 0, 1, 0, 0, 0, .null), (.getfield 115, 3, 10, 16, 2, .null), (.lconst 0, 1, 0, 0, 0, (.long (0 : Int64))), (.lcmp, 1, 0, 0, 0, .null)]), (164, [(.iconst 0, 1, 0, 0, 0, (.int (0 : Int32)))]), (153, [(.aload_n 0, 1, 0, 0, 0, .null)]), (160, [(.iconst 1, 1, 0, 0, 0, (.int (1 : Int32)))]), (165, [(.putfield 87, 3, 10, 13, 1, .null)]), (168, [(.iconst 0, 1, 0, 0, 0, (.int (0 : Int32)))]), (170, [(.aload_n 0, 1, 0, 0, 0, .null), (.getfield 108, 3, 10, 14, 2, .null), (.ldc2_w 106, 3, 0, 0, 0, (.long (2 : Int64))), (.aload_n 0, 1, 0, 0, 0, .null), (.getfield 112, 3, 10, 15, 2, .null), (.lmul, 1, 0, 0, 0, .null), (.ladd, 1, 0, 0, 0, .null), (.aload_n 0, 1, 0, 0, 0, .null), (.getfield 115, 3, 10, 16, 2, .null), (.ladd, 1, 0, 0, 0, .null)]), (191, [(.istore 6, 2, 0, 0, 0, .null), (.aload_n 0, 1, 0, 0, 0, .null), (.getfield 108, 3, 10, 14, 2, .null), (.lconst 0, 1, 0, 0, 0, (.long (0 : Int64))), (.lcmp, 1, 0, 0, 0, .null)]), (242, [(.iconst 0, 1, 0, 0, 0, (.int (0 : Int32)))]), (202, [(.aload_n 0, 1, 0, 0, 0, .null), (.getfield 108, 3, 10, 14, 2, .null)]), (209, [(.aload_n 0, 1, 0, 0, 0, .null), (.getfield 112, 3, 10, 15, 2, .null)]), (216, [(.ineg, 1, 0, 0, 0, .null)]), (220, [(.aload_n 0, 1, 0, 0, 0, .null), (.getfield 112, 3, 10, 15, 2, .null)]), (227, [(.aload_n 0, 1, 0, 0, 0, .null), (.getfield 108, 3, 10, 14, 2, .null)]), (234, [(.lcmp, 1, 0, 0, 0, .null)]), (238, [(.iconst 1, 1, 0, 0, 0, (.int (1 : Int32)))]), (243, [(.istore 7, 2, 0, 0, 0, .null), (.iload 7, 2, 0, 0, 0, .null)]), (306, [(.aload_n 0, 1, 0, 0, 0, .null), (.getfield 108, 3, 10, 14, 2, .null), (.aload_n 0, 1, 0, 0, 0, .null), (.getfield 115, 3, 10, 16, 2, .null), (.lmul, 1, 0, 0, 0, .null), (.aload_n 0, 1, 0, 0, 0, .null), (.getfield 112, 3, 10, 15, 2, .null), (.aload_n 0, 1, 0, 0, 0, .null), (.getfield 112, 3, 10, 15, 2, .null), (.lmul, 1, 0, 0, 0, .null), (.lsub, 1, 0, 0, 0, .null)]), (328, [(.aload_n 0, 1, 0, 0, 0, .null), (.getfield 108, 3, 10, 14, 2, .null)]), (335, [(.imul, 1, 0, 0, 0, .null), (.istore 8, 2, 0, 0, 0, .null)]), (338, [(.aload_n 0, 1, 0, 0, 0, .null), (.aload_n 0, 1, 0, 0, 0, .null), (.getfield 115, 3, 10, 16, 2, .null)]), (346, [(.iload 8, 2, 0, 0, 0, .null), (.aload_n 0, 1, 0, 0, 0, .null), (.getfield 112, 3, 10, 15, 2, .null), (.lconst 0, 1, 0, 0, 0, (.long (0 : Int64))), (.lcmp, 1, 0, 0, 0, .null)]), (361, [(.iconst 0, 1, 0, 0, 0, (.int (0 : Int32)))]), (357, [(.iconst 1, 1, 0, 0, 0, (.int (1 : Int32)))]), (362, [(.iconst 0, 1, 0, 0, 0, (.int (0 : Int32))), (.iconst 2, 1, 0, 0, 0, (.int (2 : Int32)))]), (367, [(.istore 9, 2, 0, 0, 0, .null), (.aload_n 0, 1, 0, 0, 0, .null), (.getfield 87, 3, 10, 13, 1, .null)]), (380, [(.iload 9, 2, 0, 0, 0, .null), (.aload_n 0, 1, 0, 0, 0, .null), (.iload 8, 2, 0, 0, 0, .null), (.iload 6, 2, 0, 0, 0, .null), (.aload_n 0, 1, 0, 0, 0, .null), (.getfield 108, 3, 10, 14, 2, .null), (.lconst 0, 1, 0, 0, 0, (.long (0 : Int64))), (.lcmp, 1, 0, 0, 0, .null)]), (400, [(.iconst 0, 1, 0, 0, 0, (.int (0 : Int32)))]), (396, [(.iconst 1, 1, 0, 0, 0, (.int (1 : Int32)))]), (401, [(.iconst 2, 1, 0, 0, 0, (.int (2 : Int32))), (.iconst 1, 1, 0, 0, 0, (.int (1 : Int32)))]), (406, [(.iadd, 1, 0, 0, 0, .null)]), (376, [(.iconst 0, 1, 0, 0, 0, (.int (0 : Int32)))]), (250, [(.aload_n 0, 1, 0, 0, 0, .null), (.aload_n 0, 1, 0, 0, 0, .null), (.getfield 115, 3, 10, 16, 2, .null)]), (258, [(.iload 6, 2, 0, 0, 0, .null), (.aload_n 0, 1, 0, 0, 0, .null), (.getfield 112, 3, 10, 15, 2, .null), (.lconst 0, 1, 0, 0, 0, (.long (0 : Int64))), (.lcmp, 1, 0, 0, 0, .null)]), (286, [(.aload_n 0, 1, 0, 0, 0, .null), (.getfield 108, 3, 10, 14, 2, .null), (.lconst 0, 1, 0, 0, 0, (.long (0 : Int64))), (.lcmp, 1, 0, 0, 0, .null)]), (299, [(.iconst 0, 1, 0, 0, 0, (.int (0 : Int32)))]), (295, [(.iconst 1, 1, 0, 0, 0, (.int (1 : Int32)))]), (269, [(.aload_n 0, 1, 0, 0, 0, .null), (.getfield 112, 3, 10, 15, 2, .null), (.lconst 0, 1, 0, 0, 0, (.long (0 : Int64))), (.lcmp, 1, 0, 0, 0, .null)]), (282, [(.iconst 0, 1, 0, 0, 0, (.int (0 : Int32)))]), (278, [(.iconst 1, 1, 0, 0, 0, (.int (1 : Int32)))]), (300, [(.iconst 0, 1, 0, 0, 0, (.int (0 : Int32))), (.iconst 1, 1, 0, 0, 0, (.int (1 : Int32)))])], [(140, .ifCond .ne 30, 3), (131, .ifCond .ne 39, 3), (154, .invokevirtual 127, 3), (161, .goto 4, 3), (157, .ifCond .eq 7, 3), (150, .ifCond .ne 14, 3), (169, .ireturn, 1), (188, .invokestatic 131, 3), (206, .invokestatic 131, 3), (213, .invokestatic 131, 3), (224, .invokestatic 135, 3), (231, .invokestatic 135, 3), (239, .goto 4, 3), (235, .ifCond .ge 7, 3), (217, .if_icmp .ne 25, 3), (199, .ifCond .eq 43, 3), (325, .invokestatic 131, 3), (332, .invokestatic 131, 3), (343, .invokestatic 131, 3), (358, .goto 4, 3), (354, .ifCond .le 7, 3), (364, .invokevirtual 139, 3), (397, .goto 4, 3), (393, .ifCond .le 7, 3), (403, .invokevirtual 139, 3), (407, .ireturn, 1), (377, .goto 30, 3), (373, .ifCond .eq 7, 3), (255, .invokestatic 131, 3), (296, .goto 4, 3), (292, .ifCond .le 7, 3), (283, .goto 17, 3), (279, .goto 21, 3), (275, .ifCond .le 7, 3), (266, .ifCond .eq 20, 3), (302, .invokevirtual 139, 3), (305, .ireturn, 1), (247, .ifCond .ne 59, 3)])
set_option maxRecDepth 100000 in
theorem m_In_acrossCurve : hx_mok M_In_acrossCurve = true := by decide +kernel
theorem pd_In_acrossCurve : (parseMethodDescriptor M_In_acrossCurve.2.1.desc).map (fun q => q.parameters.length) = some 3 := by decide +kernel
theorem y_In_acrossCurve : hx_okV M_In_acrossCurve := ⟨⟨lw_g (lw_at lw_m7 146 rfl) rfl, lw_g (lw_at lw_m7 145 rfl) rfl, qs113, lw_g (lw_at lw_m1 11 rfl) rfl, rfl, by decide, by decide, by decide⟩, rfl, by decide, plainFor_of_name (by decide)⟩
noncomputable def f_In_acrossCurve (x1 : Int32) (x2 : Int64) (x3 : Int64) (h : hH) : Option (Int32 × hH) :=
  gd (vp_in x1 220) <|
  lz (wrL h 182 14 (((Int32.toInt64 (rdI h 184 (Int32.toNatClampNeg x1))) - ((2 : Int64) * (Int32.toInt64 (rdI h 186 (Int32.toNatClampNeg x1))))) + (Int32.toInt64 (rdI h 188 (Int32.toNatClampNeg x1))))) fun h1 =>
  gd (vp_in x1 220) <|
  lz (wrL h1 182 15 (Int32.toInt64 ((rdI h1 186 (Int32.toNatClampNeg x1)) - (rdI h1 184 (Int32.toNatClampNeg x1))))) fun h2 =>
  gd (vp_in x1 220) <|
  lz (wrL h2 182 16 ((Int32.toInt64 (rdI h2 184 (Int32.toNatClampNeg x1))) - x3)) fun h3 =>
  gd (vp_in x1 220) <|
  lz (wrL h3 182 17 (((Int32.toInt64 (rdI h3 183 (Int32.toNatClampNeg x1))) - ((2 : Int64) * (Int32.toInt64 (rdI h3 185 (Int32.toNatClampNeg x1))))) + (Int32.toInt64 (rdI h3 187 (Int32.toNatClampNeg x1))))) fun h4 =>
  gd (vp_in x1 220) <|
  lz (wrL h4 182 18 (Int32.toInt64 ((rdI h4 185 (Int32.toNatClampNeg x1)) - (rdI h4 183 (Int32.toNatClampNeg x1))))) fun h5 =>
  gd (vp_in x1 220) <|
  lz (wrL h5 182 19 ((Int32.toInt64 (rdI h5 183 (Int32.toNatClampNeg x1))) - x2)) fun h6 =>
  if ((rdL h6 182 14) = (0 : Int64) ∧ (rdL h6 182 15) = (0 : Int64)) then (
    bP (A := Int32) (
      if (rdL h6 182 16) = (0 : Int64) then (
        bP (f_In_reaches h6) fun a13 =>
        if a13 = 0 then (
          some (0 : Int32)
        ) else (
          some (1 : Int32)
        )
      ) else (
        some (0 : Int32)
      )
    ) fun p12 =>
    gd ((p12 = 0 ∨ p12 = 1)) <|
    lz (wrI h6 182 13 p12) fun h7 =>
    some ((0 : Int32), h7)
  ) else (
    bP (f_HH_signOf (((rdL h6 182 14) + ((2 : Int64) * (rdL h6 182 15))) + (rdL h6 182 16))) fun a17 =>
    bP (A := Int32) (
      if (rdL h6 182 14) = (0 : Int64) then (
        some (0 : Int32)
      ) else (
        bP (f_HH_signOf (rdL h6 182 14)) fun a19 =>
        bP (f_HH_signOf (rdL h6 182 15)) fun a20 =>
        if a19 = (-a20) then (
          bP (f_JM_abs (rdL h6 182 15)) fun a21 =>
          bP (f_JM_abs (rdL h6 182 14)) fun a22 =>
          if a22 ≤ a21 then (
            some (0 : Int32)
          ) else (
            some (1 : Int32)
          )
        ) else (
          some (0 : Int32)
        )
      )
    ) fun p18 =>
    if p18 = 0 then (
      bP (f_HH_signOf (rdL h6 182 16)) fun a37 =>
      lz (A := Int32) (if (rdL h6 182 15) = (0 : Int64) then (if (rdL h6 182 14) ≤ (0 : Int64) then (0 : Int32) else (1 : Int32)) else (if (rdL h6 182 15) ≤ (0 : Int64) then (0 : Int32) else (1 : Int32))) fun p38 =>
      bS (f_In_piece a37 a17 p38 (0 : Int32) (1 : Int32) h6) fun a42 h10 =>
      some (a42, h10)
    ) else (
      bP (f_HH_signOf (((rdL h6 182 14) * (rdL h6 182 16)) - ((rdL h6 182 15) * (rdL h6 182 15)))) fun a26 =>
      bP (f_HH_signOf (rdL h6 182 14)) fun a27 =>
      lz (A := Int32) (a26 * a27) fun v28 =>
      bP (f_HH_signOf (rdL h6 182 16)) fun a29 =>
      lz (A := Int32) (if (rdL h6 182 15) ≤ (0 : Int64) then (0 : Int32) else (1 : Int32)) fun p30 =>
      bS (f_In_piece a29 v28 p30 (0 : Int32) (2 : Int32) h6) fun a32 h8 =>
      if (rdI h8 182 13) = 0 then (
        lz (A := Int32) (if (rdL h8 182 14) ≤ (0 : Int64) then (0 : Int32) else (1 : Int32)) fun p33 =>
        bS (f_In_piece v28 a17 p33 (2 : Int32) (1 : Int32) h8) fun a35 h9 =>
        some ((a32 + a35), h9)
      ) else (
        some ((0 : Int32), h8)
      )
    )
  )
set_option maxRecDepth 20000 in
theorem k_In_acrossCurve (x1 : Int32) (x2 : Int64) (x3 : Int64) (h : hH) : hx_kS S0 M_In_acrossCurve 5 NT [(.ref 182), (.int x1), (.long x2), (.long x3)] h (f_In_acrossCurve x1 x2 x3 h) cvI := by
  have hm := m_In_acrossCurve
  show hx_P S0 M_In_acrossCurve 5 0 [(0, (.ref 182)), (1, (.int x1)), (2, (.long x2)), (4, (.long x3))] [] NT h (f_In_acrossCurve x1 x2 x3 h) (hx_Rc cvI NT)
  unfold f_In_acrossCurve
  refine hp_GW hm (at1 0 rfl) (L' := [(0, (.ref 182)), (1, (.int x1)), (2, (.long x2)), (4, (.long x3))]) rfl (fun hP => (by exact ⟨⟨⟨⟨⟨⟨og_182, ⟨og_184, hP⟩⟩, og_182⟩, ⟨og_186, hP⟩⟩, og_182⟩, ⟨og_188, hP⟩⟩, og_182⟩)) (pc' := 31) rfl (fun q1 h1 => ?_)
  refine hp_GW hm (at1 1 rfl) (L' := [(0, (.ref 182)), (1, (.int x1)), (2, (.long x2)), (4, (.long x3))]) rfl (fun hP => (by exact ⟨⟨⟨⟨og_182, ⟨og_186, hP⟩⟩, og_182⟩, ⟨og_184, hP⟩⟩, og_182⟩)) (pc' := 49) rfl (fun q2 h2 => ?_)
  refine hp_GW hm (at1 2 rfl) (L' := [(0, (.ref 182)), (1, (.int x1)), (2, (.long x2)), (4, (.long x3))]) rfl (fun hP => (by exact ⟨⟨og_182, ⟨og_184, hP⟩⟩, og_182⟩)) (pc' := 63) rfl (fun q3 h3 => ?_)
  refine hp_GW hm (at1 3 rfl) (L' := [(0, (.ref 182)), (1, (.int x1)), (2, (.long x2)), (4, (.long x3))]) rfl (fun hP => (by exact ⟨⟨⟨⟨⟨⟨og_182, ⟨og_183, hP⟩⟩, og_182⟩, ⟨og_185, hP⟩⟩, og_182⟩, ⟨og_187, hP⟩⟩, og_182⟩)) (pc' := 94) rfl (fun q4 h4 => ?_)
  refine hp_GW hm (at1 4 rfl) (L' := [(0, (.ref 182)), (1, (.int x1)), (2, (.long x2)), (4, (.long x3))]) rfl (fun hP => (by exact ⟨⟨⟨⟨og_182, ⟨og_185, hP⟩⟩, og_182⟩, ⟨og_183, hP⟩⟩, og_182⟩)) (pc' := 112) rfl (fun q5 h5 => ?_)
  refine hp_GW hm (at1 5 rfl) (L' := [(0, (.ref 182)), (1, (.int x1)), (2, (.long x2)), (4, (.long x3))]) rfl (fun hP => (by exact ⟨⟨og_182, ⟨og_183, hP⟩⟩, og_182⟩)) (pc' := 125) rfl (fun q6 h6 => ?_)
  refine hp_cI (L0 := [(0, (.ref 182)), (1, (.int x1)), (2, (.long x2)), (4, (.long x3))]) (s0 := []) 143 170 ?_ (fun c11 => ?_) (fun c11 => ?_)
  · refine hp_and ?_
    refine hp_lc_ne hm (at1 6 rfl) rfl (by exact og_182) (pc' := 131) rfl 1 rfl (tgt := 170) rfl (fun c8 => ?_) (fun c8 => ?_)
    · exact hp_l0 (fun _ e => e)
    · refine hp_dec ?_
      refine hp_lc_ne hm (at1 7 rfl) rfl (by exact og_182) (pc' := 140) rfl 0 rfl (tgt := 170) rfl (fun c7 => ?_) (fun c7 => ?_)
      · exact hp_l0 (fun _ e => e)
      · exact hp_l0 (fun _ e => e)
  · refine hp_J 165 (fun (p12 : Int32) => []) (fun (p12 : Int32) => [(.int p12), (.ref 182)]) (fun (p12 : Int32) => h6) ?_ (fun p12 => ?_)
    · refine hp_lc_ne hm (at1 8 rfl) rfl (by exact og_182) (pc' := 150) rfl 5 rfl (tgt := 164) rfl (fun c15 => ?_) (fun c15 => ?_)
      · refine hp_b hm (at1 9 rfl) (L' := [(0, (.ref 182)), (1, (.int x1)), (2, (.long x2)), (4, (.long x3))]) (st' := [(.int (0 : Int32)), (.ref 182)]) rfl (by exact trivial) (pc' := 165) rfl ?_
        exact hp_lf [] rfl (fun _ e => e)
      · refine hp_cVP (M2 := M_In_reaches) hm (at1 10 rfl) (as := []) (rest := [(.ref 182)]) (z := 182) rfl (by exact trivial) (pc' := 154) rfl 2 rfl (lw_g (lw_at lw_m7 148 rfl) rfl) y_In_reaches rfl (d2 := 2) ⟨le_b rfl, pd_In_reaches, le_b rfl⟩ (le_b rfl) og_182 (k_In_reaches h6) (fun a13 => ?_)
        refine hp_if_eq hm at0 rfl (by exact trivial) (pc' := 157) rfl 4 rfl (tgt := 164) rfl (fun c14 => ?_) (fun c14 => ?_)
        · refine hp_b hm (at1 9 rfl) (L' := [(0, (.ref 182)), (1, (.int x1)), (2, (.long x2)), (4, (.long x3))]) (st' := [(.int (0 : Int32)), (.ref 182)]) rfl (by exact trivial) (pc' := 165) rfl ?_
          exact hp_lf [] rfl (fun _ e => e)
        · refine hp_b hm (at1 11 rfl) (L' := [(0, (.ref 182)), (1, (.int x1)), (2, (.long x2)), (4, (.long x3))]) (st' := [(.int (1 : Int32)), (.ref 182)]) rfl (by exact trivial) (pc' := 161) rfl ?_
          refine hp_goto hm 3 rfl (tgt := 165) rfl ?_
          exact hp_lf [] rfl (fun _ e => e)
    · refine hp_GW hm (at1 12 rfl) (L' := []) rfl (fun hP => (by exact ⟨og_182, hP⟩)) (pc' := 168) rfl (fun q16 h7 => ?_)
      exact hp_ir hm (at1 13 rfl) rfl (by exact trivial) (pc' := 169) rfl 6 rfl rfl (vp_nar_int _) (fun _ e => e)
  · refine hp_cNP (M2 := M_HH_signOf) hm (at1 14 rfl) (as := [(.long (((rdL h6 182 14) + ((2 : Int64) * (rdL h6 182 15))) + (rdL h6 182 16)))]) (rest := []) rfl (by exact ⟨⟨og_182, og_182⟩, og_182⟩) (pc' := 188) rfl 7 rfl (hmn_10_131) y_HH_signOf rfl (d2 := 1) ⟨le_b rfl, pd_HH_signOf, le_b rfl⟩ (le_b rfl) (k_HH_signOf (((rdL h6 182 14) + ((2 : Int64) * (rdL h6 182 15))) + (rdL h6 182 16)) h6) (fun a17 => ?_)
    refine hp_b hm (at1 15 rfl) (L' := [(6, (.int a17)), (0, (.ref 182)), (1, (.int x1)), (2, (.long x2)), (4, (.long x3))]) (st' := [(.int (lg_cmp (rdL h6 182 14) (0 : Int64)))]) rfl (by exact og_182) (pc' := 199) rfl ?_
    refine hp_J 243 (fun (p18 : Int32) => [(0, (.ref 182)), (6, (.int a17))]) (fun (p18 : Int32) => [(.int p18)]) (fun (p18 : Int32) => h6) ?_ (fun p18 => ?_)
    · refine hp_lc_eq hm at0 rfl (by exact trivial) (pc' := 199) rfl 15 rfl (tgt := 242) rfl (fun c25 => ?_) (fun c25 => ?_)
      · refine hp_b hm (at1 16 rfl) (L' := [(6, (.int a17)), (0, (.ref 182)), (1, (.int x1)), (2, (.long x2)), (4, (.long x3))]) (st' := [(.int (0 : Int32))]) rfl (by exact trivial) (pc' := 243) rfl ?_
        exact hp_lf [1, 0] rfl (fun _ e => e)
      · refine hp_cNP (M2 := M_HH_signOf) hm (at1 17 rfl) (as := [(.long (rdL h6 182 14))]) (rest := []) rfl (by exact og_182) (pc' := 206) rfl 8 rfl (hmn_10_131) y_HH_signOf rfl (d2 := 1) ⟨le_b rfl, pd_HH_signOf, le_b rfl⟩ (le_b rfl) (k_HH_signOf (rdL h6 182 14) h6) (fun a19 => ?_)
        refine hp_cNP (M2 := M_HH_signOf) hm (at1 18 rfl) (as := [(.long (rdL h6 182 15))]) (rest := [(.int a19)]) rfl (by exact og_182) (pc' := 213) rfl 9 rfl (hmn_10_131) y_HH_signOf rfl (d2 := 1) ⟨le_b rfl, pd_HH_signOf, le_b rfl⟩ (le_b rfl) (k_HH_signOf (rdL h6 182 15) h6) (fun a20 => ?_)
        refine hp_ic_ne hm (at1 19 rfl) rfl (by exact trivial) (pc' := 217) rfl 14 rfl (tgt := 242) rfl (fun c24 => ?_) (fun c24 => ?_)
        · refine hp_b hm (at1 16 rfl) (L' := [(6, (.int a17)), (0, (.ref 182)), (1, (.int x1)), (2, (.long x2)), (4, (.long x3))]) (st' := [(.int (0 : Int32))]) rfl (by exact trivial) (pc' := 243) rfl ?_
          exact hp_lf [1, 0] rfl (fun _ e => e)
        · refine hp_cSP (M2 := M_JM_abs) hm (at1 20 rfl) (as := [(.long (rdL h6 182 15))]) (rest := []) rfl (by exact og_182) (pc' := 224) rfl 10 rfl (lw_g (lw_at lw_m7 155 rfl) rfl) y_JM_abs rfl (d2 := 1) ⟨le_b rfl, pd_JM_abs, le_b rfl⟩ (le_b rfl) (k_JM_abs (rdL h6 182 15) h6) (fun a21 => ?_)
          refine hp_cSP (M2 := M_JM_abs) hm (at1 21 rfl) (as := [(.long (rdL h6 182 14))]) (rest := [(.long a21)]) rfl (by exact og_182) (pc' := 231) rfl 11 rfl (lw_g (lw_at lw_m7 155 rfl) rfl) y_JM_abs rfl (d2 := 1) ⟨le_b rfl, pd_JM_abs, le_b rfl⟩ (le_b rfl) (k_JM_abs (rdL h6 182 14) h6) (fun a22 => ?_)
          refine hp_lc_ge hm (at1 22 rfl) rfl (by exact trivial) (pc' := 235) rfl 13 rfl (tgt := 242) rfl (fun c23 => ?_) (fun c23 => ?_)
          · refine hp_b hm (at1 16 rfl) (L' := [(6, (.int a17)), (0, (.ref 182)), (1, (.int x1)), (2, (.long x2)), (4, (.long x3))]) (st' := [(.int (0 : Int32))]) rfl (by exact trivial) (pc' := 243) rfl ?_
            exact hp_lf [1, 0] rfl (fun _ e => e)
          · refine hp_b hm (at1 23 rfl) (L' := [(6, (.int a17)), (0, (.ref 182)), (1, (.int x1)), (2, (.long x2)), (4, (.long x3))]) (st' := [(.int (1 : Int32))]) rfl (by exact trivial) (pc' := 239) rfl ?_
            refine hp_goto hm 12 rfl (tgt := 243) rfl ?_
            exact hp_lf [1, 0] rfl (fun _ e => e)
    · refine hp_b hm (at1 24 rfl) (L' := [(7, (.int p18)), (0, (.ref 182)), (6, (.int a17))]) (st' := [(.int p18)]) rfl (by exact trivial) (pc' := 247) rfl ?_
      refine hp_if_ne hm at0 rfl (by exact trivial) (pc' := 247) rfl 37 rfl (tgt := 306) rfl (fun c43 => ?_) (fun c43 => ?_)
      · refine hp_cNP (M2 := M_HH_signOf) hm (at1 25 rfl) (as := [(.long (((rdL h6 182 14) * (rdL h6 182 16)) - ((rdL h6 182 15) * (rdL h6 182 15))))]) (rest := []) rfl (by exact ⟨⟨⟨og_182, og_182⟩, og_182⟩, og_182⟩) (pc' := 325) rfl 16 rfl (hmn_10_131) y_HH_signOf rfl (d2 := 1) ⟨le_b rfl, pd_HH_signOf, le_b rfl⟩ (le_b rfl) (k_HH_signOf (((rdL h6 182 14) * (rdL h6 182 16)) - ((rdL h6 182 15) * (rdL h6 182 15))) h6) (fun a26 => ?_)
        refine hp_cNP (M2 := M_HH_signOf) hm (at1 26 rfl) (as := [(.long (rdL h6 182 14))]) (rest := [(.int a26)]) rfl (by exact og_182) (pc' := 332) rfl 17 rfl (hmn_10_131) y_HH_signOf rfl (d2 := 1) ⟨le_b rfl, pd_HH_signOf, le_b rfl⟩ (le_b rfl) (k_HH_signOf (rdL h6 182 14) h6) (fun a27 => ?_)
        refine hp_z hm (at1 27 rfl) (fun (v28 : Int32) => [(8, (.int v28)), (7, (.int p18)), (0, (.ref 182)), (6, (.int a17))]) (fun (v28 : Int32) => []) rfl (by exact trivial) (pc' := 338) rfl (fun v28 => ?_)
        refine hp_cNP (M2 := M_HH_signOf) hm (at1 28 rfl) (as := [(.long (rdL h6 182 16))]) (rest := [(.ref 182)]) rfl (by exact og_182) (pc' := 343) rfl 18 rfl (hmn_10_131) y_HH_signOf rfl (d2 := 1) ⟨le_b rfl, pd_HH_signOf, le_b rfl⟩ (le_b rfl) (k_HH_signOf (rdL h6 182 16) h6) (fun a29 => ?_)
        refine hp_JZ 362 (fun (p30 : Int32) => [(0, (.ref 182)), (6, (.int a17)), (8, (.int v28))]) (fun (p30 : Int32) => [(.int p30), (.int v28), (.int a29), (.ref 182)]) (fun (p30 : Int32) => h6) ?_ (fun p30 => ?_)
        · refine hp_sv0 ?_
          refine hp_lc_le hm (at1 29 rfl) rfl (by exact og_182) (pc' := 354) rfl 20 rfl (tgt := 361) rfl (fun c31 => ?_) (fun c31 => ?_)
          · refine hp_b hm (at1 30 rfl) (L' := [(8, (.int v28)), (7, (.int p18)), (0, (.ref 182)), (6, (.int a17))]) (st' := [(.int (0 : Int32)), (.int v28), (.int a29), (.ref 182)]) rfl (by exact trivial) (pc' := 362) rfl ?_
            exact hp_lf [2, 3, 0] rfl (fun _ e => e)
          · refine hp_b hm (at1 31 rfl) (L' := [(8, (.int v28)), (7, (.int p18)), (0, (.ref 182)), (6, (.int a17))]) (st' := [(.int (1 : Int32)), (.int v28), (.int a29), (.ref 182)]) rfl (by exact trivial) (pc' := 358) rfl ?_
            refine hp_goto hm 19 rfl (tgt := 362) rfl ?_
            exact hp_lf [2, 3, 0] rfl (fun _ e => e)
        · refine hp_cVS (M2 := M_In_piece) hm (at1 32 rfl) (as := [(.int a29), (.int v28), (.int p30), (.int (0 : Int32)), (.int (2 : Int32))]) (rest := []) (z := 182) rfl (by exact trivial) (pc' := 364) rfl 21 rfl (lw_g (lw_at lw_m7 156 rfl) rfl) y_In_piece rfl (d2 := 4) ⟨le_b rfl, pd_In_piece, le_b rfl⟩ (le_b rfl) og_182 (k_In_piece a29 v28 p30 (0 : Int32) (2 : Int32) h6) (fun a32 h8 => ?_)
          refine hp_b hm (at1 33 rfl) (L' := [(9, (.int a32)), (0, (.ref 182)), (6, (.int a17)), (8, (.int v28))]) (st' := [(.int (rdI h8 182 13))]) rfl (by exact og_182) (pc' := 373) rfl ?_
          refine hp_if_eq hm at0 rfl (by exact trivial) (pc' := 373) rfl 27 rfl (tgt := 380) rfl (fun c36 => ?_) (fun c36 => ?_)
          · refine hp_JZ 401 (fun (p33 : Int32) => []) (fun (p33 : Int32) => [(.int p33), (.int a17), (.int v28), (.ref 182), (.int a32)]) (fun (p33 : Int32) => h8) ?_ (fun p33 => ?_)
            · refine hp_sv0 ?_
              refine hp_lc_le hm (at1 34 rfl) rfl (by exact og_182) (pc' := 393) rfl 23 rfl (tgt := 400) rfl (fun c34 => ?_) (fun c34 => ?_)
              · refine hp_b hm (at1 35 rfl) (L' := [(9, (.int a32)), (0, (.ref 182)), (6, (.int a17)), (8, (.int v28))]) (st' := [(.int (0 : Int32)), (.int a17), (.int v28), (.ref 182), (.int a32)]) rfl (by exact trivial) (pc' := 401) rfl ?_
                exact hp_lf [] rfl (fun _ e => e)
              · refine hp_b hm (at1 36 rfl) (L' := [(9, (.int a32)), (0, (.ref 182)), (6, (.int a17)), (8, (.int v28))]) (st' := [(.int (1 : Int32)), (.int a17), (.int v28), (.ref 182), (.int a32)]) rfl (by exact trivial) (pc' := 397) rfl ?_
                refine hp_goto hm 22 rfl (tgt := 401) rfl ?_
                exact hp_lf [] rfl (fun _ e => e)
            · refine hp_cVS (M2 := M_In_piece) hm (at1 37 rfl) (as := [(.int v28), (.int a17), (.int p33), (.int (2 : Int32)), (.int (1 : Int32))]) (rest := [(.int a32)]) (z := 182) rfl (by exact trivial) (pc' := 403) rfl 24 rfl (lw_g (lw_at lw_m7 156 rfl) rfl) y_In_piece rfl (d2 := 4) ⟨le_b rfl, pd_In_piece, le_b rfl⟩ (le_b rfl) og_182 (k_In_piece v28 a17 p33 (2 : Int32) (1 : Int32) h8) (fun a35 h9 => ?_)
              refine hp_b hm (at1 38 rfl) (L' := []) (st' := [(.int (a32 + a35))]) rfl (by exact trivial) (pc' := 407) rfl ?_
              exact hp_ir hm at0 rfl (by exact trivial) (pc' := 407) rfl 25 rfl rfl (vp_nar_int _) (fun _ e => e)
          · refine hp_b hm (at1 39 rfl) (L' := [(9, (.int a32)), (0, (.ref 182)), (6, (.int a17)), (8, (.int v28))]) (st' := [(.int (0 : Int32))]) rfl (by exact trivial) (pc' := 377) rfl ?_
            refine hp_goto hm 26 rfl (tgt := 407) rfl ?_
            exact hp_ir hm at0 rfl (by exact trivial) (pc' := 407) rfl 25 rfl rfl (vp_nar_int _) (fun _ e => e)
      · refine hp_cNP (M2 := M_HH_signOf) hm (at1 40 rfl) (as := [(.long (rdL h6 182 16))]) (rest := [(.ref 182)]) rfl (by exact og_182) (pc' := 255) rfl 28 rfl (hmn_10_131) y_HH_signOf rfl (d2 := 1) ⟨le_b rfl, pd_HH_signOf, le_b rfl⟩ (le_b rfl) (k_HH_signOf (rdL h6 182 16) h6) (fun a37 => ?_)
        refine hp_JZ 300 (fun (p38 : Int32) => []) (fun (p38 : Int32) => [(.int p38), (.int a17), (.int a37), (.ref 182)]) (fun (p38 : Int32) => h6) ?_ (fun p38 => ?_)
        · refine hp_sv0 ?_
          refine hp_lc_eq hm (at1 41 rfl) rfl (by exact og_182) (pc' := 266) rfl 34 rfl (tgt := 286) rfl (fun c41 => ?_) (fun c41 => ?_)
          · refine hp_sv0 ?_
            refine hp_lc_le hm (at1 42 rfl) rfl (by exact og_182) (pc' := 292) rfl 30 rfl (tgt := 299) rfl (fun c39 => ?_) (fun c39 => ?_)
            · refine hp_b hm (at1 43 rfl) (L' := [(7, (.int p18)), (0, (.ref 182)), (6, (.int a17))]) (st' := [(.int (0 : Int32)), (.int a17), (.int a37), (.ref 182)]) rfl (by exact trivial) (pc' := 300) rfl ?_
              exact hp_lf [] rfl (fun _ e => e)
            · refine hp_b hm (at1 44 rfl) (L' := [(7, (.int p18)), (0, (.ref 182)), (6, (.int a17))]) (st' := [(.int (1 : Int32)), (.int a17), (.int a37), (.ref 182)]) rfl (by exact trivial) (pc' := 296) rfl ?_
              refine hp_goto hm 29 rfl (tgt := 300) rfl ?_
              exact hp_lf [] rfl (fun _ e => e)
          · refine hp_sv0 ?_
            refine hp_lc_le hm (at1 45 rfl) rfl (by exact og_182) (pc' := 275) rfl 33 rfl (tgt := 282) rfl (fun c40 => ?_) (fun c40 => ?_)
            · refine hp_b hm (at1 46 rfl) (L' := [(7, (.int p18)), (0, (.ref 182)), (6, (.int a17))]) (st' := [(.int (0 : Int32)), (.int a17), (.int a37), (.ref 182)]) rfl (by exact trivial) (pc' := 283) rfl ?_
              refine hp_goto hm 31 rfl (tgt := 300) rfl ?_
              exact hp_lf [] rfl (fun _ e => e)
            · refine hp_b hm (at1 47 rfl) (L' := [(7, (.int p18)), (0, (.ref 182)), (6, (.int a17))]) (st' := [(.int (1 : Int32)), (.int a17), (.int a37), (.ref 182)]) rfl (by exact trivial) (pc' := 279) rfl ?_
              refine hp_goto hm 32 rfl (tgt := 300) rfl ?_
              exact hp_lf [] rfl (fun _ e => e)
        · refine hp_cVS (M2 := M_In_piece) hm (at1 48 rfl) (as := [(.int a37), (.int a17), (.int p38), (.int (0 : Int32)), (.int (1 : Int32))]) (rest := []) (z := 182) rfl (by exact trivial) (pc' := 302) rfl 35 rfl (lw_g (lw_at lw_m7 156 rfl) rfl) y_In_piece rfl (d2 := 4) ⟨le_b rfl, pd_In_piece, le_b rfl⟩ (le_b rfl) og_182 (k_In_piece a37 a17 p38 (0 : Int32) (1 : Int32) h6) (fun a42 h10 => ?_)
          exact hp_ir hm at0 rfl (by exact trivial) (pc' := 305) rfl 36 rfl rfl (vp_nar_int _) (fun _ e => e)
/-! HintHouse$Inside.has(II)Z -/
def M_In_has : hM := (10, ⟨"HintHouse$Inside", "has", "(II)Z"⟩, prog_5_method_6_code, 5, (Option.some Jvm.ClassFile.FieldType.boolean), [], [(0, [(.aload_n 0, 1, 0, 0, 0, .null), (.iconst 0, 1, 0, 0, 0, (.int (0 : Int32))), (.putfield 87, 3, 10, 13, 1, .null)]), (5, [(.iconst 0, 1, 0, 0, 0, (.int (0 : Int32))), (.istore_n 3, 1, 0, 0, 0, .null), (.iconst 0, 1, 0, 0, 0, (.int (0 : Int32))), (.istore 4, 2, 0, 0, 0, .null)]), (10, [(.iload 4, 2, 0, 0, 0, .null), (.aload_n 0, 1, 0, 0, 0, .null), (.getfield 34, 3, 10, 7, 0, .null)]), (19, [(.aload_n 0, 1, 0, 0, 0, .null), (.getfield 87, 3, 10, 13, 1, .null)]), (26, [(.iload_n 3, 1, 0, 0, 0, .null), (.aload_n 0, 1, 0, 0, 0, .null), (.getfield 30, 3, 10, 6, 4, .null), (.iload 4, 2, 0, 0, 0, .null), (.baload, 1, 101, 0, 0, .null)]), (54, [(.aload_n 0, 1, 0, 0, 0, .null), (.iload 4, 2, 0, 0, 0, .null), (.iconst 2, 1, 0, 0, 0, (.int (2 : Int32))), (.iload_n 1, 1, 0, 0, 0, .null), (.imul, 1, 0, 0, 0, .null), (.i2l, 1, 0, 0, 0, .null), (.iconst 2, 1, 0, 0, 0, (.int (2 : Int32))), (.iload_n 2, 1, 0, 0, 0, .null), (.imul, 1, 0, 0, 0, .null), (.i2l, 1, 0, 0, 0, .null)]), (37, [(.aload_n 0, 1, 0, 0, 0, .null), (.iload 4, 2, 0, 0, 0, .null), (.iconst 2, 1, 0, 0, 0, (.int (2 : Int32))), (.iload_n 1, 1, 0, 0, 0, .null), (.imul, 1, 0, 0, 0, .null), (.i2l, 1, 0, 0, 0, .null), (.iconst 2, 1, 0, 0, 0, (.int (2 : Int32))), (.iload_n 2, 1, 0, 0, 0, .null), (.imul, 1, 0, 0, 0, .null), (.i2l, 1, 0, 0, 0, .null)]), (68, [(.iadd, 1, 0, 0, 0, .null), (.istore_n 3, 1, 0, 0, 0, .null)]), (70, [(.iinc 4 1, 3, 0, 0, 0, (.int (1 : Int32)))]), (76, [(.aload_n 0, 1, 0, 0, 0, .null), (.getfield 87, 3, 10, 13, 1, .null)]), (87, [(.iconst 1, 1, 0, 0, 0, (.int (1 : Int32)))]), (83, [(.iload_n 3, 1, 0, 0, 0, .null)]), (91, [(.iconst 0, 1, 0, 0, 0, (.int (0 : Int32)))])], [(23, .ifCond .ne 53, 3), (16, .if_icmp .ge 60, 3), (65, .invokevirtual 94, 3), (48, .invokevirtual 90, 3), (51, .goto 17, 3), (34, .ifCond .eq 20, 3), (73, .goto (-63), 3), (92, .ireturn, 1), (88, .goto 4, 3), (84, .ifCond .eq 7, 3), (80, .ifCond .ne 7, 3)])
set_option maxRecDepth 100000 in
theorem m_In_has : hx_mok M_In_has = true := by decide +kernel
theorem pd_In_has : (parseMethodDescriptor M_In_has.2.1.desc).map (fun q => q.parameters.length) = some 2 := by decide +kernel
theorem y_In_has : hx_okV M_In_has := ⟨⟨lw_g (lw_at lw_m7 136 rfl) rfl, lw_g (lw_at lw_m7 134 rfl) rfl, lw_g (lw_at lw_m7 135 rfl) rfl, lw_g (lw_at lw_m1 11 rfl) rfl, rfl, by decide, by decide, by decide⟩, rfl, by decide, plainFor_of_name (by decide)⟩
noncomputable def f_In_has (x1 : Int32) (x2 : Int32) (h : hH) : Option (Int32 × hH) :=
  lz (wrI h 182 13 (0 : Int32)) fun h1 =>
  bP (A := (Int32 × hH)) (
    wh (A := (Int32 × Int32 × hH)) (B := (Int32 × hH)) (fun p1 =>
        if (¬ ((rdI p1.2.2 182 7) ≤ p1.2.1) ∧ (rdI p1.2.2 182 13) = 0) then (
          gd (vp_in p1.2.1 220) <|
          bP (A := (Int32 × hH)) (
            if (rdI p1.2.2 189 (Int32.toNatClampNeg p1.2.1)) = 0 then (
              bS (f_In_acrossCurve p1.2.1 (Int32.toInt64 ((2 : Int32) * x1)) (Int32.toInt64 ((2 : Int32) * x2)) p1.2.2) fun a10 h2 =>
              some (a10, h2)
            ) else (
              bS (f_In_acrossLine p1.2.1 (Int32.toInt64 ((2 : Int32) * x1)) (Int32.toInt64 ((2 : Int32) * x2)) p1.2.2) fun a11 h3 =>
              some (a11, h3)
            )
          ) fun p9 =>
          lz (A := Int32) (p1.1 + p9.1) fun v13 =>
          lz (A := Int32) (p1.2.1 + (1 : Int32)) fun v14 =>
          some (.inl (v13, v14, p9.2))
        ) else (
          some (.inr (p1.1, p1.2.2))
        )
    ) ((0 : Int32), (0 : Int32), h1)
  ) fun p2 =>
  if (rdI p2.2 182 13) = 0 then (
    if p2.1 = 0 then (
      some ((0 : Int32), p2.2)
    ) else (
      some ((1 : Int32), p2.2)
    )
  ) else (
    some ((1 : Int32), p2.2)
  )
set_option maxRecDepth 20000 in
theorem k_In_has (x1 : Int32) (x2 : Int32) (h : hH) : hx_kS S0 M_In_has 6 NT [(.ref 182), (.int x1), (.int x2)] h (f_In_has x1 x2 h) cvI := by
  have hm := m_In_has
  show hx_P S0 M_In_has 6 0 [(0, (.ref 182)), (1, (.int x1)), (2, (.int x2))] [] NT h (f_In_has x1 x2 h) (hx_Rc cvI NT)
  unfold f_In_has
  refine hp_w hm (at1 0 rfl) (L' := [(0, (.ref 182)), (1, (.int x1)), (2, (.int x2))]) rfl (by exact ⟨og_182, (Or.inl rfl)⟩) (pc' := 5) rfl (fun h1 => ?_)
  refine hp_b hm (at1 1 rfl) (L' := [(4, (.int (0 : Int32))), (3, (.int (0 : Int32))), (0, (.ref 182)), (1, (.int x1)), (2, (.int x2))]) (st' := []) rfl (by exact trivial) (pc' := 10) rfl ?_
  refine hp_J 76 (fun (p2 : (Int32 × hH)) => [(0, (.ref 182)), (3, (.int p2.1))]) (fun (p2 : (Int32 × hH)) => []) (fun (p2 : (Int32 × hH)) => p2.2) ?_ (fun p2 => ?_)
  · refine hp_s [2, 3, 4, 1, 0] rfl (L' := [(0, (.ref 182)), (1, (.int x1)), (2, (.int x2)), (3, (.int (0 : Int32))), (4, (.int (0 : Int32)))]) ?_
    refine hp_wh (fun (p1 : (Int32 × Int32 × hH)) => [(0, (.ref 182)), (1, (.int x1)), (2, (.int x2)), (3, (.int p1.1)), (4, (.int p1.2.1))]) [] (fun (p1 : (Int32 × Int32 × hH)) => p1.2.2) (fun p1 => ?_) ((0 : Int32), (0 : Int32), h1)
    refine hp_cI (L0 := [(0, (.ref 182)), (1, (.int x1)), (2, (.int x2)), (3, (.int p1.1)), (4, (.int p1.2.1))]) (s0 := []) 26 76 ?_ (fun c7 => ?_) (fun c7 => ?_)
    · refine hp_nand ?_
      refine hp_ic_ge hm (at1 2 rfl) rfl (by exact og_182) (pc' := 16) rfl 1 rfl (tgt := 76) rfl (fun c4 => ?_) (fun c4 => ?_)
      · exact hp_l0 (fun _ e => e)
      · refine hp_dec ?_
        refine hp_if_ne hm (at1 3 rfl) rfl (by exact og_182) (pc' := 23) rfl 0 rfl (tgt := 76) rfl (fun c3 => ?_) (fun c3 => ?_)
        · exact hp_l0 (fun _ e => e)
        · exact hp_l0 (fun _ e => e)
    · refine hp_G hm (at1 4 rfl) (L' := [(0, (.ref 182)), (1, (.int x1)), (2, (.int x2)), (3, (.int p1.1)), (4, (.int p1.2.1))]) (st' := [(.int (rdI p1.2.2 189 (Int32.toNatClampNeg p1.2.1))), (.int p1.1)]) rfl (fun hP => (by exact ⟨og_182, ⟨og_189, hP⟩⟩)) (pc' := 34) rfl (fun q8 => ?_)
      refine hp_J 68 (fun (p9 : (Int32 × hH)) => [(0, (.ref 182)), (1, (.int x1)), (2, (.int x2)), (4, (.int p1.2.1))]) (fun (p9 : (Int32 × hH)) => [(.int p9.1), (.int p1.1)]) (fun (p9 : (Int32 × hH)) => p9.2) ?_ (fun p9 => ?_)
      · refine hp_if_eq hm at0 rfl (by exact trivial) (pc' := 34) rfl 5 rfl (tgt := 54) rfl (fun c12 => ?_) (fun c12 => ?_)
        · refine hp_cVS (M2 := M_In_acrossCurve) hm (at1 5 rfl) (as := [(.int p1.2.1), (.long (Int32.toInt64 ((2 : Int32) * x1))), (.long (Int32.toInt64 ((2 : Int32) * x2)))]) (rest := [(.int p1.1)]) (z := 182) rfl (by exact trivial) (pc' := 65) rfl 2 rfl (lw_g (lw_at lw_m7 143 rfl) rfl) y_In_acrossCurve rfl (d2 := 5) ⟨le_b rfl, pd_In_acrossCurve, le_b rfl⟩ (le_b rfl) og_182 (k_In_acrossCurve p1.2.1 (Int32.toInt64 ((2 : Int32) * x1)) (Int32.toInt64 ((2 : Int32) * x2)) p1.2.2) (fun a10 h2 => ?_)
          exact hp_lf [0, 1, 2, 4] rfl (fun _ e => e)
        · refine hp_cVS (M2 := M_In_acrossLine) hm (at1 6 rfl) (as := [(.int p1.2.1), (.long (Int32.toInt64 ((2 : Int32) * x1))), (.long (Int32.toInt64 ((2 : Int32) * x2)))]) (rest := [(.int p1.1)]) (z := 182) rfl (by exact trivial) (pc' := 48) rfl 3 rfl (lw_g (lw_at lw_m7 137 rfl) rfl) y_In_acrossLine rfl (d2 := 2) ⟨le_b rfl, pd_In_acrossLine, le_b rfl⟩ (le_b rfl) og_182 (k_In_acrossLine p1.2.1 (Int32.toInt64 ((2 : Int32) * x1)) (Int32.toInt64 ((2 : Int32) * x2)) p1.2.2) (fun a11 h3 => ?_)
          refine hp_goto hm 4 rfl (tgt := 68) rfl ?_
          exact hp_lf [0, 1, 2, 4] rfl (fun _ e => e)
      · refine hp_z hm (at1 7 rfl) (fun (v13 : Int32) => [(3, (.int v13)), (0, (.ref 182)), (1, (.int x1)), (2, (.int x2)), (4, (.int p1.2.1))]) (fun (v13 : Int32) => []) rfl (by exact trivial) (pc' := 70) rfl (fun v13 => ?_)
        refine hp_z hm (at1 8 rfl) (fun (v14 : Int32) => [(4, (.int v14)), (3, (.int v13)), (0, (.ref 182)), (1, (.int x1)), (2, (.int x2))]) (fun (v14 : Int32) => []) rfl (by exact trivial) (pc' := 73) rfl (fun v14 => ?_)
        refine hp_goto hm 6 rfl (tgt := 10) rfl ?_
        exact hp_lf [2, 3, 4, 1, 0] rfl (fun _ e => e)
    · exact hp_lf [0, 3] rfl (fun _ e => e)
  · refine hp_if_ne hm (at1 9 rfl) rfl (by exact og_182) (pc' := 80) rfl 10 rfl (tgt := 87) rfl (fun c16 => ?_) (fun c16 => ?_)
    · refine hp_b hm (at1 10 rfl) (L' := [(0, (.ref 182)), (3, (.int p2.1))]) (st' := [(.int (1 : Int32))]) rfl (by exact trivial) (pc' := 88) rfl ?_
      refine hp_goto hm 8 rfl (tgt := 92) rfl ?_
      exact hp_ir hm at0 rfl (by exact trivial) (pc' := 92) rfl 7 rfl rfl rfl (fun _ e => e)
    · refine hp_if_eq hm (at1 11 rfl) rfl (by exact trivial) (pc' := 84) rfl 9 rfl (tgt := 91) rfl (fun c15 => ?_) (fun c15 => ?_)
      · refine hp_b hm (at1 12 rfl) (L' := [(0, (.ref 182)), (3, (.int p2.1))]) (st' := [(.int (0 : Int32))]) rfl (by exact trivial) (pc' := 92) rfl ?_
        exact hp_ir hm at0 rfl (by exact trivial) (pc' := 92) rfl 7 rfl rfl rfl (fun _ e => e)
      · refine hp_b hm (at1 10 rfl) (L' := [(0, (.ref 182)), (3, (.int p2.1))]) (st' := [(.int (1 : Int32))]) rfl (by exact trivial) (pc' := 88) rfl ?_
        refine hp_goto hm 8 rfl (tgt := 92) rfl ?_
        exact hp_ir hm at0 rfl (by exact trivial) (pc' := 92) rfl 7 rfl rfl rfl (fun _ e => e)
/-! HintHouse.isIn(II)I -/
def M_HH_isIn : hM := (0, ⟨"HintHouse", "isIn", "(II)I"⟩, prog_1_method_23_code, 3, (Option.some Jvm.ClassFile.FieldType.int), [], [(0, [(.aload_n 0, 1, 0, 0, 0, .null), (.getfield 100, 3, 0, 7, 3, .null)]), (10, [(.iload_n 1, 1, 0, 0, 0, .null), (.i2l, 1, 0, 0, 0, .null), (.ldc2_w 305, 3, 0, 0, 0, (.long (-5000 : Int64))), (.ldc2_w 307, 3, 0, 0, 0, (.long (5000 : Int64)))]), (38, [(.bipush (-2), 2, 0, 0, 0, (.int (-2 : Int32)))]), (24, [(.iload_n 2, 1, 0, 0, 0, .null), (.i2l, 1, 0, 0, 0, .null), (.ldc2_w 305, 3, 0, 0, 0, (.long (-5000 : Int64))), (.ldc2_w 307, 3, 0, 0, 0, (.long (5000 : Int64)))]), (41, [(.aload_n 0, 1, 0, 0, 0, .null), (.getfield 61, 3, 0, 9, 4, .null), (.iload_n 1, 1, 0, 0, 0, .null), (.iload_n 2, 1, 0, 0, 0, .null)]), (57, [(.iconst 0, 1, 0, 0, 0, (.int (0 : Int32)))]), (53, [(.iconst 1, 1, 0, 0, 0, (.int (1 : Int32)))]), (7, [(.bipush (-3), 2, 0, 0, 0, (.int (-3 : Int32)))])], [(18, .invokestatic 79, 3), (40, .ireturn, 1), (32, .invokestatic 79, 3), (47, .invokevirtual 309, 3), (58, .ireturn, 1), (54, .goto 4, 3), (50, .ifCond .eq 7, 3), (35, .ifCond .ne 6, 3), (21, .ifCond .eq 17, 3), (9, .ireturn, 1), (4, .ifnonnull 6, 3)])
set_option maxRecDepth 100000 in
theorem m_HH_isIn : hx_mok M_HH_isIn = true := by decide +kernel
theorem pd_HH_isIn : (parseMethodDescriptor M_HH_isIn.2.1.desc).map (fun q => q.parameters.length) = some 2 := by decide +kernel
theorem y_HH_isIn : hx_okV M_HH_isIn := ⟨⟨lw_g (lw_at lw_m7 130 rfl) rfl, lw_g (lw_at lw_m7 128 rfl) rfl, lw_g (lw_at lw_m7 129 rfl) rfl, lw_g (lw_at lw_m1 1 rfl) rfl, rfl, by decide, by decide, by decide⟩, rfl, by decide, plainFor_of_name (by decide)⟩
noncomputable def f_HH_isIn (x1 : Int32) (x2 : Int32) (h : hH) : Option (Int32 × hH) :=
  if (rdP h 1 7) = 0 then (
    some ((-3 : Int32), h)
  ) else (
    bP (f_HH_within (Int32.toInt64 x1) (-5000 : Int64) (5000 : Int64)) fun a1 =>
    if a1 = 0 then (
      some ((-2 : Int32), h)
    ) else (
      bP (f_HH_within (Int32.toInt64 x2) (-5000 : Int64) (5000 : Int64)) fun a2 =>
      if a2 = 0 then (
        some ((-2 : Int32), h)
      ) else (
        bS (f_In_has x1 x2 h) fun a3 h1 =>
        if a3 = 0 then (
          some ((0 : Int32), h1)
        ) else (
          some ((1 : Int32), h1)
        )
      )
    )
  )
set_option maxRecDepth 20000 in
theorem k_HH_isIn (x1 : Int32) (x2 : Int32) (h : hH) : hx_kS S0 M_HH_isIn 7 NT [(.ref 1), (.int x1), (.int x2)] h (f_HH_isIn x1 x2 h) cvI := by
  have hm := m_HH_isIn
  show hx_P S0 M_HH_isIn 7 0 [(0, (.ref 1)), (1, (.int x1)), (2, (.int x2))] [] NT h (f_HH_isIn x1 x2 h) (hx_Rc cvI NT)
  unfold f_HH_isIn
  refine hp_nonnull hm (at1 0 rfl) rfl (by exact og_1) (pc' := 4) rfl 10 rfl (tgt := 10) rfl (fun c7 => ?_) (fun c7 => ?_)
  · refine hp_cSP (M2 := M_HH_within) hm (at1 1 rfl) (as := [(.long (Int32.toInt64 x1)), (.long (-5000 : Int64)), (.long (5000 : Int64))]) (rest := []) rfl (by exact trivial) (pc' := 18) rfl 0 rfl (lw_g (lw_at lw_m4 39 rfl) rfl) y_HH_within rfl (d2 := 1) ⟨le_b rfl, pd_HH_within, le_b rfl⟩ (le_b rfl) (k_HH_within (Int32.toInt64 x1) (-5000 : Int64) (5000 : Int64) h) (fun a1 => ?_)
    refine hp_if_eq hm at0 rfl (by exact trivial) (pc' := 21) rfl 8 rfl (tgt := 38) rfl (fun c6 => ?_) (fun c6 => ?_)
    · exact hp_ir hm (at1 2 rfl) rfl (by exact trivial) (pc' := 40) rfl 1 rfl rfl (vp_nar_int _) (fun _ e => e)
    · refine hp_cSP (M2 := M_HH_within) hm (at1 3 rfl) (as := [(.long (Int32.toInt64 x2)), (.long (-5000 : Int64)), (.long (5000 : Int64))]) (rest := []) rfl (by exact trivial) (pc' := 32) rfl 2 rfl (lw_g (lw_at lw_m4 39 rfl) rfl) y_HH_within rfl (d2 := 1) ⟨le_b rfl, pd_HH_within, le_b rfl⟩ (le_b rfl) (k_HH_within (Int32.toInt64 x2) (-5000 : Int64) (5000 : Int64) h) (fun a2 => ?_)
      refine hp_if_ne hm at0 rfl (by exact trivial) (pc' := 35) rfl 7 rfl (tgt := 41) rfl (fun c5 => ?_) (fun c5 => ?_)
      · refine hp_cVS (M2 := M_In_has) hm (at1 4 rfl) (as := [(.int x1), (.int x2)]) (rest := []) (z := 182) rfl (by exact og_1) (pc' := 47) rfl 3 rfl (lw_g (lw_at lw_m7 133 rfl) rfl) y_In_has rfl (d2 := 6) ⟨le_b rfl, pd_In_has, le_b rfl⟩ (le_b rfl) og_182 (k_In_has x1 x2 h) (fun a3 h1 => ?_)
        refine hp_if_eq hm at0 rfl (by exact trivial) (pc' := 50) rfl 6 rfl (tgt := 57) rfl (fun c4 => ?_) (fun c4 => ?_)
        · refine hp_b hm (at1 5 rfl) (L' := [(0, (.ref 1)), (1, (.int x1)), (2, (.int x2))]) (st' := [(.int (0 : Int32))]) rfl (by exact trivial) (pc' := 58) rfl ?_
          exact hp_ir hm at0 rfl (by exact trivial) (pc' := 58) rfl 4 rfl rfl (vp_nar_int _) (fun _ e => e)
        · refine hp_b hm (at1 6 rfl) (L' := [(0, (.ref 1)), (1, (.int x1)), (2, (.int x2))]) (st' := [(.int (1 : Int32))]) rfl (by exact trivial) (pc' := 54) rfl ?_
          refine hp_goto hm 5 rfl (tgt := 58) rfl ?_
          exact hp_ir hm at0 rfl (by exact trivial) (pc' := 58) rfl 4 rfl rfl (vp_nar_int _) (fun _ e => e)
      · exact hp_ir hm (at1 2 rfl) rfl (by exact trivial) (pc' := 40) rfl 1 rfl rfl (vp_nar_int _) (fun _ e => e)
  · exact hp_ir hm (at1 7 rfl) rfl (by exact trivial) (pc' := 9) rfl 9 rfl rfl (vp_nar_int _) (fun _ e => e)
/-! HintHouse.canvas(II)I -/
def M_HH_canvas : hM := (0, ⟨"HintHouse", "canvas", "(II)I"⟩, prog_1_method_24_code, 4, (Option.some Jvm.ClassFile.FieldType.int), [], [(0, [(.iload_n 1, 1, 0, 0, 0, .null), (.i2l, 1, 0, 0, 0, .null), (.lconst 1, 1, 0, 0, 0, (.long (1 : Int64))), (.ldc2_w 313, 3, 0, 0, 0, (.long (128 : Int64)))]), (24, [(.bipush (-2), 2, 0, 0, 0, (.int (-2 : Int32)))]), (12, [(.iload_n 2, 1, 0, 0, 0, .null), (.i2l, 1, 0, 0, 0, .null), (.lconst 1, 1, 0, 0, 0, (.long (1 : Int64))), (.ldc2_w 313, 3, 0, 0, 0, (.long (128 : Int64)))]), (27, [(.aload_n 0, 1, 0, 0, 0, .null), (.iload_n 1, 1, 0, 0, 0, .null), (.putfield 315, 3, 0, 14, 0, .null)]), (32, [(.aload_n 0, 1, 0, 0, 0, .null), (.iload_n 2, 1, 0, 0, 0, .null), (.putfield 318, 3, 0, 15, 0, .null)]), (37, [(.iconst 0, 1, 0, 0, 0, (.int (0 : Int32))), (.istore_n 3, 1, 0, 0, 0, .null)]), (39, [(.iload_n 3, 1, 0, 0, 0, .null), (.aload_n 0, 1, 0, 0, 0, .null), (.getfield 65, 3, 0, 16, 4, .null), (.arraylength, 1, 101, 0, 0, .null)]), (48, [(.aload_n 0, 1, 0, 0, 0, .null), (.getfield 65, 3, 0, 16, 4, .null), (.iload_n 3, 1, 0, 0, 0, .null), (.iconst 0, 1, 0, 0, 0, (.int (0 : Int32))), (.bastore, 1, 101, 0, 0, .null)]), (55, [(.iinc 3 1, 3, 0, 0, 0, (.int (1 : Int32)))]), (61, [(.iconst 1, 1, 0, 0, 0, (.int (1 : Int32)))])], [(6, .invokestatic 79, 3), (26, .ireturn, 1), (18, .invokestatic 79, 3), (58, .goto (-19), 3), (45, .if_icmp .ge 16, 3), (62, .ireturn, 1), (21, .ifCond .ne 6, 3), (9, .ifCond .eq 15, 3)])
set_option maxRecDepth 100000 in
theorem m_HH_canvas : hx_mok M_HH_canvas = true := by decide +kernel
theorem pd_HH_canvas : (parseMethodDescriptor M_HH_canvas.2.1.desc).map (fun q => q.parameters.length) = some 2 := by decide +kernel
theorem y_HH_canvas : hx_okV M_HH_canvas := ⟨⟨lw_g (lw_at lw_m7 180 rfl) rfl, lw_g (lw_at lw_m7 178 rfl) rfl, lw_g (lw_at lw_m7 179 rfl) rfl, lw_g (lw_at lw_m1 1 rfl) rfl, rfl, by decide, by decide, by decide⟩, rfl, by decide, plainFor_of_name (by decide)⟩
noncomputable def f_HH_canvas (x1 : Int32) (x2 : Int32) (h : hH) : Option (Int32 × hH) :=
  bP (f_HH_within (Int32.toInt64 x1) (1 : Int64) (128 : Int64)) fun a1 =>
  if a1 = 0 then (
    some ((-2 : Int32), h)
  ) else (
    bP (f_HH_within (Int32.toInt64 x2) (1 : Int64) (128 : Int64)) fun a2 =>
    if a2 = 0 then (
      some ((-2 : Int32), h)
    ) else (
      lz (wrI h 1 14 x1) fun h1 =>
      lz (wrI h1 1 15 x2) fun h2 =>
      bP (A := hH) (
        wh (A := (Int32 × hH)) (B := hH) (fun p3 =>
            if (Int32.ofNat 16384) ≤ p3.1 then (
              some (.inr p3.2)
            ) else (
              gd (vp_in p3.1 16384) <|
              lz (wrI p3.2 190 (Int32.toNatClampNeg p3.1) ((0 : Int32) &&& 1)) fun h3 =>
              lz (A := Int32) (p3.1 + (1 : Int32)) fun v6 =>
              some (.inl (v6, h3))
            )
        ) ((0 : Int32), h2)
      ) fun p4 =>
      some ((1 : Int32), p4)
    )
  )
set_option maxRecDepth 20000 in
theorem k_HH_canvas (x1 : Int32) (x2 : Int32) (h : hH) : hx_kS S0 M_HH_canvas 2 NT [(.ref 1), (.int x1), (.int x2)] h (f_HH_canvas x1 x2 h) cvI := by
  have hm := m_HH_canvas
  show hx_P S0 M_HH_canvas 2 0 [(0, (.ref 1)), (1, (.int x1)), (2, (.int x2))] [] NT h (f_HH_canvas x1 x2 h) (hx_Rc cvI NT)
  unfold f_HH_canvas
  refine hp_cSP (M2 := M_HH_within) hm (at1 0 rfl) (as := [(.long (Int32.toInt64 x1)), (.long (1 : Int64)), (.long (128 : Int64))]) (rest := []) rfl (by exact trivial) (pc' := 6) rfl 0 rfl (lw_g (lw_at lw_m4 39 rfl) rfl) y_HH_within rfl (d2 := 1) ⟨le_b rfl, pd_HH_within, le_b rfl⟩ (le_b rfl) (k_HH_within (Int32.toInt64 x1) (1 : Int64) (128 : Int64) h) (fun a1 => ?_)
  refine hp_if_eq hm at0 rfl (by exact trivial) (pc' := 9) rfl 7 rfl (tgt := 24) rfl (fun c9 => ?_) (fun c9 => ?_)
  · exact hp_ir hm (at1 1 rfl) rfl (by exact trivial) (pc' := 26) rfl 1 rfl rfl (vp_nar_int _) (fun _ e => e)
  · refine hp_cSP (M2 := M_HH_within) hm (at1 2 rfl) (as := [(.long (Int32.toInt64 x2)), (.long (1 : Int64)), (.long (128 : Int64))]) (rest := []) rfl (by exact trivial) (pc' := 18) rfl 2 rfl (lw_g (lw_at lw_m4 39 rfl) rfl) y_HH_within rfl (d2 := 1) ⟨le_b rfl, pd_HH_within, le_b rfl⟩ (le_b rfl) (k_HH_within (Int32.toInt64 x2) (1 : Int64) (128 : Int64) h) (fun a2 => ?_)
    refine hp_if_ne hm at0 rfl (by exact trivial) (pc' := 21) rfl 6 rfl (tgt := 27) rfl (fun c8 => ?_) (fun c8 => ?_)
    · refine hp_w hm (at1 3 rfl) (L' := [(0, (.ref 1)), (1, (.int x1)), (2, (.int x2))]) rfl (by exact og_1) (pc' := 32) rfl (fun h1 => ?_)
      refine hp_w hm (at1 4 rfl) (L' := [(0, (.ref 1)), (1, (.int x1)), (2, (.int x2))]) rfl (by exact og_1) (pc' := 37) rfl (fun h2 => ?_)
      refine hp_b hm (at1 5 rfl) (L' := [(3, (.int (0 : Int32))), (0, (.ref 1)), (1, (.int x1)), (2, (.int x2))]) (st' := []) rfl (by exact trivial) (pc' := 39) rfl ?_
      refine hp_J 61 (fun (p4 : hH) => []) (fun (p4 : hH) => []) (fun (p4 : hH) => p4) ?_ (fun p4 => ?_)
      · refine hp_s [1, 0] rfl (L' := [(0, (.ref 1)), (3, (.int (0 : Int32)))]) ?_
        refine hp_wh (fun (p3 : (Int32 × hH)) => [(0, (.ref 1)), (3, (.int p3.1))]) [] (fun (p3 : (Int32 × hH)) => p3.2) (fun p3 => ?_) ((0 : Int32), h2)
        refine hp_ic_ge hm (at1 6 rfl) rfl (by exact ⟨og_1, og_190⟩) (pc' := 45) rfl 4 rfl (tgt := 61) rfl (fun c7 => ?_) (fun c7 => ?_)
        · exact hp_lf [] rfl (fun _ e => e)
        · refine hp_GW hm (at1 7 rfl) (L' := [(0, (.ref 1)), (3, (.int p3.1))]) rfl (fun hP => (by exact ⟨og_1, ⟨og_190, hP⟩⟩)) (pc' := 55) rfl (fun q5 h3 => ?_)
          refine hp_z hm (at1 8 rfl) (fun (v6 : Int32) => [(3, (.int v6)), (0, (.ref 1))]) (fun (v6 : Int32) => []) rfl (by exact trivial) (pc' := 58) rfl (fun v6 => ?_)
          refine hp_goto hm 3 rfl (tgt := 39) rfl ?_
          exact hp_lf [1, 0] rfl (fun _ e => e)
      · exact hp_ir hm (at1 9 rfl) rfl (by exact trivial) (pc' := 62) rfl 5 rfl rfl (vp_nar_int _) (fun _ e => e)
    · exact hp_ir hm (at1 1 rfl) rfl (by exact trivial) (pc' := 26) rfl 1 rfl rfl (vp_nar_int _) (fun _ e => e)
/-! HintHouse.isPen(II)Z -/
def M_HH_isPen : hM := (0, ⟨"HintHouse", "isPen", "(II)Z"⟩, prog_1_method_25_code, 3, (Option.some Jvm.ClassFile.FieldType.boolean), [], [(0, [(.iload_n 1, 1, 0, 0, 0, .null), (.i2l, 1, 0, 0, 0, .null), (.ldc2_w 321, 3, 0, 0, 0, (.long (-20000 : Int64))), (.ldc2_w 323, 3, 0, 0, 0, (.long (20000 : Int64)))]), (32, [(.iconst 0, 1, 0, 0, 0, (.int (0 : Int32)))]), (14, [(.iload_n 2, 1, 0, 0, 0, .null), (.i2l, 1, 0, 0, 0, .null), (.ldc2_w 321, 3, 0, 0, 0, (.long (-20000 : Int64))), (.ldc2_w 323, 3, 0, 0, 0, (.long (20000 : Int64)))]), (28, [(.iconst 1, 1, 0, 0, 0, (.int (1 : Int32)))])], [(8, .invokestatic 79, 3), (33, .ireturn, 1), (22, .invokestatic 79, 3), (29, .goto 4, 3), (25, .ifCond .eq 7, 3), (11, .ifCond .eq 21, 3)])
set_option maxRecDepth 100000 in
theorem m_HH_isPen : hx_mok M_HH_isPen = true := by decide +kernel
theorem pd_HH_isPen : (parseMethodDescriptor M_HH_isPen.2.1.desc).map (fun q => q.parameters.length) = some 2 := by decide +kernel
theorem y_HH_isPen : hx_okV M_HH_isPen := ⟨⟨lw_g (lw_at lw_m7 189 rfl) rfl, lw_g (lw_at lw_m7 188 rfl) rfl, qs119, lw_g (lw_at lw_m1 1 rfl) rfl, rfl, by decide, by decide, by decide⟩, rfl, by decide, plainFor_of_name (by decide)⟩
noncomputable def f_HH_isPen (x1 : Int32) (x2 : Int32) : Option Int32 :=
  bP (f_HH_within (Int32.toInt64 x1) (-20000 : Int64) (20000 : Int64)) fun a1 =>
  if a1 = 0 then (
    some (0 : Int32)
  ) else (
    bP (f_HH_within (Int32.toInt64 x2) (-20000 : Int64) (20000 : Int64)) fun a2 =>
    if a2 = 0 then (
      some (0 : Int32)
    ) else (
      some (1 : Int32)
    )
  )
set_option maxRecDepth 20000 in
theorem k_HH_isPen (x1 : Int32) (x2 : Int32) (h : hH) : hx_kP S0 M_HH_isPen 2 NT [(.ref 1), (.int x1), (.int x2)] h (f_HH_isPen x1 x2) cvI := by
  have hm := m_HH_isPen
  show hx_P S0 M_HH_isPen 2 0 [(0, (.ref 1)), (1, (.int x1)), (2, (.int x2))] [] NT h (f_HH_isPen x1 x2) (hx_Rp cvI NT h)
  unfold f_HH_isPen
  refine hp_cSP (M2 := M_HH_within) hm (at1 0 rfl) (as := [(.long (Int32.toInt64 x1)), (.long (-20000 : Int64)), (.long (20000 : Int64))]) (rest := []) rfl (by exact trivial) (pc' := 8) rfl 0 rfl (lw_g (lw_at lw_m4 39 rfl) rfl) y_HH_within rfl (d2 := 1) ⟨le_b rfl, pd_HH_within, le_b rfl⟩ (le_b rfl) (k_HH_within (Int32.toInt64 x1) (-20000 : Int64) (20000 : Int64) h) (fun a1 => ?_)
  refine hp_if_eq hm at0 rfl (by exact trivial) (pc' := 11) rfl 5 rfl (tgt := 32) rfl (fun c4 => ?_) (fun c4 => ?_)
  · refine hp_b hm (at1 1 rfl) (L' := [(0, (.ref 1)), (1, (.int x1)), (2, (.int x2))]) (st' := [(.int (0 : Int32))]) rfl (by exact trivial) (pc' := 33) rfl ?_
    exact hp_ir hm at0 rfl (by exact trivial) (pc' := 33) rfl 1 rfl rfl rfl (fun _ e => e)
  · refine hp_cSP (M2 := M_HH_within) hm (at1 2 rfl) (as := [(.long (Int32.toInt64 x2)), (.long (-20000 : Int64)), (.long (20000 : Int64))]) (rest := []) rfl (by exact trivial) (pc' := 22) rfl 2 rfl (lw_g (lw_at lw_m4 39 rfl) rfl) y_HH_within rfl (d2 := 1) ⟨le_b rfl, pd_HH_within, le_b rfl⟩ (le_b rfl) (k_HH_within (Int32.toInt64 x2) (-20000 : Int64) (20000 : Int64) h) (fun a2 => ?_)
    refine hp_if_eq hm at0 rfl (by exact trivial) (pc' := 25) rfl 4 rfl (tgt := 32) rfl (fun c3 => ?_) (fun c3 => ?_)
    · refine hp_b hm (at1 1 rfl) (L' := [(0, (.ref 1)), (1, (.int x1)), (2, (.int x2))]) (st' := [(.int (0 : Int32))]) rfl (by exact trivial) (pc' := 33) rfl ?_
      exact hp_ir hm at0 rfl (by exact trivial) (pc' := 33) rfl 1 rfl rfl rfl (fun _ e => e)
    · refine hp_b hm (at1 3 rfl) (L' := [(0, (.ref 1)), (1, (.int x1)), (2, (.int x2))]) (st' := [(.int (1 : Int32))]) rfl (by exact trivial) (pc' := 29) rfl ?_
      refine hp_goto hm 3 rfl (tgt := 33) rfl ?_
      exact hp_ir hm at0 rfl (by exact trivial) (pc' := 33) rfl 1 rfl rfl rfl (fun _ e => e)
/-! HintHouse.drawNow(II)I -/
def M_HH_drawNow : hM := (0, ⟨"HintHouse", "drawNow", "(II)I"⟩, prog_1_method_27_code, 8, (Option.some Jvm.ClassFile.FieldType.int), [], [(0, [(.iconst 0, 1, 0, 0, 0, (.int (0 : Int32))), (.istore_n 3, 1, 0, 0, 0, .null), (.iconst 0, 1, 0, 0, 0, (.int (0 : Int32))), (.istore 4, 2, 0, 0, 0, .null)]), (5, [(.iload 4, 2, 0, 0, 0, .null), (.aload_n 0, 1, 0, 0, 0, .null), (.getfield 318, 3, 0, 15, 0, .null)]), (14, [(.bipush 64, 2, 0, 0, 0, (.int (64 : Int32))), (.iload 4, 2, 0, 0, 0, .null), (.imul, 1, 0, 0, 0, .null), (.bipush 32, 2, 0, 0, 0, (.int (32 : Int32))), (.iadd, 1, 0, 0, 0, .null), (.iload_n 2, 1, 0, 0, 0, .null), (.isub, 1, 0, 0, 0, .null), (.istore 5, 2, 0, 0, 0, .null)]), (26, [(.iconst 0, 1, 0, 0, 0, (.int (0 : Int32))), (.istore 6, 2, 0, 0, 0, .null)]), (29, [(.iload 6, 2, 0, 0, 0, .null), (.aload_n 0, 1, 0, 0, 0, .null), (.getfield 315, 3, 0, 14, 0, .null)]), (38, [(.iload 5, 2, 0, 0, 0, .null), (.i2l, 1, 0, 0, 0, .null), (.ldc2_w 331, 3, 0, 0, 0, (.long (-4096 : Int64))), (.ldc2_w 333, 3, 0, 0, 0, (.long (4096 : Int64)))]), (53, [(.bipush 64, 2, 0, 0, 0, (.int (64 : Int32))), (.iload 6, 2, 0, 0, 0, .null), (.imul, 1, 0, 0, 0, .null), (.bipush 32, 2, 0, 0, 0, (.int (32 : Int32))), (.iadd, 1, 0, 0, 0, .null), (.iload_n 1, 1, 0, 0, 0, .null), (.isub, 1, 0, 0, 0, .null), (.istore 7, 2, 0, 0, 0, .null)]), (65, [(.aload_n 0, 1, 0, 0, 0, .null), (.getfield 65, 3, 0, 16, 4, .null), (.sipush 128, 3, 0, 0, 0, (.int (128 : Int32))), (.iload 4, 2, 0, 0, 0, .null), (.imul, 1, 0, 0, 0, .null), (.iload 6, 2, 0, 0, 0, .null), (.iadd, 1, 0, 0, 0, .null), (.baload, 1, 101, 0, 0, .null)]), (82, [(.iload 7, 2, 0, 0, 0, .null), (.i2l, 1, 0, 0, 0, .null), (.ldc2_w 331, 3, 0, 0, 0, (.long (-4096 : Int64))), (.ldc2_w 333, 3, 0, 0, 0, (.long (4096 : Int64)))]), (97, [(.aload_n 0, 1, 0, 0, 0, .null), (.getfield 61, 3, 0, 9, 4, .null), (.iload 7, 2, 0, 0, 0, .null), (.iload 5, 2, 0, 0, 0, .null)]), (111, [(.aload_n 0, 1, 0, 0, 0, .null), (.getfield 65, 3, 0, 16, 4, .null), (.sipush 128, 3, 0, 0, 0, (.int (128 : Int32))), (.iload 4, 2, 0, 0, 0, .null), (.imul, 1, 0, 0, 0, .null), (.iload 6, 2, 0, 0, 0, .null), (.iadd, 1, 0, 0, 0, .null), (.iconst 1, 1, 0, 0, 0, (.int (1 : Int32))), (.bastore, 1, 101, 0, 0, .null)]), (126, [(.iinc 3 1, 3, 0, 0, 0, (.int (1 : Int32)))]), (129, [(.iinc 6 1, 3, 0, 0, 0, (.int (1 : Int32)))]), (135, [(.iinc 4 1, 3, 0, 0, 0, (.int (1 : Int32)))]), (141, [(.iload_n 3, 1, 0, 0, 0, .null)])], [(47, .invokestatic 79, 3), (50, .ifCond .eq 85, 3), (35, .if_icmp .ge 100, 3), (91, .invokestatic 79, 3), (105, .invokevirtual 309, 3), (108, .ifCond .eq 21, 3), (94, .ifCond .eq 35, 3), (79, .ifCond .ne 50, 3), (132, .goto (-103), 3), (138, .goto (-133), 3), (11, .if_icmp .ge 130, 3), (142, .ireturn, 1)])
set_option maxRecDepth 100000 in
theorem m_HH_drawNow : hx_mok M_HH_drawNow = true := by decide +kernel
theorem pd_HH_drawNow : (parseMethodDescriptor M_HH_drawNow.2.1.desc).map (fun q => q.parameters.length) = some 2 := by decide +kernel
theorem y_HH_drawNow : hx_okV M_HH_drawNow := ⟨⟨lw_g (lw_at lw_m7 195 rfl) rfl, lw_g (lw_at lw_m7 194 rfl) rfl, qs120, lw_g (lw_at lw_m1 1 rfl) rfl, rfl, by decide, by decide, by decide⟩, rfl, by decide, plainFor_of_name (by decide)⟩
noncomputable def f_HH_drawNow (x1 : Int32) (x2 : Int32) (h : hH) : Option (Int32 × hH) :=
  bP (A := (Int32 × hH)) (
    wh (A := (Int32 × Int32 × hH)) (B := (Int32 × hH)) (fun p1 =>
        if (rdI p1.2.2 1 15) ≤ p1.2.1 then (
          some (.inr (p1.1, p1.2.2))
        ) else (
          lz (A := Int32) ((((64 : Int32) * p1.2.1) + (32 : Int32)) - x2) fun v3 =>
          bP (A := (Int32 × hH)) (
            wh (A := (Int32 × Int32 × hH)) (B := (Int32 × hH)) (fun p4 =>
                cO (
                  if (rdI p4.2.2 1 14) ≤ p4.2.1 then (
                    some false
                  ) else (
                    bP (f_HH_within (Int32.toInt64 v3) (-4096 : Int64) (4096 : Int64)) fun a6 =>
                    if a6 = 0 then (
                      some false
                    ) else (
                      some true
                    )
                  )
                ) (
                  lz (A := Int32) ((((64 : Int32) * p4.2.1) + (32 : Int32)) - x1) fun v12 =>
                  gd (vp_in (((128 : Int32) * p1.2.1) + p4.2.1) 16384) <|
                  bP (A := (Int32 × hH)) (
                    cS (
                      if (rdI p4.2.2 190 (Int32.toNatClampNeg (((128 : Int32) * p1.2.1) + p4.2.1))) = 0 then (
                        bP (f_HH_within (Int32.toInt64 v12) (-4096 : Int64) (4096 : Int64)) fun a15 =>
                        cS (
                          if a15 = 0 then (
                            some (false, p4.2.2)
                          ) else (
                            bS (f_In_has v12 v3 p4.2.2) fun a16 h1 =>
                            if a16 = 0 then (
                              some (false, h1)
                            ) else (
                              some (true, h1)
                            )
                          )
                        ) (fun h3 =>
                          some (true, h3)
                        ) (fun h3 =>
                          some (false, h3)
                        )
                      ) else (
                        some (false, p4.2.2)
                      )
                    ) (fun h7 =>
                      gd (vp_in (((128 : Int32) * p1.2.1) + p4.2.1) 16384) <|
                      lz (wrI h7 190 (Int32.toNatClampNeg (((128 : Int32) * p1.2.1) + p4.2.1)) ((1 : Int32) &&& 1)) fun h8 =>
                      lz (A := Int32) (p4.1 + (1 : Int32)) fun v32 =>
                      some (v32, h8)
                    ) (fun h7 =>
                      some (p4.1, h7)
                    )
                  ) fun p14 =>
                  lz (A := Int32) (p4.2.1 + (1 : Int32)) fun v33 =>
                  some (.inl (p14.1, v33, p14.2))
                ) (
                  some (.inr (p4.1, p4.2.2))
                )
            ) (p1.1, (0 : Int32), p1.2.2)
          ) fun p5 =>
          lz (A := Int32) (p1.2.1 + (1 : Int32)) fun v34 =>
          some (.inl (p5.1, v34, p5.2))
        )
    ) ((0 : Int32), (0 : Int32), h)
  ) fun p2 =>
  some (p2.1, p2.2)
set_option maxRecDepth 20000 in
theorem k_HH_drawNow (x1 : Int32) (x2 : Int32) (h : hH) : hx_kS S0 M_HH_drawNow 7 NT [(.ref 1), (.int x1), (.int x2)] h (f_HH_drawNow x1 x2 h) cvI := by
  have hm := m_HH_drawNow
  show hx_P S0 M_HH_drawNow 7 0 [(0, (.ref 1)), (1, (.int x1)), (2, (.int x2))] [] NT h (f_HH_drawNow x1 x2 h) (hx_Rc cvI NT)
  unfold f_HH_drawNow
  refine hp_b hm (at1 0 rfl) (L' := [(4, (.int (0 : Int32))), (3, (.int (0 : Int32))), (0, (.ref 1)), (1, (.int x1)), (2, (.int x2))]) (st' := []) rfl (by exact trivial) (pc' := 5) rfl ?_
  refine hp_J 141 (fun (p2 : (Int32 × hH)) => [(3, (.int p2.1))]) (fun (p2 : (Int32 × hH)) => []) (fun (p2 : (Int32 × hH)) => p2.2) ?_ (fun p2 => ?_)
  · refine hp_s [2, 3, 4, 1, 0] rfl (L' := [(0, (.ref 1)), (1, (.int x1)), (2, (.int x2)), (3, (.int (0 : Int32))), (4, (.int (0 : Int32)))]) ?_
    refine hp_wh (fun (p1 : (Int32 × Int32 × hH)) => [(0, (.ref 1)), (1, (.int x1)), (2, (.int x2)), (3, (.int p1.1)), (4, (.int p1.2.1))]) [] (fun (p1 : (Int32 × Int32 × hH)) => p1.2.2) (fun p1 => ?_) ((0 : Int32), (0 : Int32), h)
    refine hp_ic_ge hm (at1 1 rfl) rfl (by exact og_1) (pc' := 11) rfl 10 rfl (tgt := 141) rfl (fun c35 => ?_) (fun c35 => ?_)
    · exact hp_lf [3] rfl (fun _ e => e)
    · refine hp_z hm (at1 2 rfl) (fun (v3 : Int32) => [(5, (.int v3)), (0, (.ref 1)), (1, (.int x1)), (2, (.int x2)), (3, (.int p1.1)), (4, (.int p1.2.1))]) (fun (v3 : Int32) => []) rfl (by exact trivial) (pc' := 26) rfl (fun v3 => ?_)
      refine hp_b hm (at1 3 rfl) (L' := [(6, (.int (0 : Int32))), (5, (.int v3)), (0, (.ref 1)), (1, (.int x1)), (2, (.int x2)), (3, (.int p1.1)), (4, (.int p1.2.1))]) (st' := []) rfl (by exact trivial) (pc' := 29) rfl ?_
      refine hp_J 135 (fun (p5 : (Int32 × hH)) => [(0, (.ref 1)), (1, (.int x1)), (2, (.int x2)), (3, (.int p5.1)), (4, (.int p1.2.1))]) (fun (p5 : (Int32 × hH)) => []) (fun (p5 : (Int32 × hH)) => p5.2) ?_ (fun p5 => ?_)
      · refine hp_s [2, 3, 4, 5, 6, 1, 0] rfl (L' := [(0, (.ref 1)), (1, (.int x1)), (2, (.int x2)), (3, (.int p1.1)), (4, (.int p1.2.1)), (5, (.int v3)), (6, (.int (0 : Int32)))]) ?_
        refine hp_wh (fun (p4 : (Int32 × Int32 × hH)) => [(0, (.ref 1)), (1, (.int x1)), (2, (.int x2)), (3, (.int p4.1)), (4, (.int p1.2.1)), (5, (.int v3)), (6, (.int p4.2.1))]) [] (fun (p4 : (Int32 × Int32 × hH)) => p4.2.2) (fun p4 => ?_) (p1.1, (0 : Int32), p1.2.2)
        refine hp_cO (L0 := [(0, (.ref 1)), (1, (.int x1)), (2, (.int x2)), (3, (.int p4.1)), (4, (.int p1.2.1)), (5, (.int v3)), (6, (.int p4.2.1))]) (s0 := []) 53 135 ?_ ?_ ?_
        · refine hp_ic_ge hm (at1 4 rfl) rfl (by exact og_1) (pc' := 35) rfl 2 rfl (tgt := 135) rfl (fun c8 => ?_) (fun c8 => ?_)
          · exact hp_l0 (fun _ e => e)
          · refine hp_cSP (M2 := M_HH_within) hm (at1 5 rfl) (as := [(.long (Int32.toInt64 v3)), (.long (-4096 : Int64)), (.long (4096 : Int64))]) (rest := []) rfl (by exact trivial) (pc' := 47) rfl 0 rfl (lw_g (lw_at lw_m4 39 rfl) rfl) y_HH_within rfl (d2 := 1) ⟨le_b rfl, pd_HH_within, le_b rfl⟩ (le_b rfl) (k_HH_within (Int32.toInt64 v3) (-4096 : Int64) (4096 : Int64) p4.2.2) (fun a6 => ?_)
            refine hp_if_eq hm at0 rfl (by exact trivial) (pc' := 50) rfl 1 rfl (tgt := 135) rfl (fun c7 => ?_) (fun c7 => ?_)
            · exact hp_l0 (fun _ e => e)
            · exact hp_l0 (fun _ e => e)
        · refine hp_z hm (at1 6 rfl) (fun (v12 : Int32) => [(7, (.int v12)), (0, (.ref 1)), (1, (.int x1)), (2, (.int x2)), (3, (.int p4.1)), (4, (.int p1.2.1)), (5, (.int v3)), (6, (.int p4.2.1))]) (fun (v12 : Int32) => []) rfl (by exact trivial) (pc' := 65) rfl (fun v12 => ?_)
          refine hp_G hm (at1 7 rfl) (L' := [(7, (.int v12)), (0, (.ref 1)), (1, (.int x1)), (2, (.int x2)), (3, (.int p4.1)), (4, (.int p1.2.1)), (5, (.int v3)), (6, (.int p4.2.1))]) (st' := [(.int (rdI p4.2.2 190 (Int32.toNatClampNeg (((128 : Int32) * p1.2.1) + p4.2.1))))]) rfl (fun hP => (by exact ⟨og_1, ⟨og_190, hP⟩⟩)) (pc' := 79) rfl (fun q13 => ?_)
          refine hp_J 129 (fun (p14 : (Int32 × hH)) => [(0, (.ref 1)), (1, (.int x1)), (2, (.int x2)), (3, (.int p14.1)), (4, (.int p1.2.1)), (5, (.int v3)), (6, (.int p4.2.1))]) (fun (p14 : (Int32 × hH)) => []) (fun (p14 : (Int32 × hH)) => p14.2) ?_ (fun p14 => ?_)
          · refine hp_cS (L0 := [(7, (.int v12)), (0, (.ref 1)), (1, (.int x1)), (2, (.int x2)), (3, (.int p4.1)), (4, (.int p1.2.1)), (5, (.int v3)), (6, (.int p4.2.1))]) (s0 := []) 111 129 ?_ (fun h7 => ?_) (fun h7 => ?_)
            · refine hp_if_ne hm at0 rfl (by exact trivial) (pc' := 79) rfl 7 rfl (tgt := 129) rfl (fun c22 => ?_) (fun c22 => ?_)
              · exact hp_l0 (fun _ e => e)
              · refine hp_cSP (M2 := M_HH_within) hm (at1 8 rfl) (as := [(.long (Int32.toInt64 v12)), (.long (-4096 : Int64)), (.long (4096 : Int64))]) (rest := []) rfl (by exact trivial) (pc' := 91) rfl 3 rfl (lw_g (lw_at lw_m4 39 rfl) rfl) y_HH_within rfl (d2 := 1) ⟨le_b rfl, pd_HH_within, le_b rfl⟩ (le_b rfl) (k_HH_within (Int32.toInt64 v12) (-4096 : Int64) (4096 : Int64) p4.2.2) (fun a15 => ?_)
                refine hp_cS (L0 := [(7, (.int v12)), (0, (.ref 1)), (1, (.int x1)), (2, (.int x2)), (3, (.int p4.1)), (4, (.int p1.2.1)), (5, (.int v3)), (6, (.int p4.2.1))]) (s0 := []) 111 129 ?_ (fun h3 => ?_) (fun h3 => ?_)
                · refine hp_if_eq hm at0 rfl (by exact trivial) (pc' := 94) rfl 6 rfl (tgt := 129) rfl (fun c18 => ?_) (fun c18 => ?_)
                  · exact hp_l0 (fun _ e => e)
                  · refine hp_cVS (M2 := M_In_has) hm (at1 9 rfl) (as := [(.int v12), (.int v3)]) (rest := []) (z := 182) rfl (by exact og_1) (pc' := 105) rfl 4 rfl (lw_g (lw_at lw_m7 133 rfl) rfl) y_In_has rfl (d2 := 6) ⟨le_b rfl, pd_In_has, le_b rfl⟩ (le_b rfl) og_182 (k_In_has v12 v3 p4.2.2) (fun a16 h1 => ?_)
                    refine hp_if_eq hm at0 rfl (by exact trivial) (pc' := 108) rfl 5 rfl (tgt := 129) rfl (fun c17 => ?_) (fun c17 => ?_)
                    · exact hp_l0 (fun _ e => e)
                    · exact hp_l0 (fun _ e => e)
                · exact hp_l0 (fun _ e => e)
                · exact hp_l0 (fun _ e => e)
            · refine hp_GW hm (at1 10 rfl) (L' := [(7, (.int v12)), (0, (.ref 1)), (1, (.int x1)), (2, (.int x2)), (3, (.int p4.1)), (4, (.int p1.2.1)), (5, (.int v3)), (6, (.int p4.2.1))]) rfl (fun hP => (by exact ⟨og_1, ⟨og_190, hP⟩⟩)) (pc' := 126) rfl (fun q31 h8 => ?_)
              refine hp_z hm (at1 11 rfl) (fun (v32 : Int32) => [(3, (.int v32)), (7, (.int v12)), (0, (.ref 1)), (1, (.int x1)), (2, (.int x2)), (4, (.int p1.2.1)), (5, (.int v3)), (6, (.int p4.2.1))]) (fun (v32 : Int32) => []) rfl (by exact trivial) (pc' := 129) rfl (fun v32 => ?_)
              exact hp_lf [2, 3, 4, 0, 5, 6, 7] rfl (fun _ e => e)
            · exact hp_lf [1, 2, 3, 4, 5, 6, 7] rfl (fun _ e => e)
          · refine hp_z hm (at1 12 rfl) (fun (v33 : Int32) => [(6, (.int v33)), (0, (.ref 1)), (1, (.int x1)), (2, (.int x2)), (3, (.int p14.1)), (4, (.int p1.2.1)), (5, (.int v3))]) (fun (v33 : Int32) => []) rfl (by exact trivial) (pc' := 132) rfl (fun v33 => ?_)
            refine hp_goto hm 8 rfl (tgt := 29) rfl ?_
            exact hp_lf [1, 2, 3, 4, 5, 6, 0] rfl (fun _ e => e)
        · exact hp_lf [0, 1, 2, 3, 4] rfl (fun _ e => e)
      · refine hp_z hm (at1 13 rfl) (fun (v34 : Int32) => [(4, (.int v34)), (0, (.ref 1)), (1, (.int x1)), (2, (.int x2)), (3, (.int p5.1))]) (fun (v34 : Int32) => []) rfl (by exact trivial) (pc' := 138) rfl (fun v34 => ?_)
        refine hp_goto hm 9 rfl (tgt := 5) rfl ?_
        exact hp_lf [1, 2, 3, 4, 0] rfl (fun _ e => e)
  · exact hp_ir hm (at1 14 rfl) rfl (by exact trivial) (pc' := 142) rfl 11 rfl rfl (vp_nar_int _) (fun _ e => e)
/-! HintHouse.draw(II)I -/
def M_HH_draw : hM := (0, ⟨"HintHouse", "draw", "(II)I"⟩, prog_1_method_26_code, 3, (Option.some Jvm.ClassFile.FieldType.int), [], [(0, [(.aload_n 0, 1, 0, 0, 0, .null), (.getfield 100, 3, 0, 7, 3, .null)]), (14, [(.bipush (-3), 2, 0, 0, 0, (.int (-3 : Int32)))]), (7, [(.aload_n 0, 1, 0, 0, 0, .null), (.getfield 315, 3, 0, 14, 0, .null)]), (17, [(.aload_n 0, 1, 0, 0, 0, .null), (.iload_n 1, 1, 0, 0, 0, .null), (.iload_n 2, 1, 0, 0, 0, .null)]), (35, [(.bipush (-2), 2, 0, 0, 0, (.int (-2 : Int32)))]), (26, [(.aload_n 0, 1, 0, 0, 0, .null), (.iload_n 1, 1, 0, 0, 0, .null), (.iload_n 2, 1, 0, 0, 0, .null)])], [(16, .ireturn, 1), (20, .invokevirtual 325, 3), (37, .ireturn, 1), (29, .invokevirtual 328, 3), (32, .goto 5, 3), (23, .ifCond .eq 12, 3), (11, .ifCond .ne 6, 3), (4, .ifnull 10, 3)])
set_option maxRecDepth 100000 in
theorem m_HH_draw : hx_mok M_HH_draw = true := by decide +kernel
theorem pd_HH_draw : (parseMethodDescriptor M_HH_draw.2.1.desc).map (fun q => q.parameters.length) = some 2 := by decide +kernel
theorem y_HH_draw : hx_okV M_HH_draw := ⟨⟨lw_g (lw_at lw_m7 185 rfl) rfl, lw_g (lw_at lw_m7 183 rfl) rfl, lw_g (lw_at lw_m7 184 rfl) rfl, lw_g (lw_at lw_m1 1 rfl) rfl, rfl, by decide, by decide, by decide⟩, rfl, by decide, plainFor_of_name (by decide)⟩
noncomputable def f_HH_draw (x1 : Int32) (x2 : Int32) (h : hH) : Option (Int32 × hH) :=
  if (rdP h 1 7) = 0 then (
    some ((-3 : Int32), h)
  ) else (
    if (rdI h 1 14) = 0 then (
      some ((-3 : Int32), h)
    ) else (
      bP (f_HH_isPen x1 x2) fun a1 =>
      if a1 = 0 then (
        some ((-2 : Int32), h)
      ) else (
        bS (f_HH_drawNow x1 x2 h) fun a2 h1 =>
        some (a2, h1)
      )
    )
  )
set_option maxRecDepth 20000 in
theorem k_HH_draw (x1 : Int32) (x2 : Int32) (h : hH) : hx_kS S0 M_HH_draw 8 NT [(.ref 1), (.int x1), (.int x2)] h (f_HH_draw x1 x2 h) cvI := by
  have hm := m_HH_draw
  show hx_P S0 M_HH_draw 8 0 [(0, (.ref 1)), (1, (.int x1)), (2, (.int x2))] [] NT h (f_HH_draw x1 x2 h) (hx_Rc cvI NT)
  unfold f_HH_draw
  refine hp_null hm (at1 0 rfl) rfl (by exact og_1) (pc' := 4) rfl 7 rfl (tgt := 14) rfl (fun c5 => ?_) (fun c5 => ?_)
  · exact hp_ir hm (at1 1 rfl) rfl (by exact trivial) (pc' := 16) rfl 0 rfl rfl (vp_nar_int _) (fun _ e => e)
  · refine hp_if_ne hm (at1 2 rfl) rfl (by exact og_1) (pc' := 11) rfl 6 rfl (tgt := 17) rfl (fun c4 => ?_) (fun c4 => ?_)
    · refine hp_cVP (M2 := M_HH_isPen) hm (at1 3 rfl) (as := [(.int x1), (.int x2)]) (rest := []) (z := 1) rfl (by exact trivial) (pc' := 20) rfl 1 rfl (lw_g (lw_at lw_m7 186 rfl) rfl) y_HH_isPen rfl (d2 := 2) ⟨le_b rfl, pd_HH_isPen, le_b rfl⟩ (le_b rfl) og_1 (k_HH_isPen x1 x2 h) (fun a1 => ?_)
      refine hp_if_eq hm at0 rfl (by exact trivial) (pc' := 23) rfl 5 rfl (tgt := 35) rfl (fun c3 => ?_) (fun c3 => ?_)
      · refine hp_b hm (at1 4 rfl) (L' := [(0, (.ref 1)), (1, (.int x1)), (2, (.int x2))]) (st' := [(.int (-2 : Int32))]) rfl (by exact trivial) (pc' := 37) rfl ?_
        exact hp_ir hm at0 rfl (by exact trivial) (pc' := 37) rfl 2 rfl rfl (vp_nar_int _) (fun _ e => e)
      · refine hp_cVS (M2 := M_HH_drawNow) hm (at1 5 rfl) (as := [(.int x1), (.int x2)]) (rest := []) (z := 1) rfl (by exact trivial) (pc' := 29) rfl 3 rfl (lw_g (lw_at lw_m7 192 rfl) rfl) y_HH_drawNow rfl (d2 := 7) ⟨le_b rfl, pd_HH_drawNow, le_b rfl⟩ (le_b rfl) og_1 (k_HH_drawNow x1 x2 h) (fun a2 h1 => ?_)
        refine hp_goto hm 4 rfl (tgt := 37) rfl ?_
        exact hp_ir hm at0 rfl (by exact trivial) (pc' := 37) rfl 2 rfl rfl (vp_nar_int _) (fun _ e => e)
    · exact hp_ir hm (at1 1 rfl) rfl (by exact trivial) (pc' := 16) rfl 0 rfl rfl (vp_nar_int _) (fun _ e => e)
/-! HintHouse.pixel(II)I -/
def M_HH_pixel : hM := (0, ⟨"HintHouse", "pixel", "(II)I"⟩, prog_1_method_28_code, 3, (Option.some Jvm.ClassFile.FieldType.int), [], [(0, [(.iload_n 1, 1, 0, 0, 0, .null), (.i2l, 1, 0, 0, 0, .null), (.lconst 0, 1, 0, 0, 0, (.long (0 : Int64))), (.aload_n 0, 1, 0, 0, 0, .null), (.getfield 315, 3, 0, 14, 0, .null), (.iconst 1, 1, 0, 0, 0, (.int (1 : Int32))), (.isub, 1, 0, 0, 0, .null), (.i2l, 1, 0, 0, 0, .null)]), (55, [(.iconst (-1), 1, 0, 0, 0, (.int (-1 : Int32)))]), (16, [(.iload_n 2, 1, 0, 0, 0, .null), (.i2l, 1, 0, 0, 0, .null), (.lconst 0, 1, 0, 0, 0, (.long (0 : Int64))), (.aload_n 0, 1, 0, 0, 0, .null), (.getfield 318, 3, 0, 15, 0, .null), (.iconst 1, 1, 0, 0, 0, (.int (1 : Int32))), (.isub, 1, 0, 0, 0, .null), (.i2l, 1, 0, 0, 0, .null)]), (32, [(.aload_n 0, 1, 0, 0, 0, .null), (.getfield 65, 3, 0, 16, 4, .null), (.sipush 128, 3, 0, 0, 0, (.int (128 : Int32))), (.iload_n 2, 1, 0, 0, 0, .null), (.imul, 1, 0, 0, 0, .null), (.iload_n 1, 1, 0, 0, 0, .null), (.iadd, 1, 0, 0, 0, .null), (.baload, 1, 101, 0, 0, .null)]), (51, [(.iconst 0, 1, 0, 0, 0, (.int (0 : Int32)))]), (47, [(.iconst 1, 1, 0, 0, 0, (.int (1 : Int32)))])], [(10, .invokestatic 79, 3), (56, .ireturn, 1), (26, .invokestatic 79, 3), (52, .goto 4, 3), (48, .goto 8, 3), (44, .ifCond .eq 7, 3), (29, .ifCond .eq 26, 3), (13, .ifCond .eq 42, 3)])
set_option maxRecDepth 100000 in
theorem m_HH_pixel : hx_mok M_HH_pixel = true := by decide +kernel
theorem pd_HH_pixel : (parseMethodDescriptor M_HH_pixel.2.1.desc).map (fun q => q.parameters.length) = some 2 := by decide +kernel
theorem y_HH_pixel : hx_okV M_HH_pixel := ⟨⟨lw_g (lw_at lw_m7 201 rfl) rfl, lw_g (lw_at lw_m7 199 rfl) rfl, lw_g (lw_at lw_m7 200 rfl) rfl, lw_g (lw_at lw_m1 1 rfl) rfl, rfl, by decide, by decide, by decide⟩, rfl, by decide, plainFor_of_name (by decide)⟩
noncomputable def f_HH_pixel (x1 : Int32) (x2 : Int32) (h : hH) : Option Int32 :=
  bP (f_HH_within (Int32.toInt64 x1) (0 : Int64) (Int32.toInt64 ((rdI h 1 14) - (1 : Int32)))) fun a1 =>
  if a1 = 0 then (
    some (-1 : Int32)
  ) else (
    bP (f_HH_within (Int32.toInt64 x2) (0 : Int64) (Int32.toInt64 ((rdI h 1 15) - (1 : Int32)))) fun a2 =>
    if a2 = 0 then (
      some (-1 : Int32)
    ) else (
      gd (vp_in (((128 : Int32) * x2) + x1) 16384) <|
      if (rdI h 190 (Int32.toNatClampNeg (((128 : Int32) * x2) + x1))) = 0 then (
        some (0 : Int32)
      ) else (
        some (1 : Int32)
      )
    )
  )
set_option maxRecDepth 20000 in
theorem k_HH_pixel (x1 : Int32) (x2 : Int32) (h : hH) : hx_kP S0 M_HH_pixel 2 NT [(.ref 1), (.int x1), (.int x2)] h (f_HH_pixel x1 x2 h) cvI := by
  have hm := m_HH_pixel
  show hx_P S0 M_HH_pixel 2 0 [(0, (.ref 1)), (1, (.int x1)), (2, (.int x2))] [] NT h (f_HH_pixel x1 x2 h) (hx_Rp cvI NT h)
  unfold f_HH_pixel
  refine hp_cSP (M2 := M_HH_within) hm (at1 0 rfl) (as := [(.long (Int32.toInt64 x1)), (.long (0 : Int64)), (.long (Int32.toInt64 ((rdI h 1 14) - (1 : Int32))))]) (rest := []) rfl (by exact og_1) (pc' := 10) rfl 0 rfl (lw_g (lw_at lw_m4 39 rfl) rfl) y_HH_within rfl (d2 := 1) ⟨le_b rfl, pd_HH_within, le_b rfl⟩ (le_b rfl) (k_HH_within (Int32.toInt64 x1) (0 : Int64) (Int32.toInt64 ((rdI h 1 14) - (1 : Int32))) h) (fun a1 => ?_)
  refine hp_if_eq hm at0 rfl (by exact trivial) (pc' := 13) rfl 7 rfl (tgt := 55) rfl (fun c6 => ?_) (fun c6 => ?_)
  · refine hp_b hm (at1 1 rfl) (L' := [(0, (.ref 1)), (1, (.int x1)), (2, (.int x2))]) (st' := [(.int (-1 : Int32))]) rfl (by exact trivial) (pc' := 56) rfl ?_
    exact hp_ir hm at0 rfl (by exact trivial) (pc' := 56) rfl 1 rfl rfl (vp_nar_int _) (fun _ e => e)
  · refine hp_cSP (M2 := M_HH_within) hm (at1 2 rfl) (as := [(.long (Int32.toInt64 x2)), (.long (0 : Int64)), (.long (Int32.toInt64 ((rdI h 1 15) - (1 : Int32))))]) (rest := []) rfl (by exact og_1) (pc' := 26) rfl 2 rfl (lw_g (lw_at lw_m4 39 rfl) rfl) y_HH_within rfl (d2 := 1) ⟨le_b rfl, pd_HH_within, le_b rfl⟩ (le_b rfl) (k_HH_within (Int32.toInt64 x2) (0 : Int64) (Int32.toInt64 ((rdI h 1 15) - (1 : Int32))) h) (fun a2 => ?_)
    refine hp_if_eq hm at0 rfl (by exact trivial) (pc' := 29) rfl 6 rfl (tgt := 55) rfl (fun c5 => ?_) (fun c5 => ?_)
    · refine hp_b hm (at1 1 rfl) (L' := [(0, (.ref 1)), (1, (.int x1)), (2, (.int x2))]) (st' := [(.int (-1 : Int32))]) rfl (by exact trivial) (pc' := 56) rfl ?_
      exact hp_ir hm at0 rfl (by exact trivial) (pc' := 56) rfl 1 rfl rfl (vp_nar_int _) (fun _ e => e)
    · refine hp_G hm (at1 3 rfl) (L' := [(0, (.ref 1)), (1, (.int x1)), (2, (.int x2))]) (st' := [(.int (rdI h 190 (Int32.toNatClampNeg (((128 : Int32) * x2) + x1))))]) rfl (fun hP => (by exact ⟨og_1, ⟨og_190, hP⟩⟩)) (pc' := 44) rfl (fun q3 => ?_)
      refine hp_if_eq hm at0 rfl (by exact trivial) (pc' := 44) rfl 5 rfl (tgt := 51) rfl (fun c4 => ?_) (fun c4 => ?_)
      · refine hp_b hm (at1 4 rfl) (L' := [(0, (.ref 1)), (1, (.int x1)), (2, (.int x2))]) (st' := [(.int (0 : Int32))]) rfl (by exact trivial) (pc' := 52) rfl ?_
        refine hp_goto hm 3 rfl (tgt := 56) rfl ?_
        exact hp_ir hm at0 rfl (by exact trivial) (pc' := 56) rfl 1 rfl rfl (vp_nar_int _) (fun _ e => e)
      · refine hp_b hm (at1 5 rfl) (L' := [(0, (.ref 1)), (1, (.int x1)), (2, (.int x2))]) (st' := [(.int (1 : Int32))]) rfl (by exact trivial) (pc' := 48) rfl ?_
        refine hp_goto hm 4 rfl (tgt := 56) rfl ?_
        exact hp_ir hm at0 rfl (by exact trivial) (pc' := 56) rfl 1 rfl rfl (vp_nar_int _) (fun _ e => e)
/-! HintHouse.type(I)I -/
def M_HH_type : hM := (0, ⟨"HintHouse", "type", "(I)I"⟩, prog_1_method_29_code, 2, (Option.some Jvm.ClassFile.FieldType.int), [], [(0, [(.iload_n 1, 1, 0, 0, 0, .null), (.i2l, 1, 0, 0, 0, .null), (.lconst 0, 1, 0, 0, 0, (.long (0 : Int64))), (.ldc2_w 146, 3, 0, 0, 0, (.long (1114111 : Int64)))]), (15, [(.aload_n 0, 1, 0, 0, 0, .null), (.getfield 335, 3, 0, 18, 0, .null), (.bipush 100, 2, 0, 0, 0, (.int (100 : Int32)))]), (27, [(.aload_n 0, 1, 0, 0, 0, .null), (.getfield 69, 3, 0, 17, 4, .null), (.aload_n 0, 1, 0, 0, 0, .null), (.getfield 335, 3, 0, 18, 0, .null), (.iload_n 1, 1, 0, 0, 0, .null), (.iastore, 1, 0, 0, 0, .null)]), (37, [(.aload_n 0, 1, 0, 0, 0, .null), (.dup, 1, 0, 0, 0, .null), (.getfield 335, 3, 0, 18, 0, .null), (.iconst 1, 1, 0, 0, 0, (.int (1 : Int32))), (.iadd, 1, 0, 0, 0, .null), (.putfield 335, 3, 0, 18, 0, .null)]), (47, [(.aload_n 0, 1, 0, 0, 0, .null), (.getfield 335, 3, 0, 18, 0, .null)]), (24, [(.bipush (-4), 2, 0, 0, 0, (.int (-4 : Int32)))]), (12, [(.bipush (-2), 2, 0, 0, 0, (.int (-2 : Int32)))])], [(6, .invokestatic 79, 3), (51, .ireturn, 1), (26, .ireturn, 1), (21, .if_icmp .ne 6, 3), (14, .ireturn, 1), (9, .ifCond .ne 6, 3)])
set_option maxRecDepth 100000 in
theorem m_HH_type : hx_mok M_HH_type = true := by decide +kernel
theorem pd_HH_type : (parseMethodDescriptor M_HH_type.2.1.desc).map (fun q => q.parameters.length) = some 1 := by decide +kernel
theorem y_HH_type : hx_okV M_HH_type := ⟨⟨lw_g (lw_at lw_m7 205 rfl) rfl, lw_g (lw_at lw_m7 203 rfl) rfl, lw_g (lw_at lw_m7 204 rfl) rfl, lw_g (lw_at lw_m1 1 rfl) rfl, rfl, by decide, by decide, by decide⟩, rfl, by decide, plainFor_of_name (by decide)⟩
noncomputable def f_HH_type (x1 : Int32) (h : hH) : Option (Int32 × hH) :=
  bP (f_HH_within (Int32.toInt64 x1) (0 : Int64) (1114111 : Int64)) fun a1 =>
  if a1 = 0 then (
    some ((-2 : Int32), h)
  ) else (
    if (rdI h 1 18) = (100 : Int32) then (
      some ((-4 : Int32), h)
    ) else (
      gd (vp_in (rdI h 1 18) 100) <|
      lz (wrI h 191 (Int32.toNatClampNeg (rdI h 1 18)) x1) fun h1 =>
      lz (wrI h1 1 18 ((rdI h1 1 18) + (1 : Int32))) fun h2 =>
      some ((rdI h2 1 18), h2)
    )
  )
set_option maxRecDepth 20000 in
theorem k_HH_type (x1 : Int32) (h : hH) : hx_kS S0 M_HH_type 2 NT [(.ref 1), (.int x1)] h (f_HH_type x1 h) cvI := by
  have hm := m_HH_type
  show hx_P S0 M_HH_type 2 0 [(0, (.ref 1)), (1, (.int x1))] [] NT h (f_HH_type x1 h) (hx_Rc cvI NT)
  unfold f_HH_type
  refine hp_cSP (M2 := M_HH_within) hm (at1 0 rfl) (as := [(.long (Int32.toInt64 x1)), (.long (0 : Int64)), (.long (1114111 : Int64))]) (rest := []) rfl (by exact trivial) (pc' := 6) rfl 0 rfl (lw_g (lw_at lw_m4 39 rfl) rfl) y_HH_within rfl (d2 := 1) ⟨le_b rfl, pd_HH_within, le_b rfl⟩ (le_b rfl) (k_HH_within (Int32.toInt64 x1) (0 : Int64) (1114111 : Int64) h) (fun a1 => ?_)
  refine hp_if_ne hm at0 rfl (by exact trivial) (pc' := 9) rfl 5 rfl (tgt := 15) rfl (fun c4 => ?_) (fun c4 => ?_)
  · refine hp_ic_ne hm (at1 1 rfl) rfl (by exact og_1) (pc' := 21) rfl 3 rfl (tgt := 27) rfl (fun c3 => ?_) (fun c3 => ?_)
    · refine hp_GW hm (at1 2 rfl) (L' := [(0, (.ref 1)), (1, (.int x1))]) rfl (fun hP => (by exact ⟨⟨og_1, og_1⟩, ⟨og_191, hP⟩⟩)) (pc' := 37) rfl (fun q2 h1 => ?_)
      refine hp_w hm (at1 3 rfl) (L' := [(0, (.ref 1)), (1, (.int x1))]) rfl (by exact ⟨og_1, og_1⟩) (pc' := 47) rfl (fun h2 => ?_)
      exact hp_ir hm (at1 4 rfl) rfl (by exact og_1) (pc' := 51) rfl 1 rfl rfl (vp_nar_int _) (fun _ e => e)
    · exact hp_ir hm (at1 5 rfl) rfl (by exact trivial) (pc' := 26) rfl 2 rfl rfl (vp_nar_int _) (fun _ e => e)
  · exact hp_ir hm (at1 6 rfl) rfl (by exact trivial) (pc' := 14) rfl 4 rfl rfl (vp_nar_int _) (fun _ e => e)
/-! HintHouseModel.in(JJJ)Z -/
def M_Mo_in : hM := (11, ⟨"HintHouseModel", "in", "(JJJ)Z"⟩, prog_13_method_3_code, 6, (Option.some Jvm.ClassFile.FieldType.boolean), [], [(0, [(.lload_n 0, 1, 0, 0, 0, .null), (.lload_n 2, 1, 0, 0, 0, .null), (.lcmp, 1, 0, 0, 0, .null)]), (17, [(.iconst 0, 1, 0, 0, 0, (.int (0 : Int32)))]), (6, [(.lload_n 0, 1, 0, 0, 0, .null), (.lload 4, 2, 0, 0, 0, .null), (.lcmp, 1, 0, 0, 0, .null)]), (13, [(.iconst 1, 1, 0, 0, 0, (.int (1 : Int32)))])], [(18, .ireturn, 1), (14, .goto 4, 3), (10, .ifCond .gt 7, 3), (3, .ifCond .lt 14, 3)])
set_option maxRecDepth 100000 in
theorem m_Mo_in : hx_mok M_Mo_in = true := by decide +kernel
theorem pd_Mo_in : (parseMethodDescriptor M_Mo_in.2.1.desc).map (fun q => q.parameters.length) = some 3 := by decide +kernel
theorem y_Mo_in : hx_okS M_Mo_in := ⟨⟨lw_g (lw_at lw_m9 186 rfl) rfl, lw_g (lw_at lw_m9 185 rfl) rfl, lw_g (lw_at lw_m1 12 rfl) rfl, by decide, by decide⟩, rfl, by decide, plainFor_of_name (by decide), rfl⟩
noncomputable def f_Mo_in (x1 : Int64) (x2 : Int64) (x3 : Int64) : Option Int32 :=
  if x1 < x2 then (
    some (0 : Int32)
  ) else (
    if x3 < x1 then (
      some (0 : Int32)
    ) else (
      some (1 : Int32)
    )
  )
set_option maxRecDepth 20000 in
theorem k_Mo_in (x1 : Int64) (x2 : Int64) (x3 : Int64) (h : hH) : hx_kP S0 M_Mo_in 1 NT [(.long x1), (.long x2), (.long x3)] h (f_Mo_in x1 x2 x3) cvI := by
  have hm := m_Mo_in
  show hx_P S0 M_Mo_in 1 0 [(0, (.long x1)), (2, (.long x2)), (4, (.long x3))] [] NT h (f_Mo_in x1 x2 x3) (hx_Rp cvI NT h)
  unfold f_Mo_in
  refine hp_lc_lt hm (at1 0 rfl) rfl (by exact trivial) (pc' := 3) rfl 3 rfl (tgt := 17) rfl (fun c2 => ?_) (fun c2 => ?_)
  · refine hp_b hm (at1 1 rfl) (L' := [(0, (.long x1)), (2, (.long x2)), (4, (.long x3))]) (st' := [(.int (0 : Int32))]) rfl (by exact trivial) (pc' := 18) rfl ?_
    exact hp_ir hm at0 rfl (by exact trivial) (pc' := 18) rfl 0 rfl rfl rfl (fun _ e => e)
  · refine hp_lc_gt hm (at1 2 rfl) rfl (by exact trivial) (pc' := 10) rfl 2 rfl (tgt := 17) rfl (fun c1 => ?_) (fun c1 => ?_)
    · refine hp_b hm (at1 1 rfl) (L' := [(0, (.long x1)), (2, (.long x2)), (4, (.long x3))]) (st' := [(.int (0 : Int32))]) rfl (by exact trivial) (pc' := 18) rfl ?_
      exact hp_ir hm at0 rfl (by exact trivial) (pc' := 18) rfl 0 rfl rfl rfl (fun _ e => e)
    · refine hp_b hm (at1 3 rfl) (L' := [(0, (.long x1)), (2, (.long x2)), (4, (.long x3))]) (st' := [(.int (1 : Int32))]) rfl (by exact trivial) (pc' := 14) rfl ?_
      refine hp_goto hm 1 rfl (tgt := 18) rfl ?_
      exact hp_ir hm at0 rfl (by exact trivial) (pc' := 18) rfl 0 rfl rfl rfl (fun _ e => e)
/-! HintHouseModel.put(IJJ)V -/
def M_Mo_put : hM := (11, ⟨"HintHouseModel", "put", "(IJJ)V"⟩, prog_13_method_63_code, 6, (Option.none : Option Jvm.ClassFile.FieldType), [], [(0, [(.aload_n 0, 1, 0, 0, 0, .null), (.getfield 70, 3, 11, 46, 4, .null), (.iload_n 1, 1, 0, 0, 0, .null), (.lload_n 2, 1, 0, 0, 0, .null), (.l2i, 1, 0, 0, 0, .null), (.iastore, 1, 0, 0, 0, .null)]), (8, [(.aload_n 0, 1, 0, 0, 0, .null), (.getfield 73, 3, 11, 47, 4, .null), (.iload_n 1, 1, 0, 0, 0, .null), (.lload 4, 2, 0, 0, 0, .null), (.l2i, 1, 0, 0, 0, .null), (.iastore, 1, 0, 0, 0, .null)]), (17, [(.aload_n 0, 1, 0, 0, 0, .null), (.getfield 76, 3, 11, 48, 4, .null), (.iload_n 1, 1, 0, 0, 0, .null), (.aload_n 0, 1, 0, 0, 0, .null), (.getfield 70, 3, 11, 46, 4, .null), (.iload_n 1, 1, 0, 0, 0, .null), (.iaload, 1, 0, 0, 0, .null), (.iastore, 1, 0, 0, 0, .null)]), (29, [(.aload_n 0, 1, 0, 0, 0, .null), (.getfield 79, 3, 11, 49, 4, .null), (.iload_n 1, 1, 0, 0, 0, .null), (.aload_n 0, 1, 0, 0, 0, .null), (.getfield 73, 3, 11, 47, 4, .null), (.iload_n 1, 1, 0, 0, 0, .null), (.iaload, 1, 0, 0, 0, .null), (.iastore, 1, 0, 0, 0, .null)])], [(41, .return_, 1)])
set_option maxRecDepth 100000 in
theorem m_Mo_put : hx_mok M_Mo_put = true := by decide +kernel
theorem pd_Mo_put : (parseMethodDescriptor M_Mo_put.2.1.desc).map (fun q => q.parameters.length) = some 3 := by decide +kernel
theorem y_Mo_put : hx_okV M_Mo_put := ⟨⟨lw_g (lw_at lw_m9 190 rfl) rfl, lw_g (lw_at lw_m9 189 rfl) rfl, qs121, lw_g (lw_at lw_m1 12 rfl) rfl, rfl, by decide, by decide, by decide⟩, rfl, by decide, plainFor_of_name (by decide)⟩
noncomputable def f_Mo_put (x1 : Int32) (x2 : Int64) (x3 : Int64) (h : hH) : Option (Unit × hH) :=
  gd (vp_in x1 204) <|
  lz (wrI h 212 (Int32.toNatClampNeg x1) (Int64.toInt32 x2)) fun h1 =>
  gd (vp_in x1 204) <|
  lz (wrI h1 213 (Int32.toNatClampNeg x1) (Int64.toInt32 x3)) fun h2 =>
  gd (vp_in x1 204) <|
  lz (wrI h2 214 (Int32.toNatClampNeg x1) (rdI h2 212 (Int32.toNatClampNeg x1))) fun h3 =>
  gd (vp_in x1 204) <|
  lz (wrI h3 215 (Int32.toNatClampNeg x1) (rdI h3 213 (Int32.toNatClampNeg x1))) fun h4 =>
  some ((), h4)
set_option maxRecDepth 20000 in
theorem k_Mo_put (x1 : Int32) (x2 : Int64) (x3 : Int64) (h : hH) : hx_kS S0 M_Mo_put 1 NT [(.ref 192), (.int x1), (.long x2), (.long x3)] h (f_Mo_put x1 x2 x3 h) cvU := by
  have hm := m_Mo_put
  show hx_P S0 M_Mo_put 1 0 [(0, (.ref 192)), (1, (.int x1)), (2, (.long x2)), (4, (.long x3))] [] NT h (f_Mo_put x1 x2 x3 h) (hx_Rc cvU NT)
  unfold f_Mo_put
  refine hp_GW hm (at1 0 rfl) (L' := [(0, (.ref 192)), (1, (.int x1)), (2, (.long x2)), (4, (.long x3))]) rfl (fun hP => (by exact ⟨og_192, ⟨og_212, hP⟩⟩)) (pc' := 8) rfl (fun q1 h1 => ?_)
  refine hp_GW hm (at1 1 rfl) (L' := [(0, (.ref 192)), (1, (.int x1)), (2, (.long x2)), (4, (.long x3))]) rfl (fun hP => (by exact ⟨og_192, ⟨og_213, hP⟩⟩)) (pc' := 17) rfl (fun q2 h2 => ?_)
  refine hp_GW hm (at1 2 rfl) (L' := [(0, (.ref 192)), (1, (.int x1)), (2, (.long x2)), (4, (.long x3))]) rfl (fun hP => (by exact ⟨⟨⟨og_192, og_192⟩, ⟨og_212, hP⟩⟩, ⟨og_214, hP⟩⟩)) (pc' := 29) rfl (fun q3 h3 => ?_)
  refine hp_GW hm (at1 3 rfl) (L' := [(0, (.ref 192)), (1, (.int x1)), (2, (.long x2)), (4, (.long x3))]) rfl (fun hP => (by exact ⟨⟨⟨og_192, og_192⟩, ⟨og_213, hP⟩⟩, ⟨og_215, hP⟩⟩)) (pc' := 41) rfl (fun q4 h4 => ?_)
  exact hp_vr hm 0 rfl rfl (fun _ e => e)
/-! HintHouseModel.tableOf(I)I -/
def M_Mo_tableOf : hM := (11, ⟨"HintHouseModel", "tableOf", "(I)I"⟩, prog_13_method_13_code, 3, (Option.some Jvm.ClassFile.FieldType.int), [], [(0, [(.iconst 0, 1, 0, 0, 0, (.int (0 : Int32))), (.istore_n 2, 1, 0, 0, 0, .null)]), (2, [(.iload_n 2, 1, 0, 0, 0, .null), (.aload_n 0, 1, 0, 0, 0, .null), (.getfield 216, 3, 11, 5, 0, .null)]), (10, [(.aload_n 0, 1, 0, 0, 0, .null), (.getfield 16, 3, 11, 6, 4, .null), (.iload_n 2, 1, 0, 0, 0, .null), (.iaload, 1, 0, 0, 0, .null), (.iload_n 1, 1, 0, 0, 0, .null)]), (22, [(.iinc 2 1, 3, 0, 0, 0, (.int (1 : Int32)))]), (20, [(.iload_n 2, 1, 0, 0, 0, .null)]), (28, [(.iconst (-1), 1, 0, 0, 0, (.int (-1 : Int32)))])], [(25, .goto (-23), 3), (21, .ireturn, 1), (17, .if_icmp .ne 5, 3), (7, .if_icmp .ge 21, 3), (29, .ireturn, 1)])
set_option maxRecDepth 100000 in
theorem m_Mo_tableOf : hx_mok M_Mo_tableOf = true := by decide +kernel
theorem pd_Mo_tableOf : (parseMethodDescriptor M_Mo_tableOf.2.1.desc).map (fun q => q.parameters.length) = some 1 := by decide +kernel
theorem y_Mo_tableOf : hx_okV M_Mo_tableOf := ⟨⟨lw_g (lw_at lw_m9 199 rfl) rfl, lw_g (lw_at lw_m9 198 rfl) rfl, qs123, lw_g (lw_at lw_m1 12 rfl) rfl, rfl, by decide, by decide, by decide⟩, rfl, by decide, plainFor_of_name (by decide)⟩
noncomputable def f_Mo_tableOf (x1 : Int32) (h : hH) : Option Int32 :=
  bE (P := Unit) (X := Int32) (
    wh (A := Int32) (B := (Unit ⊕ Int32)) (fun p1 =>
        if (rdI h 192 5) ≤ p1 then (
          some (.inr (.inl ()))
        ) else (
          gd (vp_in p1 16) <|
          if (rdI h 195 (Int32.toNatClampNeg p1)) = x1 then (
            some (.inr (.inr p1))
          ) else (
            lz (A := Int32) (p1 + (1 : Int32)) fun v4 =>
            some (.inl v4)
          )
        )
    ) (0 : Int32)
  ) fun p2 =>
  some (-1 : Int32)
set_option maxRecDepth 20000 in
theorem k_Mo_tableOf (x1 : Int32) (h : hH) : hx_kP S0 M_Mo_tableOf 1 NT [(.ref 192), (.int x1)] h (f_Mo_tableOf x1 h) cvI := by
  have hm := m_Mo_tableOf
  show hx_P S0 M_Mo_tableOf 1 0 [(0, (.ref 192)), (1, (.int x1))] [] NT h (f_Mo_tableOf x1 h) (hx_Rp cvI NT h)
  unfold f_Mo_tableOf
  refine hp_b hm (at1 0 rfl) (L' := [(2, (.int (0 : Int32))), (0, (.ref 192)), (1, (.int x1))]) (st' := []) rfl (by exact trivial) (pc' := 2) rfl ?_
  refine hp_E 28 (fun (p2 : Unit) => []) (fun (p2 : Unit) => []) (fun (p2 : Unit) => h) ?_ (fun p2 => ?_)
  · refine hp_s [1, 2, 0] rfl (L' := [(0, (.ref 192)), (1, (.int x1)), (2, (.int (0 : Int32)))]) ?_
    refine hp_wh (fun (p1 : Int32) => [(0, (.ref 192)), (1, (.int x1)), (2, (.int p1))]) [] (fun (p1 : Int32) => h) (fun p1 => ?_) (0 : Int32)
    refine hp_ic_ge hm (at1 1 rfl) rfl (by exact og_192) (pc' := 7) rfl 3 rfl (tgt := 28) rfl (fun c6 => ?_) (fun c6 => ?_)
    · exact hp_lf [] rfl (fun _ e => e)
    · refine hp_G hm (at1 2 rfl) (L' := [(0, (.ref 192)), (1, (.int x1)), (2, (.int p1))]) (st' := [(.int x1), (.int (rdI h 195 (Int32.toNatClampNeg p1)))]) rfl (fun hP => (by exact ⟨og_192, ⟨og_195, hP⟩⟩)) (pc' := 17) rfl (fun q3 => ?_)
      refine hp_ic_ne hm at0 rfl (by exact trivial) (pc' := 17) rfl 2 rfl (tgt := 22) rfl (fun c5 => ?_) (fun c5 => ?_)
      · refine hp_z hm (at1 3 rfl) (fun (v4 : Int32) => [(2, (.int v4)), (0, (.ref 192)), (1, (.int x1))]) (fun (v4 : Int32) => []) rfl (by exact trivial) (pc' := 25) rfl (fun v4 => ?_)
        refine hp_goto hm 0 rfl (tgt := 2) rfl ?_
        exact hp_lf [1, 2, 0] rfl (fun _ e => e)
      · exact hp_ir hm (at1 4 rfl) rfl (by exact trivial) (pc' := 21) rfl 1 rfl rfl (vp_nar_int _) (fun _ e => e)
  · exact hp_ir hm (at1 5 rfl) rfl (by exact trivial) (pc' := 29) rfl 4 rfl rfl (vp_nar_int _) (fun _ e => e)
/-! HintHouseModel.beginOf(I)I -/
def M_Mo_beginOf : hM := (11, ⟨"HintHouseModel", "beginOf", "(I)I"⟩, prog_13_method_14_code, 3, (Option.some Jvm.ClassFile.FieldType.int), [], [(0, [(.aload_n 0, 1, 0, 0, 0, .null), (.iload_n 1, 1, 0, 0, 0, .null)]), (5, [(.istore_n 2, 1, 0, 0, 0, .null), (.iload_n 2, 1, 0, 0, 0, .null), (.iconst (-1), 1, 0, 0, 0, (.int (-1 : Int32)))]), (15, [(.aload_n 0, 1, 0, 0, 0, .null), (.getfield 24, 3, 11, 8, 4, .null), (.iload_n 2, 1, 0, 0, 0, .null), (.laload, 1, 0, 0, 0, .null), (.l2i, 1, 0, 0, 0, .null)]), (11, [(.iconst 0, 1, 0, 0, 0, (.int (0 : Int32)))])], [(2, .invokevirtual 219, 3), (22, .ireturn, 1), (12, .goto 10, 3), (8, .if_icmp .ne 7, 3)])
set_option maxRecDepth 100000 in
theorem m_Mo_beginOf : hx_mok M_Mo_beginOf = true := by decide +kernel
theorem pd_Mo_beginOf : (parseMethodDescriptor M_Mo_beginOf.2.1.desc).map (fun q => q.parameters.length) = some 1 := by decide +kernel
theorem y_Mo_beginOf : hx_okV M_Mo_beginOf := ⟨⟨lw_g (lw_at lw_m9 195 rfl) rfl, lw_g (lw_at lw_m9 194 rfl) rfl, qs122, lw_g (lw_at lw_m1 12 rfl) rfl, rfl, by decide, by decide, by decide⟩, rfl, by decide, plainFor_of_name (by decide)⟩
noncomputable def f_Mo_beginOf (x1 : Int32) (h : hH) : Option Int32 :=
  bP (f_Mo_tableOf x1 h) fun a1 =>
  if a1 = (-1 : Int32) then (
    some (0 : Int32)
  ) else (
    gd (vp_in a1 16) <|
    some (Int64.toInt32 (rdL h 197 (Int32.toNatClampNeg a1)))
  )
set_option maxRecDepth 20000 in
theorem k_Mo_beginOf (x1 : Int32) (h : hH) : hx_kP S0 M_Mo_beginOf 2 NT [(.ref 192), (.int x1)] h (f_Mo_beginOf x1 h) cvI := by
  have hm := m_Mo_beginOf
  show hx_P S0 M_Mo_beginOf 2 0 [(0, (.ref 192)), (1, (.int x1))] [] NT h (f_Mo_beginOf x1 h) (hx_Rp cvI NT h)
  unfold f_Mo_beginOf
  refine hp_cVP (M2 := M_Mo_tableOf) hm (at1 0 rfl) (as := [(.int x1)]) (rest := []) (z := 192) rfl (by exact trivial) (pc' := 2) rfl 0 rfl (lw_g (lw_at lw_m9 196 rfl) rfl) y_Mo_tableOf rfl (d2 := 1) ⟨le_b rfl, pd_Mo_tableOf, le_b rfl⟩ (le_b rfl) og_192 (k_Mo_tableOf x1 h) (fun a1 => ?_)
  refine hp_b hm (at1 1 rfl) (L' := [(2, (.int a1)), (0, (.ref 192)), (1, (.int x1))]) (st' := [(.int (-1 : Int32)), (.int a1)]) rfl (by exact trivial) (pc' := 8) rfl ?_
  refine hp_ic_ne hm at0 rfl (by exact trivial) (pc' := 8) rfl 3 rfl (tgt := 15) rfl (fun c3 => ?_) (fun c3 => ?_)
  · refine hp_G hm (at1 2 rfl) (L' := [(2, (.int a1)), (0, (.ref 192)), (1, (.int x1))]) (st' := [(.int (Int64.toInt32 (rdL h 197 (Int32.toNatClampNeg a1))))]) rfl (fun hP => (by exact ⟨og_192, ⟨og_197, hP⟩⟩)) (pc' := 22) rfl (fun q2 => ?_)
    exact hp_ir hm at0 rfl (by exact trivial) (pc' := 22) rfl 1 rfl rfl (vp_nar_int _) (fun _ e => e)
  · refine hp_b hm (at1 3 rfl) (L' := [(2, (.int a1)), (0, (.ref 192)), (1, (.int x1))]) (st' := [(.int (0 : Int32))]) rfl (by exact trivial) (pc' := 12) rfl ?_
    refine hp_goto hm 2 rfl (tgt := 22) rfl ?_
    exact hp_ir hm at0 rfl (by exact trivial) (pc' := 22) rfl 1 rfl rfl (vp_nar_int _) (fun _ e => e)
/-! HintHouseModel.u1(I)I -/
def M_Mo_u1 : hM := (11, ⟨"HintHouseModel", "u1", "(I)I"⟩, prog_13_method_8_code, 2, (Option.some Jvm.ClassFile.FieldType.int), [], [(0, [(.iload_n 1, 1, 0, 0, 0, .null)]), (25, [(.iconst 0, 1, 0, 0, 0, (.int (0 : Int32)))]), (4, [(.iload_n 1, 1, 0, 0, 0, .null), (.aload_n 0, 1, 0, 0, 0, .null), (.getfield 206, 3, 11, 3, 0, .null)]), (12, [(.aload_n 0, 1, 0, 0, 0, .null), (.getfield 13, 3, 11, 2, 4, .null), (.iload_n 1, 1, 0, 0, 0, .null), (.baload, 1, 102, 0, 0, .null), (.sipush 255, 3, 0, 0, 0, (.int (255 : Int32))), (.iand, 1, 0, 0, 0, .null)])], [(26, .ireturn, 1), (22, .goto 4, 3), (9, .if_icmp .ge 16, 3), (1, .ifCond .lt 24, 3)])
set_option maxRecDepth 100000 in
theorem m_Mo_u1 : hx_mok M_Mo_u1 = true := by decide +kernel
theorem pd_Mo_u1 : (parseMethodDescriptor M_Mo_u1.2.1.desc).map (fun q => q.parameters.length) = some 1 := by decide +kernel
theorem y_Mo_u1 : hx_okV M_Mo_u1 := ⟨⟨lw_g (lw_at lw_m9 211 rfl) rfl, lw_g (lw_at lw_m9 210 rfl) rfl, qs126, lw_g (lw_at lw_m1 12 rfl) rfl, rfl, by decide, by decide, by decide⟩, rfl, by decide, plainFor_of_name (by decide)⟩
noncomputable def f_Mo_u1 (x1 : Int32) (h : hH) : Option Int32 :=
  if x1 < 0 then (
    some (0 : Int32)
  ) else (
    if (rdI h 192 3) ≤ x1 then (
      some (0 : Int32)
    ) else (
      gd (vp_in x1 12000) <|
      some ((rdI h 194 (Int32.toNatClampNeg x1)) &&& (255 : Int32))
    )
  )
set_option maxRecDepth 20000 in
theorem k_Mo_u1 (x1 : Int32) (h : hH) : hx_kP S0 M_Mo_u1 1 NT [(.ref 192), (.int x1)] h (f_Mo_u1 x1 h) cvI := by
  have hm := m_Mo_u1
  show hx_P S0 M_Mo_u1 1 0 [(0, (.ref 192)), (1, (.int x1))] [] NT h (f_Mo_u1 x1 h) (hx_Rp cvI NT h)
  unfold f_Mo_u1
  refine hp_if_lt hm (at1 0 rfl) rfl (by exact trivial) (pc' := 1) rfl 3 rfl (tgt := 25) rfl (fun c3 => ?_) (fun c3 => ?_)
  · refine hp_b hm (at1 1 rfl) (L' := [(0, (.ref 192)), (1, (.int x1))]) (st' := [(.int (0 : Int32))]) rfl (by exact trivial) (pc' := 26) rfl ?_
    exact hp_ir hm at0 rfl (by exact trivial) (pc' := 26) rfl 0 rfl rfl (vp_nar_int _) (fun _ e => e)
  · refine hp_ic_ge hm (at1 2 rfl) rfl (by exact og_192) (pc' := 9) rfl 2 rfl (tgt := 25) rfl (fun c2 => ?_) (fun c2 => ?_)
    · refine hp_b hm (at1 1 rfl) (L' := [(0, (.ref 192)), (1, (.int x1))]) (st' := [(.int (0 : Int32))]) rfl (by exact trivial) (pc' := 26) rfl ?_
      exact hp_ir hm at0 rfl (by exact trivial) (pc' := 26) rfl 0 rfl rfl (vp_nar_int _) (fun _ e => e)
    · refine hp_G hm (at1 3 rfl) (L' := [(0, (.ref 192)), (1, (.int x1))]) (st' := [(.int ((rdI h 194 (Int32.toNatClampNeg x1)) &&& (255 : Int32)))]) rfl (fun hP => (by exact ⟨og_192, ⟨og_194, hP⟩⟩)) (pc' := 22) rfl (fun q1 => ?_)
      refine hp_goto hm 1 rfl (tgt := 26) rfl ?_
      exact hp_ir hm at0 rfl (by exact trivial) (pc' := 26) rfl 0 rfl rfl (vp_nar_int _) (fun _ e => e)
/-! HintHouseModel.u2(I)I -/
def M_Mo_u2 : hM := (11, ⟨"HintHouseModel", "u2", "(I)I"⟩, prog_13_method_9_code, 2, (Option.some Jvm.ClassFile.FieldType.int), [], [(0, [(.aload_n 0, 1, 0, 0, 0, .null), (.iload_n 1, 1, 0, 0, 0, .null)]), (5, [(.bipush 8, 2, 0, 0, 0, (.int (8 : Int32))), (.ishl, 1, 0, 0, 0, .null), (.aload_n 0, 1, 0, 0, 0, .null), (.iload_n 1, 1, 0, 0, 0, .null), (.iconst 1, 1, 0, 0, 0, (.int (1 : Int32))), (.iadd, 1, 0, 0, 0, .null)]), (15, [(.ior, 1, 0, 0, 0, .null)])], [(2, .invokevirtual 209, 3), (12, .invokevirtual 209, 3), (16, .ireturn, 1)])
set_option maxRecDepth 100000 in
theorem m_Mo_u2 : hx_mok M_Mo_u2 = true := by decide +kernel
theorem pd_Mo_u2 : (parseMethodDescriptor M_Mo_u2.2.1.desc).map (fun q => q.parameters.length) = some 1 := by decide +kernel
theorem y_Mo_u2 : hx_okV M_Mo_u2 := ⟨⟨lw_g (lw_at lw_m9 207 rfl) rfl, lw_g (lw_at lw_m9 206 rfl) rfl, qs125, lw_g (lw_at lw_m1 12 rfl) rfl, rfl, by decide, by decide, by decide⟩, rfl, by decide, plainFor_of_name (by decide)⟩
noncomputable def f_Mo_u2 (x1 : Int32) (h : hH) : Option Int32 :=
  bP (f_Mo_u1 x1 h) fun a1 =>
  bP (f_Mo_u1 (x1 + (1 : Int32)) h) fun a2 =>
  some ((a1 <<< ((8 : Int32) &&& 31)) ||| a2)
set_option maxRecDepth 20000 in
theorem k_Mo_u2 (x1 : Int32) (h : hH) : hx_kP S0 M_Mo_u2 2 NT [(.ref 192), (.int x1)] h (f_Mo_u2 x1 h) cvI := by
  have hm := m_Mo_u2
  show hx_P S0 M_Mo_u2 2 0 [(0, (.ref 192)), (1, (.int x1))] [] NT h (f_Mo_u2 x1 h) (hx_Rp cvI NT h)
  unfold f_Mo_u2
  refine hp_cVP (M2 := M_Mo_u1) hm (at1 0 rfl) (as := [(.int x1)]) (rest := []) (z := 192) rfl (by exact trivial) (pc' := 2) rfl 0 rfl (lw_g (lw_at lw_m9 208 rfl) rfl) y_Mo_u1 rfl (d2 := 1) ⟨le_b rfl, pd_Mo_u1, le_b rfl⟩ (le_b rfl) og_192 (k_Mo_u1 x1 h) (fun a1 => ?_)
  refine hp_cVP (M2 := M_Mo_u1) hm (at1 1 rfl) (as := [(.int (x1 + (1 : Int32)))]) (rest := [(.int (a1 <<< ((8 : Int32) &&& 31)))]) (z := 192) rfl (by exact trivial) (pc' := 12) rfl 1 rfl (lw_g (lw_at lw_m9 208 rfl) rfl) y_Mo_u1 rfl (d2 := 1) ⟨le_b rfl, pd_Mo_u1, le_b rfl⟩ (le_b rfl) og_192 (k_Mo_u1 (x1 + (1 : Int32)) h) (fun a2 => ?_)
  exact hp_ir hm (at1 2 rfl) rfl (by exact trivial) (pc' := 16) rfl 2 rfl rfl (vp_nar_int _) (fun _ e => e)
/-! HintHouseModel.s2(I)I -/
def M_Mo_s2 : hM := (11, ⟨"HintHouseModel", "s2", "(I)I"⟩, prog_13_method_10_code, 2, (Option.some Jvm.ClassFile.FieldType.int), [], [(0, [(.aload_n 0, 1, 0, 0, 0, .null), (.iload_n 1, 1, 0, 0, 0, .null)]), (5, [(.i2s, 1, 0, 0, 0, .null)])], [(2, .invokevirtual 213, 3), (6, .ireturn, 1)])
set_option maxRecDepth 100000 in
theorem m_Mo_s2 : hx_mok M_Mo_s2 = true := by decide +kernel
theorem pd_Mo_s2 : (parseMethodDescriptor M_Mo_s2.2.1.desc).map (fun q => q.parameters.length) = some 1 := by decide +kernel
theorem y_Mo_s2 : hx_okV M_Mo_s2 := ⟨⟨lw_g (lw_at lw_m9 203 rfl) rfl, lw_g (lw_at lw_m9 202 rfl) rfl, qs124, lw_g (lw_at lw_m1 12 rfl) rfl, rfl, by decide, by decide, by decide⟩, rfl, by decide, plainFor_of_name (by decide)⟩
noncomputable def f_Mo_s2 (x1 : Int32) (h : hH) : Option Int32 :=
  bP (f_Mo_u2 x1 h) fun a1 =>
  some (Int16.toInt32 (Int32.toInt16 a1))
set_option maxRecDepth 20000 in
theorem k_Mo_s2 (x1 : Int32) (h : hH) : hx_kP S0 M_Mo_s2 3 NT [(.ref 192), (.int x1)] h (f_Mo_s2 x1 h) cvI := by
  have hm := m_Mo_s2
  show hx_P S0 M_Mo_s2 3 0 [(0, (.ref 192)), (1, (.int x1))] [] NT h (f_Mo_s2 x1 h) (hx_Rp cvI NT h)
  unfold f_Mo_s2
  refine hp_cVP (M2 := M_Mo_u2) hm (at1 0 rfl) (as := [(.int x1)]) (rest := []) (z := 192) rfl (by exact trivial) (pc' := 2) rfl 0 rfl (lw_g (lw_at lw_m9 204 rfl) rfl) y_Mo_u2 rfl (d2 := 2) ⟨le_b rfl, pd_Mo_u2, le_b rfl⟩ (le_b rfl) og_192 (k_Mo_u2 x1 h) (fun a1 => ?_)
  exact hp_ir hm (at1 1 rfl) rfl (by exact trivial) (pc' := 6) rfl 1 rfl rfl (vp_nar_int _) (fun _ e => e)
/-! HintHouseModel.sizeOf(J)J -/
def M_Mo_sizeOf : hM := (11, ⟨"HintHouseModel", "sizeOf", "(J)J"⟩, prog_13_method_6_code, 2, (Option.some Jvm.ClassFile.FieldType.long), [], [(0, [(.lload_n 0, 1, 0, 0, 0, .null), (.lconst 0, 1, 0, 0, 0, (.long (0 : Int64))), (.lcmp, 1, 0, 0, 0, .null)]), (11, [(.lload_n 0, 1, 0, 0, 0, .null)]), (6, [(.lload_n 0, 1, 0, 0, 0, .null), (.lneg, 1, 0, 0, 0, .null)])], [(12, .lreturn, 1), (8, .goto 4, 3), (3, .ifCond .ge 8, 3)])
set_option maxRecDepth 100000 in
theorem m_Mo_sizeOf : hx_mok M_Mo_sizeOf = true := by decide +kernel
theorem pd_Mo_sizeOf : (parseMethodDescriptor M_Mo_sizeOf.2.1.desc).map (fun q => q.parameters.length) = some 1 := by decide +kernel
theorem y_Mo_sizeOf : hx_okS M_Mo_sizeOf := ⟨⟨lw_g (lw_at lw_m9 225 rfl) rfl, lw_g (lw_at lw_m9 224 rfl) rfl, lw_g (lw_at lw_m1 12 rfl) rfl, by decide, by decide⟩, rfl, by decide, plainFor_of_name (by decide), rfl⟩
noncomputable def f_Mo_sizeOf (x1 : Int64) : Option Int64 :=
  if (0 : Int64) ≤ x1 then (
    some x1
  ) else (
    some (-x1)
  )
set_option maxRecDepth 20000 in
theorem k_Mo_sizeOf (x1 : Int64) (h : hH) : hx_kP S0 M_Mo_sizeOf 1 NT [(.long x1)] h (f_Mo_sizeOf x1) cvL := by
  have hm := m_Mo_sizeOf
  show hx_P S0 M_Mo_sizeOf 1 0 [(0, (.long x1))] [] NT h (f_Mo_sizeOf x1) (hx_Rp cvL NT h)
  unfold f_Mo_sizeOf
  refine hp_lc_ge hm (at1 0 rfl) rfl (by exact trivial) (pc' := 3) rfl 2 rfl (tgt := 11) rfl (fun c1 => ?_) (fun c1 => ?_)
  · refine hp_b hm (at1 1 rfl) (L' := [(0, (.long x1))]) (st' := [(.long x1)]) rfl (by exact trivial) (pc' := 12) rfl ?_
    exact hp_lr hm at0 rfl (by exact trivial) (pc' := 12) rfl 0 rfl rfl (fun _ e => e)
  · refine hp_b hm (at1 2 rfl) (L' := [(0, (.long x1))]) (st' := [(.long (-x1))]) rfl (by exact trivial) (pc' := 8) rfl ?_
    refine hp_goto hm 1 rfl (tgt := 12) rfl ?_
    exact hp_lr hm at0 rfl (by exact trivial) (pc' := 12) rfl 0 rfl rfl (fun _ e => e)
/-! HintHouseModel.nearest(JJ)J -/
def M_Mo_nearest : hM := (11, ⟨"HintHouseModel", "nearest", "(JJ)J"⟩, prog_13_method_5_code, 10, (Option.some Jvm.ClassFile.FieldType.long), [], [(0, [(.lload_n 0, 1, 0, 0, 0, .null), (.lload_n 2, 1, 0, 0, 0, .null), (.ldiv, 1, 0, 0, 0, .null), (.lstore 4, 2, 0, 0, 0, .null)]), (5, [(.lload_n 0, 1, 0, 0, 0, .null), (.lload_n 2, 1, 0, 0, 0, .null), (.lrem, 1, 0, 0, 0, .null)]), (11, [(.lstore 6, 2, 0, 0, 0, .null), (.lload 6, 2, 0, 0, 0, .null), (.lload_n 2, 1, 0, 0, 0, .null)]), (19, [(.lload 6, 2, 0, 0, 0, .null), (.lsub, 1, 0, 0, 0, .null), (.lcmp, 1, 0, 0, 0, .null)]), (30, [(.lconst 0, 1, 0, 0, 0, (.long (0 : Int64)))]), (26, [(.lconst 1, 1, 0, 0, 0, (.long (1 : Int64)))]), (31, [(.lstore 8, 2, 0, 0, 0, .null), (.lload_n 0, 1, 0, 0, 0, .null), (.lconst 0, 1, 0, 0, 0, (.long (0 : Int64))), (.lcmp, 1, 0, 0, 0, .null)]), (43, [(.iconst 0, 1, 0, 0, 0, (.int (0 : Int32)))]), (39, [(.iconst 1, 1, 0, 0, 0, (.int (1 : Int32)))]), (44, [(.lload_n 2, 1, 0, 0, 0, .null), (.lconst 0, 1, 0, 0, 0, (.long (0 : Int64))), (.lcmp, 1, 0, 0, 0, .null)]), (54, [(.iconst 0, 1, 0, 0, 0, (.int (0 : Int32)))]), (50, [(.iconst 1, 1, 0, 0, 0, (.int (1 : Int32)))]), (66, [(.lload 4, 2, 0, 0, 0, .null), (.lload 8, 2, 0, 0, 0, .null), (.lsub, 1, 0, 0, 0, .null)]), (58, [(.lload 4, 2, 0, 0, 0, .null), (.lload 8, 2, 0, 0, 0, .null), (.ladd, 1, 0, 0, 0, .null)])], [(8, .invokestatic 198, 3), (16, .invokestatic 198, 3), (27, .goto 4, 3), (23, .ifCond .lt 7, 3), (40, .goto 4, 3), (36, .ifCond .ge 7, 3), (51, .goto 4, 3), (47, .ifCond .ge 7, 3), (71, .lreturn, 1), (63, .goto 8, 3), (55, .if_icmp .ne 11, 3)])
set_option maxRecDepth 100000 in
theorem m_Mo_nearest : hx_mok M_Mo_nearest = true := by decide +kernel
theorem pd_Mo_nearest : (parseMethodDescriptor M_Mo_nearest.2.1.desc).map (fun q => q.parameters.length) = some 2 := by decide +kernel
theorem y_Mo_nearest : hx_okS M_Mo_nearest := ⟨⟨lw_g (lw_at lw_m9 222 rfl) rfl, lw_g (lw_at lw_m9 221 rfl) rfl, lw_g (lw_at lw_m1 12 rfl) rfl, by decide, by decide⟩, rfl, by decide, plainFor_of_name (by decide), rfl⟩
noncomputable def f_Mo_nearest (x1 : Int64) (x2 : Int64) : Option Int64 :=
  gd (¬ x2 = 0) <|
  lz (A := Int64) (x1 / x2) fun v1 =>
  gd (¬ x2 = 0) <|
  bP (f_Mo_sizeOf (hx_rL x1 x2)) fun a4 =>
  bP (f_Mo_sizeOf x2) fun a5 =>
  lz (A := Int64) (if a4 < (a5 - a4) then (0 : Int64) else (1 : Int64)) fun p6 =>
  lz (A := Int32) (if (0 : Int64) ≤ x1 then (0 : Int32) else (1 : Int32)) fun p8 =>
  lz (A := Int32) (if (0 : Int64) ≤ x2 then (0 : Int32) else (1 : Int32)) fun p10 =>
  if p8 = p10 then (
    some (v1 + p6)
  ) else (
    some (v1 - p6)
  )
set_option maxRecDepth 20000 in
theorem k_Mo_nearest (x1 : Int64) (x2 : Int64) (h : hH) : hx_kP S0 M_Mo_nearest 2 NT [(.long x1), (.long x2)] h (f_Mo_nearest x1 x2) cvL := by
  have hm := m_Mo_nearest
  show hx_P S0 M_Mo_nearest 2 0 [(0, (.long x1)), (2, (.long x2))] [] NT h (f_Mo_nearest x1 x2) (hx_Rp cvL NT h)
  unfold f_Mo_nearest
  refine hp_GZ hm (at1 0 rfl) (fun (v1 : Int64) => [(4, (.long v1)), (0, (.long x1)), (2, (.long x2))]) (fun (v1 : Int64) => []) rfl (fun hP => (by exact hP)) (pc' := 5) rfl (fun q2 v1 => ?_)
  refine hp_G hm (at1 1 rfl) (L' := [(4, (.long v1)), (0, (.long x1)), (2, (.long x2))]) (st' := [(.long (hx_rL x1 x2))]) rfl (fun hP => (by exact hP)) (pc' := 8) rfl (fun q3 => ?_)
  refine hp_cSP (M2 := M_Mo_sizeOf) hm at0 (as := [(.long (hx_rL x1 x2))]) (rest := []) rfl (by exact trivial) (pc' := 8) rfl 0 rfl (lw_g (lw_at lw_m9 223 rfl) rfl) y_Mo_sizeOf rfl (d2 := 1) ⟨le_b rfl, pd_Mo_sizeOf, le_b rfl⟩ (le_b rfl) (k_Mo_sizeOf (hx_rL x1 x2) h) (fun a4 => ?_)
  refine hp_b hm (at1 2 rfl) (L' := [(6, (.long a4)), (4, (.long v1)), (0, (.long x1)), (2, (.long x2))]) (st' := [(.long x2), (.long a4)]) rfl (by exact trivial) (pc' := 16) rfl ?_
  refine hp_cSP (M2 := M_Mo_sizeOf) hm at0 (as := [(.long x2)]) (rest := [(.long a4)]) rfl (by exact trivial) (pc' := 16) rfl 1 rfl (lw_g (lw_at lw_m9 223 rfl) rfl) y_Mo_sizeOf rfl (d2 := 1) ⟨le_b rfl, pd_Mo_sizeOf, le_b rfl⟩ (le_b rfl) (k_Mo_sizeOf x2 h) (fun a5 => ?_)
  refine hp_JZ 31 (fun (p6 : Int64) => [(0, (.long x1)), (2, (.long x2)), (4, (.long v1))]) (fun (p6 : Int64) => [(.long p6)]) (fun (p6 : Int64) => h) ?_ (fun p6 => ?_)
  · refine hp_sv0 ?_
    refine hp_lc_lt hm (at1 3 rfl) rfl (by exact trivial) (pc' := 23) rfl 3 rfl (tgt := 30) rfl (fun c7 => ?_) (fun c7 => ?_)
    · refine hp_b hm (at1 4 rfl) (L' := [(6, (.long a4)), (4, (.long v1)), (0, (.long x1)), (2, (.long x2))]) (st' := [(.long (0 : Int64))]) rfl (by exact trivial) (pc' := 31) rfl ?_
      exact hp_lf [2, 3, 1] rfl (fun _ e => e)
    · refine hp_b hm (at1 5 rfl) (L' := [(6, (.long a4)), (4, (.long v1)), (0, (.long x1)), (2, (.long x2))]) (st' := [(.long (1 : Int64))]) rfl (by exact trivial) (pc' := 27) rfl ?_
      refine hp_goto hm 2 rfl (tgt := 31) rfl ?_
      exact hp_lf [2, 3, 1] rfl (fun _ e => e)
  · refine hp_b hm (at1 6 rfl) (L' := [(8, (.long p6)), (0, (.long x1)), (2, (.long x2)), (4, (.long v1))]) (st' := [(.int (lg_cmp x1 (0 : Int64)))]) rfl (by exact trivial) (pc' := 36) rfl ?_
    refine hp_JZ 44 (fun (p8 : Int32) => [(2, (.long x2)), (4, (.long v1)), (8, (.long p6))]) (fun (p8 : Int32) => [(.int p8)]) (fun (p8 : Int32) => h) ?_ (fun p8 => ?_)
    · refine hp_sv0 ?_
      refine hp_lc_ge hm at0 rfl (by exact trivial) (pc' := 36) rfl 5 rfl (tgt := 43) rfl (fun c9 => ?_) (fun c9 => ?_)
      · refine hp_b hm (at1 7 rfl) (L' := [(8, (.long p6)), (0, (.long x1)), (2, (.long x2)), (4, (.long v1))]) (st' := [(.int (0 : Int32))]) rfl (by exact trivial) (pc' := 44) rfl ?_
        exact hp_lf [2, 3, 0] rfl (fun _ e => e)
      · refine hp_b hm (at1 8 rfl) (L' := [(8, (.long p6)), (0, (.long x1)), (2, (.long x2)), (4, (.long v1))]) (st' := [(.int (1 : Int32))]) rfl (by exact trivial) (pc' := 40) rfl ?_
        refine hp_goto hm 4 rfl (tgt := 44) rfl ?_
        exact hp_lf [2, 3, 0] rfl (fun _ e => e)
    · refine hp_JZ 55 (fun (p10 : Int32) => [(4, (.long v1)), (8, (.long p6))]) (fun (p10 : Int32) => [(.int p10), (.int p8)]) (fun (p10 : Int32) => h) ?_ (fun p10 => ?_)
      · refine hp_sv0 ?_
        refine hp_lc_ge hm (at1 9 rfl) rfl (by exact trivial) (pc' := 47) rfl 7 rfl (tgt := 54) rfl (fun c11 => ?_) (fun c11 => ?_)
        · refine hp_b hm (at1 10 rfl) (L' := [(2, (.long x2)), (4, (.long v1)), (8, (.long p6))]) (st' := [(.int (0 : Int32)), (.int p8)]) rfl (by exact trivial) (pc' := 55) rfl ?_
          exact hp_lf [1, 2] rfl (fun _ e => e)
        · refine hp_b hm (at1 11 rfl) (L' := [(2, (.long x2)), (4, (.long v1)), (8, (.long p6))]) (st' := [(.int (1 : Int32)), (.int p8)]) rfl (by exact trivial) (pc' := 51) rfl ?_
          refine hp_goto hm 6 rfl (tgt := 55) rfl ?_
          exact hp_lf [1, 2] rfl (fun _ e => e)
      · refine hp_ic_ne hm at0 rfl (by exact trivial) (pc' := 55) rfl 10 rfl (tgt := 66) rfl (fun c12 => ?_) (fun c12 => ?_)
        · refine hp_b hm (at1 12 rfl) (L' := [(4, (.long v1)), (8, (.long p6))]) (st' := [(.long (v1 - p6))]) rfl (by exact trivial) (pc' := 71) rfl ?_
          exact hp_lr hm at0 rfl (by exact trivial) (pc' := 71) rfl 8 rfl rfl (fun _ e => e)
        · refine hp_b hm (at1 13 rfl) (L' := [(4, (.long v1)), (8, (.long p6))]) (st' := [(.long (v1 + p6))]) rfl (by exact trivial) (pc' := 63) rfl ?_
          refine hp_goto hm 9 rfl (tgt := 71) rfl ?_
          exact hp_lr hm at0 rfl (by exact trivial) (pc' := 71) rfl 8 rfl rfl (fun _ e => e)
/-! HintHouseModel.over(JJ)J -/
def M_Mo_over : hM := (11, ⟨"HintHouseModel", "over", "(JJ)J"⟩, prog_13_method_4_code, 4, (Option.some Jvm.ClassFile.FieldType.long), [], [(0, [(.lload_n 0, 1, 0, 0, 0, .null), (.lload_n 2, 1, 0, 0, 0, .null)])], [(2, .invokestatic 194, 3), (5, .lreturn, 1)])
set_option maxRecDepth 100000 in
theorem m_Mo_over : hx_mok M_Mo_over = true := by decide +kernel
theorem pd_Mo_over : (parseMethodDescriptor M_Mo_over.2.1.desc).map (fun q => q.parameters.length) = some 2 := by decide +kernel
theorem y_Mo_over : hx_okS M_Mo_over := ⟨⟨lw_g (lw_at lw_m9 219 rfl) rfl, lw_g (lw_at lw_m9 218 rfl) rfl, lw_g (lw_at lw_m1 12 rfl) rfl, by decide, by decide⟩, rfl, by decide, plainFor_of_name (by decide), rfl⟩
noncomputable def f_Mo_over (x1 : Int64) (x2 : Int64) : Option Int64 :=
  bP (f_Mo_nearest x1 x2) fun a1 =>
  some a1
set_option maxRecDepth 20000 in
theorem k_Mo_over (x1 : Int64) (x2 : Int64) (h : hH) : hx_kP S0 M_Mo_over 3 NT [(.long x1), (.long x2)] h (f_Mo_over x1 x2) cvL := by
  have hm := m_Mo_over
  show hx_P S0 M_Mo_over 3 0 [(0, (.long x1)), (2, (.long x2))] [] NT h (f_Mo_over x1 x2) (hx_Rp cvL NT h)
  unfold f_Mo_over
  refine hp_cSP (M2 := M_Mo_nearest) hm (at1 0 rfl) (as := [(.long x1), (.long x2)]) (rest := []) rfl (by exact trivial) (pc' := 2) rfl 0 rfl (lw_g (lw_at lw_m9 220 rfl) rfl) y_Mo_nearest rfl (d2 := 2) ⟨le_b rfl, pd_Mo_nearest, le_b rfl⟩ (le_b rfl) (k_Mo_nearest x1 x2 h) (fun a1 => ?_)
  exact hp_lr hm at0 rfl (by exact trivial) (pc' := 5) rfl 1 rfl rfl (fun _ e => e)
/-! HintHouseModel.scaled(J)I -/
def M_Mo_scaled : hM := (11, ⟨"HintHouseModel", "scaled", "(J)I"⟩, prog_13_method_70_code, 3, (Option.some Jvm.ClassFile.FieldType.int), [], [(0, [(.lload_n 1, 1, 0, 0, 0, .null), (.aload_n 0, 1, 0, 0, 0, .null), (.getfield 621, 3, 11, 62, 0, .null), (.i2l, 1, 0, 0, 0, .null), (.lmul, 1, 0, 0, 0, .null), (.ldc2_w 338, 3, 0, 0, 0, (.long (64 : Int64))), (.lmul, 1, 0, 0, 0, .null), (.aload_n 0, 1, 0, 0, 0, .null), (.getfield 302, 3, 11, 10, 0, .null), (.i2l, 1, 0, 0, 0, .null)]), (19, [(.l2i, 1, 0, 0, 0, .null)])], [(16, .invokestatic 517, 3), (20, .ireturn, 1)])
set_option maxRecDepth 100000 in
theorem m_Mo_scaled : hx_mok M_Mo_scaled = true := by decide +kernel
theorem pd_Mo_scaled : (parseMethodDescriptor M_Mo_scaled.2.1.desc).map (fun q => q.parameters.length) = some 1 := by decide +kernel
theorem y_Mo_scaled : hx_okV M_Mo_scaled := ⟨⟨lw_g (lw_at lw_m9 215 rfl) rfl, lw_g (lw_at lw_m9 214 rfl) rfl, qs127, lw_g (lw_at lw_m1 12 rfl) rfl, rfl, by decide, by decide, by decide⟩, rfl, by decide, plainFor_of_name (by decide)⟩
noncomputable def f_Mo_scaled (x1 : Int64) (h : hH) : Option Int32 :=
  bP (f_Mo_over ((x1 * (Int32.toInt64 (rdI h 192 62))) * (64 : Int64)) (Int32.toInt64 (rdI h 192 10))) fun a1 =>
  some (Int64.toInt32 a1)
set_option maxRecDepth 20000 in
theorem k_Mo_scaled (x1 : Int64) (h : hH) : hx_kP S0 M_Mo_scaled 4 NT [(.ref 192), (.long x1)] h (f_Mo_scaled x1 h) cvI := by
  have hm := m_Mo_scaled
  show hx_P S0 M_Mo_scaled 4 0 [(0, (.ref 192)), (1, (.long x1))] [] NT h (f_Mo_scaled x1 h) (hx_Rp cvI NT h)
  unfold f_Mo_scaled
  refine hp_cSP (M2 := M_Mo_over) hm (at1 0 rfl) (as := [(.long ((x1 * (Int32.toInt64 (rdI h 192 62))) * (64 : Int64))), (.long (Int32.toInt64 (rdI h 192 10)))]) (rest := []) rfl (by exact ⟨og_192, og_192⟩) (pc' := 16) rfl 0 rfl (lw_g (lw_at lw_m9 217 rfl) rfl) y_Mo_over rfl (d2 := 3) ⟨le_b rfl, pd_Mo_over, le_b rfl⟩ (le_b rfl) (k_Mo_over ((x1 * (Int32.toInt64 (rdI h 192 62))) * (64 : Int64)) (Int32.toInt64 (rdI h 192 10)) h) (fun a1 => ?_)
  exact hp_ir hm (at1 1 rfl) rfl (by exact trivial) (pc' := 20) rfl 1 rfl rfl (vp_nar_int _) (fun _ e => e)
/-! HintHouseModel.lengthOf(I)I -/
def M_Mo_lengthOf : hM := (11, ⟨"HintHouseModel", "lengthOf", "(I)I"⟩, prog_13_method_15_code, 3, (Option.some Jvm.ClassFile.FieldType.int), [], [(0, [(.aload_n 0, 1, 0, 0, 0, .null), (.iload_n 1, 1, 0, 0, 0, .null)]), (5, [(.istore_n 2, 1, 0, 0, 0, .null), (.iload_n 2, 1, 0, 0, 0, .null), (.iconst (-1), 1, 0, 0, 0, (.int (-1 : Int32)))]), (15, [(.aload_n 0, 1, 0, 0, 0, .null), (.getfield 27, 3, 11, 9, 4, .null), (.iload_n 2, 1, 0, 0, 0, .null), (.laload, 1, 0, 0, 0, .null), (.l2i, 1, 0, 0, 0, .null)]), (11, [(.iconst 0, 1, 0, 0, 0, (.int (0 : Int32)))])], [(2, .invokevirtual 219, 3), (22, .ireturn, 1), (12, .goto 10, 3), (8, .if_icmp .ne 7, 3)])
set_option maxRecDepth 100000 in
theorem m_Mo_lengthOf : hx_mok M_Mo_lengthOf = true := by decide +kernel
theorem pd_Mo_lengthOf : (parseMethodDescriptor M_Mo_lengthOf.2.1.desc).map (fun q => q.parameters.length) = some 1 := by decide +kernel
theorem y_Mo_lengthOf : hx_okV M_Mo_lengthOf := ⟨⟨lw_g (lw_at lw_m9 231 rfl) rfl, lw_g (lw_at lw_m9 230 rfl) rfl, qs128, lw_g (lw_at lw_m1 12 rfl) rfl, rfl, by decide, by decide, by decide⟩, rfl, by decide, plainFor_of_name (by decide)⟩
noncomputable def f_Mo_lengthOf (x1 : Int32) (h : hH) : Option Int32 :=
  bP (f_Mo_tableOf x1 h) fun a1 =>
  if a1 = (-1 : Int32) then (
    some (0 : Int32)
  ) else (
    gd (vp_in a1 16) <|
    some (Int64.toInt32 (rdL h 198 (Int32.toNatClampNeg a1)))
  )
set_option maxRecDepth 20000 in
theorem k_Mo_lengthOf (x1 : Int32) (h : hH) : hx_kP S0 M_Mo_lengthOf 2 NT [(.ref 192), (.int x1)] h (f_Mo_lengthOf x1 h) cvI := by
  have hm := m_Mo_lengthOf
  show hx_P S0 M_Mo_lengthOf 2 0 [(0, (.ref 192)), (1, (.int x1))] [] NT h (f_Mo_lengthOf x1 h) (hx_Rp cvI NT h)
  unfold f_Mo_lengthOf
  refine hp_cVP (M2 := M_Mo_tableOf) hm (at1 0 rfl) (as := [(.int x1)]) (rest := []) (z := 192) rfl (by exact trivial) (pc' := 2) rfl 0 rfl (lw_g (lw_at lw_m9 196 rfl) rfl) y_Mo_tableOf rfl (d2 := 1) ⟨le_b rfl, pd_Mo_tableOf, le_b rfl⟩ (le_b rfl) og_192 (k_Mo_tableOf x1 h) (fun a1 => ?_)
  refine hp_b hm (at1 1 rfl) (L' := [(2, (.int a1)), (0, (.ref 192)), (1, (.int x1))]) (st' := [(.int (-1 : Int32)), (.int a1)]) rfl (by exact trivial) (pc' := 8) rfl ?_
  refine hp_ic_ne hm at0 rfl (by exact trivial) (pc' := 8) rfl 3 rfl (tgt := 15) rfl (fun c3 => ?_) (fun c3 => ?_)
  · refine hp_G hm (at1 2 rfl) (L' := [(2, (.int a1)), (0, (.ref 192)), (1, (.int x1))]) (st' := [(.int (Int64.toInt32 (rdL h 198 (Int32.toNatClampNeg a1))))]) rfl (fun hP => (by exact ⟨og_192, ⟨og_198, hP⟩⟩)) (pc' := 22) rfl (fun q2 => ?_)
    exact hp_ir hm at0 rfl (by exact trivial) (pc' := 22) rfl 1 rfl rfl (vp_nar_int _) (fun _ e => e)
  · refine hp_b hm (at1 3 rfl) (L' := [(2, (.int a1)), (0, (.ref 192)), (1, (.int x1))]) (st' := [(.int (0 : Int32))]) rfl (by exact trivial) (pc' := 12) rfl ?_
    refine hp_goto hm 2 rfl (tgt := 22) rfl ?_
    exact hp_ir hm at0 rfl (by exact trivial) (pc' := 22) rfl 1 rfl rfl (vp_nar_int _) (fun _ e => e)
/-! HintHouseModel.setRounding(IIII)V -/
def M_Mo_setRounding : hM := (11, ⟨"HintHouseModel", "setRounding", "(IIII)V"⟩, prog_13_method_46_code, 5, (Option.none : Option Jvm.ClassFile.FieldType), [], [(0, [(.aload_n 0, 1, 0, 0, 0, .null), (.iload_n 1, 1, 0, 0, 0, .null), (.putfield 476, 3, 11, 76, 0, .null)]), (5, [(.aload_n 0, 1, 0, 0, 0, .null), (.iload_n 2, 1, 0, 0, 0, .null), (.putfield 479, 3, 11, 77, 0, .null)]), (10, [(.aload_n 0, 1, 0, 0, 0, .null), (.iload_n 3, 1, 0, 0, 0, .null), (.putfield 482, 3, 11, 78, 0, .null)]), (15, [(.aload_n 0, 1, 0, 0, 0, .null), (.iload 4, 2, 0, 0, 0, .null), (.putfield 485, 3, 11, 79, 0, .null)])], [(21, .return_, 1)])
set_option maxRecDepth 100000 in
theorem m_Mo_setRounding : hx_mok M_Mo_setRounding = true := by decide +kernel
theorem pd_Mo_setRounding : (parseMethodDescriptor M_Mo_setRounding.2.1.desc).map (fun q => q.parameters.length) = some 4 := by decide +kernel
theorem y_Mo_setRounding : hx_okV M_Mo_setRounding := ⟨⟨lw_g (lw_at lw_m10 3 rfl) rfl, lw_g (lw_at lw_m10 2 rfl) rfl, qs131, lw_g (lw_at lw_m1 12 rfl) rfl, rfl, by decide, by decide, by decide⟩, rfl, by decide, plainFor_of_name (by decide)⟩
noncomputable def f_Mo_setRounding (x1 : Int32) (x2 : Int32) (x3 : Int32) (x4 : Int32) (h : hH) : Option (Unit × hH) :=
  lz (wrI h 192 76 x1) fun h1 =>
  lz (wrI h1 192 77 x2) fun h2 =>
  lz (wrI h2 192 78 x3) fun h3 =>
  lz (wrI h3 192 79 x4) fun h4 =>
  some ((), h4)
set_option maxRecDepth 20000 in
theorem k_Mo_setRounding (x1 : Int32) (x2 : Int32) (x3 : Int32) (x4 : Int32) (h : hH) : hx_kS S0 M_Mo_setRounding 1 NT [(.ref 192), (.int x1), (.int x2), (.int x3), (.int x4)] h (f_Mo_setRounding x1 x2 x3 x4 h) cvU := by
  have hm := m_Mo_setRounding
  show hx_P S0 M_Mo_setRounding 1 0 [(0, (.ref 192)), (1, (.int x1)), (2, (.int x2)), (3, (.int x3)), (4, (.int x4))] [] NT h (f_Mo_setRounding x1 x2 x3 x4 h) (hx_Rc cvU NT)
  unfold f_Mo_setRounding
  refine hp_w hm (at1 0 rfl) (L' := [(0, (.ref 192)), (1, (.int x1)), (2, (.int x2)), (3, (.int x3)), (4, (.int x4))]) rfl (by exact og_192) (pc' := 5) rfl (fun h1 => ?_)
  refine hp_w hm (at1 1 rfl) (L' := [(0, (.ref 192)), (1, (.int x1)), (2, (.int x2)), (3, (.int x3)), (4, (.int x4))]) rfl (by exact og_192) (pc' := 10) rfl (fun h2 => ?_)
  refine hp_w hm (at1 2 rfl) (L' := [(0, (.ref 192)), (1, (.int x1)), (2, (.int x2)), (3, (.int x3)), (4, (.int x4))]) rfl (by exact og_192) (pc' := 15) rfl (fun h3 => ?_)
  refine hp_w hm (at1 3 rfl) (L' := [(0, (.ref 192)), (1, (.int x1)), (2, (.int x2)), (3, (.int x3)), (4, (.int x4))]) rfl (by exact og_192) (pc' := 21) rfl (fun h4 => ?_)
  exact hp_vr hm 0 rfl rfl (fun _ e => e)
/-! HintHouseModel.settings()V -/
def M_Mo_settings : hM := (11, ⟨"HintHouseModel", "settings", "()V"⟩, prog_13_method_45_code, 1, (Option.none : Option Jvm.ClassFile.FieldType), [], [(0, [(.aload_n 0, 1, 0, 0, 0, .null), (.sipush 16384, 3, 0, 0, 0, (.int (16384 : Int32))), (.putfield 433, 3, 11, 63, 0, .null)]), (7, [(.aload_n 0, 1, 0, 0, 0, .null), (.iconst 0, 1, 0, 0, 0, (.int (0 : Int32))), (.putfield 436, 3, 11, 64, 0, .null)]), (12, [(.aload_n 0, 1, 0, 0, 0, .null), (.sipush 16384, 3, 0, 0, 0, (.int (16384 : Int32))), (.putfield 439, 3, 11, 65, 0, .null)]), (19, [(.aload_n 0, 1, 0, 0, 0, .null), (.iconst 0, 1, 0, 0, 0, (.int (0 : Int32))), (.putfield 442, 3, 11, 66, 0, .null)]), (24, [(.aload_n 0, 1, 0, 0, 0, .null), (.sipush 16384, 3, 0, 0, 0, (.int (16384 : Int32))), (.putfield 445, 3, 11, 67, 0, .null)]), (31, [(.aload_n 0, 1, 0, 0, 0, .null), (.iconst 0, 1, 0, 0, 0, (.int (0 : Int32))), (.putfield 448, 3, 11, 68, 0, .null)]), (36, [(.aload_n 0, 1, 0, 0, 0, .null), (.iconst 0, 1, 0, 0, 0, (.int (0 : Int32))), (.putfield 451, 3, 11, 69, 0, .null)]), (41, [(.aload_n 0, 1, 0, 0, 0, .null), (.iconst 0, 1, 0, 0, 0, (.int (0 : Int32))), (.putfield 454, 3, 11, 70, 0, .null)]), (46, [(.aload_n 0, 1, 0, 0, 0, .null), (.iconst 0, 1, 0, 0, 0, (.int (0 : Int32))), (.putfield 457, 3, 11, 71, 0, .null)]), (51, [(.aload_n 0, 1, 0, 0, 0, .null), (.iconst 1, 1, 0, 0, 0, (.int (1 : Int32))), (.putfield 460, 3, 11, 72, 0, .null)]), (56, [(.aload_n 0, 1, 0, 0, 0, .null), (.iconst 1, 1, 0, 0, 0, (.int (1 : Int32))), (.putfield 463, 3, 11, 73, 0, .null)]), (61, [(.aload_n 0, 1, 0, 0, 0, .null), (.iconst 1, 1, 0, 0, 0, (.int (1 : Int32))), (.putfield 466, 3, 11, 74, 0, .null)]), (66, [(.aload_n 0, 1, 0, 0, 0, .null), (.iconst 1, 1, 0, 0, 0, (.int (1 : Int32))), (.putfield 469, 3, 11, 75, 0, .null)]), (71, [(.aload_n 0, 1, 0, 0, 0, .null), (.bipush 24, 2, 0, 0, 0, (.int (24 : Int32))), (.bipush 64, 2, 0, 0, 0, (.int (64 : Int32))), (.iconst 0, 1, 0, 0, 0, (.int (0 : Int32))), (.bipush 32, 2, 0, 0, 0, (.int (32 : Int32)))])], [(79, .invokevirtual 472, 3), (82, .return_, 1)])
set_option maxRecDepth 100000 in
theorem m_Mo_settings : hx_mok M_Mo_settings = true := by decide +kernel
theorem pd_Mo_settings : (parseMethodDescriptor M_Mo_settings.2.1.desc).map (fun q => q.parameters.length) = some 0 := by decide +kernel
theorem y_Mo_settings : hx_okV M_Mo_settings := ⟨⟨lw_g (lw_at lw_m9 239 rfl) rfl, lw_g (lw_at lw_m9 238 rfl) rfl, qs130, lw_g (lw_at lw_m1 12 rfl) rfl, rfl, by decide, by decide, by decide⟩, rfl, by decide, plainFor_of_name (by decide)⟩
noncomputable def f_Mo_settings (h : hH) : Option (Unit × hH) :=
  lz (wrI h 192 63 (16384 : Int32)) fun h1 =>
  lz (wrI h1 192 64 (0 : Int32)) fun h2 =>
  lz (wrI h2 192 65 (16384 : Int32)) fun h3 =>
  lz (wrI h3 192 66 (0 : Int32)) fun h4 =>
  lz (wrI h4 192 67 (16384 : Int32)) fun h5 =>
  lz (wrI h5 192 68 (0 : Int32)) fun h6 =>
  lz (wrI h6 192 69 (0 : Int32)) fun h7 =>
  lz (wrI h7 192 70 (0 : Int32)) fun h8 =>
  lz (wrI h8 192 71 (0 : Int32)) fun h9 =>
  lz (wrI h9 192 72 (1 : Int32)) fun h10 =>
  lz (wrI h10 192 73 (1 : Int32)) fun h11 =>
  lz (wrI h11 192 74 (1 : Int32)) fun h12 =>
  lz (wrI h12 192 75 (1 : Int32)) fun h13 =>
  bS (f_Mo_setRounding (24 : Int32) (64 : Int32) (0 : Int32) (32 : Int32) h13) fun _ h14 =>
  some ((), h14)
set_option maxRecDepth 20000 in
theorem k_Mo_settings (h : hH) : hx_kS S0 M_Mo_settings 2 NT [(.ref 192)] h (f_Mo_settings h) cvU := by
  have hm := m_Mo_settings
  show hx_P S0 M_Mo_settings 2 0 [(0, (.ref 192))] [] NT h (f_Mo_settings h) (hx_Rc cvU NT)
  unfold f_Mo_settings
  refine hp_w hm (at1 0 rfl) (L' := [(0, (.ref 192))]) rfl (by exact og_192) (pc' := 7) rfl (fun h1 => ?_)
  refine hp_w hm (at1 1 rfl) (L' := [(0, (.ref 192))]) rfl (by exact og_192) (pc' := 12) rfl (fun h2 => ?_)
  refine hp_w hm (at1 2 rfl) (L' := [(0, (.ref 192))]) rfl (by exact og_192) (pc' := 19) rfl (fun h3 => ?_)
  refine hp_w hm (at1 3 rfl) (L' := [(0, (.ref 192))]) rfl (by exact og_192) (pc' := 24) rfl (fun h4 => ?_)
  refine hp_w hm (at1 4 rfl) (L' := [(0, (.ref 192))]) rfl (by exact og_192) (pc' := 31) rfl (fun h5 => ?_)
  refine hp_w hm (at1 5 rfl) (L' := [(0, (.ref 192))]) rfl (by exact og_192) (pc' := 36) rfl (fun h6 => ?_)
  refine hp_w hm (at1 6 rfl) (L' := [(0, (.ref 192))]) rfl (by exact og_192) (pc' := 41) rfl (fun h7 => ?_)
  refine hp_w hm (at1 7 rfl) (L' := [(0, (.ref 192))]) rfl (by exact og_192) (pc' := 46) rfl (fun h8 => ?_)
  refine hp_w hm (at1 8 rfl) (L' := [(0, (.ref 192))]) rfl (by exact og_192) (pc' := 51) rfl (fun h9 => ?_)
  refine hp_w hm (at1 9 rfl) (L' := [(0, (.ref 192))]) rfl (by exact og_192) (pc' := 56) rfl (fun h10 => ?_)
  refine hp_w hm (at1 10 rfl) (L' := [(0, (.ref 192))]) rfl (by exact og_192) (pc' := 61) rfl (fun h11 => ?_)
  refine hp_w hm (at1 11 rfl) (L' := [(0, (.ref 192))]) rfl (by exact og_192) (pc' := 66) rfl (fun h12 => ?_)
  refine hp_w hm (at1 12 rfl) (L' := [(0, (.ref 192))]) rfl (by exact og_192) (pc' := 71) rfl (fun h13 => ?_)
  refine hp_cVS (M2 := M_Mo_setRounding) hm (at1 13 rfl) (as := [(.int (24 : Int32)), (.int (64 : Int32)), (.int (0 : Int32)), (.int (32 : Int32))]) (rest := []) (z := 192) rfl (by exact trivial) (pc' := 79) rfl 0 rfl (lw_g (lw_at lw_m10 0 rfl) rfl) y_Mo_setRounding rfl (d2 := 1) ⟨le_b rfl, pd_Mo_setRounding, le_b rfl⟩ (le_b rfl) og_192 (k_Mo_setRounding (24 : Int32) (64 : Int32) (0 : Int32) (32 : Int32) h13) (fun _ h14 => ?_)
  exact hp_vr hm 1 rfl rfl (fun _ e => e)
/-! HintHouseModel.fail(I)V -/
def M_Mo_fail : hM := (11, ⟨"HintHouseModel", "fail", "(I)V"⟩, prog_13_method_39_code, 2, (Option.none : Option Jvm.ClassFile.FieldType), [], [(0, [(.aload_n 0, 1, 0, 0, 0, .null), (.getfield 409, 3, 11, 59, 0, .null)]), (7, [(.aload_n 0, 1, 0, 0, 0, .null), (.iload_n 1, 1, 0, 0, 0, .null), (.putfield 409, 3, 11, 59, 0, .null)]), (12, [(.aload_n 0, 1, 0, 0, 0, .null), (.aload_n 0, 1, 0, 0, 0, .null), (.getfield 412, 3, 11, 61, 0, .null), (.putfield 415, 3, 11, 60, 0, .null)])], [(20, .return_, 1), (4, .ifCond .ne 16, 3)])
set_option maxRecDepth 100000 in
theorem m_Mo_fail : hx_mok M_Mo_fail = true := by decide +kernel
theorem pd_Mo_fail : (parseMethodDescriptor M_Mo_fail.2.1.desc).map (fun q => q.parameters.length) = some 1 := by decide +kernel
theorem y_Mo_fail : hx_okV M_Mo_fail := ⟨⟨lw_g (lw_at lw_m10 7 rfl) rfl, lw_g (lw_at lw_m10 6 rfl) rfl, qs132, lw_g (lw_at lw_m1 12 rfl) rfl, rfl, by decide, by decide, by decide⟩, rfl, by decide, plainFor_of_name (by decide)⟩
noncomputable def f_Mo_fail (x1 : Int32) (h : hH) : Option (Unit × hH) :=
  if (rdI h 192 59) = 0 then (
    lz (wrI h 192 59 x1) fun h1 =>
    lz (wrI h1 192 60 (rdI h1 192 61)) fun h2 =>
    some ((), h2)
  ) else (
    some ((), h)
  )
set_option maxRecDepth 20000 in
theorem k_Mo_fail (x1 : Int32) (h : hH) : hx_kS S0 M_Mo_fail 1 NT [(.ref 192), (.int x1)] h (f_Mo_fail x1 h) cvU := by
  have hm := m_Mo_fail
  show hx_P S0 M_Mo_fail 1 0 [(0, (.ref 192)), (1, (.int x1))] [] NT h (f_Mo_fail x1 h) (hx_Rc cvU NT)
  unfold f_Mo_fail
  refine hp_if_ne hm (at1 0 rfl) rfl (by exact og_192) (pc' := 4) rfl 1 rfl (tgt := 20) rfl (fun c1 => ?_) (fun c1 => ?_)
  · exact hp_vr hm 0 rfl rfl (fun _ e => e)
  · refine hp_w hm (at1 1 rfl) (L' := [(0, (.ref 192)), (1, (.int x1))]) rfl (by exact og_192) (pc' := 12) rfl (fun h1 => ?_)
    refine hp_w hm (at1 2 rfl) (L' := [(0, (.ref 192)), (1, (.int x1))]) rfl (by exact ⟨og_192, og_192⟩) (pc' := 20) rfl (fun h2 => ?_)
    exact hp_vr hm 0 rfl rfl (fun _ e => e)
/-! HintHouseModel.codeByte(I)I -/
def M_Mo_codeByte : hM := (11, ⟨"HintHouseModel", "codeByte", "(I)I"⟩, prog_13_method_43_code, 2, (Option.some Jvm.ClassFile.FieldType.int), [], [(0, [(.aload_n 0, 1, 0, 0, 0, .null), (.aload_n 0, 1, 0, 0, 0, .null), (.getfield 94, 3, 11, 89, 4, .null), (.aload_n 0, 1, 0, 0, 0, .null), (.getfield 427, 3, 11, 92, 0, .null), (.iaload, 1, 0, 0, 0, .null), (.iload_n 1, 1, 0, 0, 0, .null), (.iadd, 1, 0, 0, 0, .null)])], [(12, .invokevirtual 209, 3), (15, .ireturn, 1)])
set_option maxRecDepth 100000 in
theorem m_Mo_codeByte : hx_mok M_Mo_codeByte = true := by decide +kernel
theorem pd_Mo_codeByte : (parseMethodDescriptor M_Mo_codeByte.2.1.desc).map (fun q => q.parameters.length) = some 1 := by decide +kernel
theorem y_Mo_codeByte : hx_okV M_Mo_codeByte := ⟨⟨lw_g (lw_at lw_m10 11 rfl) rfl, lw_g (lw_at lw_m10 10 rfl) rfl, qs133, lw_g (lw_at lw_m1 12 rfl) rfl, rfl, by decide, by decide, by decide⟩, rfl, by decide, plainFor_of_name (by decide)⟩
noncomputable def f_Mo_codeByte (x1 : Int32) (h : hH) : Option Int32 :=
  gd (vp_in (rdI h 192 92) 3) <|
  bP (f_Mo_u1 ((rdI h 220 (Int32.toNatClampNeg (rdI h 192 92))) + x1) h) fun a2 =>
  some a2
set_option maxRecDepth 20000 in
theorem k_Mo_codeByte (x1 : Int32) (h : hH) : hx_kP S0 M_Mo_codeByte 2 NT [(.ref 192), (.int x1)] h (f_Mo_codeByte x1 h) cvI := by
  have hm := m_Mo_codeByte
  show hx_P S0 M_Mo_codeByte 2 0 [(0, (.ref 192)), (1, (.int x1))] [] NT h (f_Mo_codeByte x1 h) (hx_Rp cvI NT h)
  unfold f_Mo_codeByte
  refine hp_G hm (at1 0 rfl) (L' := [(0, (.ref 192)), (1, (.int x1))]) (st' := [(.int ((rdI h 220 (Int32.toNatClampNeg (rdI h 192 92))) + x1)), (.ref 192)]) rfl (fun hP => (by exact ⟨⟨og_192, og_192⟩, ⟨og_220, hP⟩⟩)) (pc' := 12) rfl (fun q1 => ?_)
  refine hp_cVP (M2 := M_Mo_u1) hm at0 (as := [(.int ((rdI h 220 (Int32.toNatClampNeg (rdI h 192 92))) + x1))]) (rest := []) (z := 192) rfl (by exact trivial) (pc' := 12) rfl 0 rfl (lw_g (lw_at lw_m9 208 rfl) rfl) y_Mo_u1 rfl (d2 := 1) ⟨le_b rfl, pd_Mo_u1, le_b rfl⟩ (le_b rfl) og_192 (k_Mo_u1 ((rdI h 220 (Int32.toNatClampNeg (rdI h 192 92))) + x1) h) (fun a2 => ?_)
  exact hp_ir hm at0 rfl (by exact trivial) (pc' := 15) rfl 1 rfl rfl (vp_nar_int _) (fun _ e => e)
/-! HintHouseModel.has(I)Z -/
def M_Mo_has : hM := (11, ⟨"HintHouseModel", "has", "(I)Z"⟩, prog_13_method_40_code, 2, (Option.some Jvm.ClassFile.FieldType.boolean), [], [(0, [(.aload_n 0, 1, 0, 0, 0, .null), (.getfield 409, 3, 11, 59, 0, .null)]), (7, [(.aload_n 0, 1, 0, 0, 0, .null), (.getfield 418, 3, 11, 56, 0, .null), (.iload_n 1, 1, 0, 0, 0, .null)]), (15, [(.aload_n 0, 1, 0, 0, 0, .null), (.iconst 1, 1, 0, 0, 0, (.int (1 : Int32)))]), (20, [(.aload_n 0, 1, 0, 0, 0, .null), (.getfield 409, 3, 11, 59, 0, .null)]), (31, [(.iconst 0, 1, 0, 0, 0, (.int (0 : Int32)))]), (27, [(.iconst 1, 1, 0, 0, 0, (.int (1 : Int32)))])], [(12, .if_icmp .ge 8, 3), (4, .ifCond .ne 16, 3), (17, .invokevirtual 421, 3), (32, .ireturn, 1), (28, .goto 4, 3), (24, .ifCond .ne 7, 3)])
set_option maxRecDepth 100000 in
theorem m_Mo_has : hx_mok M_Mo_has = true := by decide +kernel
theorem pd_Mo_has : (parseMethodDescriptor M_Mo_has.2.1.desc).map (fun q => q.parameters.length) = some 1 := by decide +kernel
theorem y_Mo_has : hx_okV M_Mo_has := ⟨⟨lw_g (lw_at lw_m10 23 rfl) rfl, lw_g (lw_at lw_m10 22 rfl) rfl, qs136, lw_g (lw_at lw_m1 12 rfl) rfl, rfl, by decide, by decide, by decide⟩, rfl, by decide, plainFor_of_name (by decide)⟩
noncomputable def f_Mo_has (x1 : Int32) (h : hH) : Option (Int32 × hH) :=
  bP (A := hH) (
    if ((rdI h 192 59) = 0 ∧ ¬ (x1 ≤ (rdI h 192 56))) then (
      bS (f_Mo_fail (1 : Int32) h) fun _ h1 =>
      some h1
    ) else (
      some h
    )
  ) fun p1 =>
  if (rdI p1 192 59) = 0 then (
    some ((1 : Int32), p1)
  ) else (
    some ((0 : Int32), p1)
  )
set_option maxRecDepth 20000 in
theorem k_Mo_has (x1 : Int32) (h : hH) : hx_kS S0 M_Mo_has 2 NT [(.ref 192), (.int x1)] h (f_Mo_has x1 h) cvI := by
  have hm := m_Mo_has
  show hx_P S0 M_Mo_has 2 0 [(0, (.ref 192)), (1, (.int x1))] [] NT h (f_Mo_has x1 h) (hx_Rc cvI NT)
  unfold f_Mo_has
  refine hp_J 20 (fun (p1 : hH) => [(0, (.ref 192))]) (fun (p1 : hH) => []) (fun (p1 : hH) => p1) ?_ (fun p1 => ?_)
  · refine hp_cI (L0 := [(0, (.ref 192)), (1, (.int x1))]) (s0 := []) 15 20 ?_ (fun c6 => ?_) (fun c6 => ?_)
    · refine hp_and ?_
      refine hp_if_ne hm (at1 0 rfl) rfl (by exact og_192) (pc' := 4) rfl 1 rfl (tgt := 20) rfl (fun c3 => ?_) (fun c3 => ?_)
      · exact hp_l0 (fun _ e => e)
      · refine hp_decn ?_
        refine hp_ic_ge hm (at1 1 rfl) rfl (by exact og_192) (pc' := 12) rfl 0 rfl (tgt := 20) rfl (fun c2 => ?_) (fun c2 => ?_)
        · exact hp_l0 (fun _ e => e)
        · exact hp_l0 (fun _ e => e)
    · refine hp_cVS (M2 := M_Mo_fail) hm (at1 2 rfl) (as := [(.int (1 : Int32))]) (rest := []) (z := 192) rfl (by exact trivial) (pc' := 17) rfl 2 rfl (lw_g (lw_at lw_m10 4 rfl) rfl) y_Mo_fail rfl (d2 := 1) ⟨le_b rfl, pd_Mo_fail, le_b rfl⟩ (le_b rfl) og_192 (k_Mo_fail (1 : Int32) h) (fun _ h1 => ?_)
      exact hp_lf [0] rfl (fun _ e => e)
    · exact hp_lf [0] rfl (fun _ e => e)
  · refine hp_if_ne hm (at1 3 rfl) rfl (by exact og_192) (pc' := 24) rfl 5 rfl (tgt := 31) rfl (fun c7 => ?_) (fun c7 => ?_)
    · refine hp_b hm (at1 4 rfl) (L' := [(0, (.ref 192))]) (st' := [(.int (0 : Int32))]) rfl (by exact trivial) (pc' := 32) rfl ?_
      exact hp_ir hm at0 rfl (by exact trivial) (pc' := 32) rfl 3 rfl rfl rfl (fun _ e => e)
    · refine hp_b hm (at1 5 rfl) (L' := [(0, (.ref 192))]) (st' := [(.int (1 : Int32))]) rfl (by exact trivial) (pc' := 28) rfl ?_
      refine hp_goto hm 4 rfl (tgt := 32) rfl ?_
      exact hp_ir hm at0 rfl (by exact trivial) (pc' := 32) rfl 3 rfl rfl rfl (fun _ e => e)
/-! HintHouseModel.pop()I -/
def M_Mo_pop : hM := (11, ⟨"HintHouseModel", "pop", "()I"⟩, prog_13_method_41_code, 1, (Option.some Jvm.ClassFile.FieldType.int), [], [(0, [(.aload_n 0, 1, 0, 0, 0, .null), (.dup, 1, 0, 0, 0, .null), (.getfield 418, 3, 11, 56, 0, .null), (.iconst 1, 1, 0, 0, 0, (.int (1 : Int32))), (.isub, 1, 0, 0, 0, .null), (.putfield 418, 3, 11, 56, 0, .null)]), (10, [(.aload_n 0, 1, 0, 0, 0, .null), (.getfield 91, 3, 11, 55, 4, .null), (.aload_n 0, 1, 0, 0, 0, .null), (.getfield 418, 3, 11, 56, 0, .null), (.iaload, 1, 0, 0, 0, .null)])], [(19, .ireturn, 1)])
set_option maxRecDepth 100000 in
theorem m_Mo_pop : hx_mok M_Mo_pop = true := by decide +kernel
theorem pd_Mo_pop : (parseMethodDescriptor M_Mo_pop.2.1.desc).map (fun q => q.parameters.length) = some 0 := by decide +kernel
theorem y_Mo_pop : hx_okV M_Mo_pop := ⟨⟨lw_g (lw_at lw_m10 27 rfl) rfl, lw_g (lw_at lw_m10 26 rfl) rfl, qs137, lw_g (lw_at lw_m1 12 rfl) rfl, rfl, by decide, by decide, by decide⟩, rfl, by decide, plainFor_of_name (by decide)⟩
noncomputable def f_Mo_pop (h : hH) : Option (Int32 × hH) :=
  lz (wrI h 192 56 ((rdI h 192 56) - (1 : Int32))) fun h1 =>
  gd (vp_in (rdI h1 192 56) 256) <|
  some ((rdI h1 219 (Int32.toNatClampNeg (rdI h1 192 56))), h1)
set_option maxRecDepth 20000 in
theorem k_Mo_pop (h : hH) : hx_kS S0 M_Mo_pop 1 NT [(.ref 192)] h (f_Mo_pop h) cvI := by
  have hm := m_Mo_pop
  show hx_P S0 M_Mo_pop 1 0 [(0, (.ref 192))] [] NT h (f_Mo_pop h) (hx_Rc cvI NT)
  unfold f_Mo_pop
  refine hp_w hm (at1 0 rfl) (L' := [(0, (.ref 192))]) rfl (by exact ⟨og_192, og_192⟩) (pc' := 10) rfl (fun h1 => ?_)
  refine hp_G hm (at1 1 rfl) (L' := [(0, (.ref 192))]) (st' := [(.int (rdI h1 219 (Int32.toNatClampNeg (rdI h1 192 56))))]) rfl (fun hP => (by exact ⟨⟨og_192, og_192⟩, ⟨og_219, hP⟩⟩)) (pc' := 19) rfl (fun q1 => ?_)
  exact hp_ir hm at0 rfl (by exact trivial) (pc' := 19) rfl 0 rfl rfl (vp_nar_int _) (fun _ e => e)
/-! HintHouseModel.pointOf(II)I -/
def M_Mo_pointOf : hM := (11, ⟨"HintHouseModel", "pointOf", "(II)I"⟩, prog_13_method_53_code, 4, (Option.some Jvm.ClassFile.FieldType.int), [], [(0, [(.iload_n 1, 1, 0, 0, 0, .null)]), (11, [(.aload_n 0, 1, 0, 0, 0, .null), (.getfield 514, 3, 11, 52, 0, .null)]), (4, [(.aload_n 0, 1, 0, 0, 0, .null), (.getfield 316, 3, 11, 14, 0, .null)]), (15, [(.istore_n 3, 1, 0, 0, 0, .null), (.iload_n 2, 1, 0, 0, 0, .null)]), (20, [(.iload_n 2, 1, 0, 0, 0, .null), (.iload_n 3, 1, 0, 0, 0, .null)]), (25, [(.aload_n 0, 1, 0, 0, 0, .null), (.iconst 5, 1, 0, 0, 0, (.int (5 : Int32)))]), (30, [(.iconst (-1), 1, 0, 0, 0, (.int (-1 : Int32)))]), (32, [(.bipush 102, 2, 0, 0, 0, (.int (102 : Int32))), (.iload_n 1, 1, 0, 0, 0, .null), (.imul, 1, 0, 0, 0, .null), (.iload_n 2, 1, 0, 0, 0, .null), (.iadd, 1, 0, 0, 0, .null)])], [(8, .goto 7, 3), (1, .ifCond .ne 10, 3), (22, .if_icmp .lt 10, 3), (17, .ifCond .lt 8, 3), (27, .invokevirtual 421, 3), (31, .ireturn, 1), (38, .ireturn, 1)])
set_option maxRecDepth 100000 in
theorem m_Mo_pointOf : hx_mok M_Mo_pointOf = true := by decide +kernel
theorem pd_Mo_pointOf : (parseMethodDescriptor M_Mo_pointOf.2.1.desc).map (fun q => q.parameters.length) = some 2 := by decide +kernel
theorem y_Mo_pointOf : hx_okV M_Mo_pointOf := ⟨⟨lw_g (lw_at lw_m10 31 rfl) rfl, lw_g (lw_at lw_m10 30 rfl) rfl, qs138, lw_g (lw_at lw_m1 12 rfl) rfl, rfl, by decide, by decide, by decide⟩, rfl, by decide, plainFor_of_name (by decide)⟩
noncomputable def f_Mo_pointOf (x1 : Int32) (x2 : Int32) (h : hH) : Option (Int32 × hH) :=
  lz (A := Int32) (if x1 = 0 then (rdI h 192 14) else (rdI h 192 52)) fun p1 =>
  if (x2 < 0 ∨ ¬ (x2 < p1)) then (
    bS (f_Mo_fail (5 : Int32) h) fun _ h1 =>
    some ((-1 : Int32), h1)
  ) else (
    some ((((102 : Int32) * x1) + x2), h)
  )
set_option maxRecDepth 20000 in
theorem k_Mo_pointOf (x1 : Int32) (x2 : Int32) (h : hH) : hx_kS S0 M_Mo_pointOf 2 NT [(.ref 192), (.int x1), (.int x2)] h (f_Mo_pointOf x1 x2 h) cvI := by
  have hm := m_Mo_pointOf
  show hx_P S0 M_Mo_pointOf 2 0 [(0, (.ref 192)), (1, (.int x1)), (2, (.int x2))] [] NT h (f_Mo_pointOf x1 x2 h) (hx_Rc cvI NT)
  unfold f_Mo_pointOf
  refine hp_JZ 15 (fun (p1 : Int32) => [(0, (.ref 192)), (1, (.int x1)), (2, (.int x2))]) (fun (p1 : Int32) => [(.int p1)]) (fun (p1 : Int32) => h) ?_ (fun p1 => ?_)
  · refine hp_sv0 ?_
    refine hp_if_ne hm (at1 0 rfl) rfl (by exact trivial) (pc' := 1) rfl 1 rfl (tgt := 11) rfl (fun c2 => ?_) (fun c2 => ?_)
    · refine hp_b hm (at1 1 rfl) (L' := [(0, (.ref 192)), (1, (.int x1)), (2, (.int x2))]) (st' := [(.int (rdI h 192 52))]) rfl (by exact og_192) (pc' := 15) rfl ?_
      exact hp_lf [0, 1, 2] rfl (fun _ e => e)
    · refine hp_b hm (at1 2 rfl) (L' := [(0, (.ref 192)), (1, (.int x1)), (2, (.int x2))]) (st' := [(.int (rdI h 192 14))]) rfl (by exact og_192) (pc' := 8) rfl ?_
      refine hp_goto hm 0 rfl (tgt := 15) rfl ?_
      exact hp_lf [0, 1, 2] rfl (fun _ e => e)
  · refine hp_b hm (at1 3 rfl) (L' := [(3, (.int p1)), (0, (.ref 192)), (1, (.int x1)), (2, (.int x2))]) (st' := [(.int x2)]) rfl (by exact trivial) (pc' := 17) rfl ?_
    refine hp_cI (L0 := [(3, (.int p1)), (0, (.ref 192)), (1, (.int x1)), (2, (.int x2))]) (s0 := []) 25 32 ?_ (fun c7 => ?_) (fun c7 => ?_)
    · refine hp_or ?_
      refine hp_if_lt hm at0 rfl (by exact trivial) (pc' := 17) rfl 3 rfl (tgt := 25) rfl (fun c4 => ?_) (fun c4 => ?_)
      · exact hp_l0 (fun _ e => e)
      · refine hp_decn ?_
        refine hp_ic_lt hm (at1 4 rfl) rfl (by exact trivial) (pc' := 22) rfl 2 rfl (tgt := 32) rfl (fun c3 => ?_) (fun c3 => ?_)
        · exact hp_l0 (fun _ e => e)
        · exact hp_l0 (fun _ e => e)
    · refine hp_cVS (M2 := M_Mo_fail) hm (at1 5 rfl) (as := [(.int (5 : Int32))]) (rest := []) (z := 192) rfl (by exact trivial) (pc' := 27) rfl 4 rfl (lw_g (lw_at lw_m10 4 rfl) rfl) y_Mo_fail rfl (d2 := 1) ⟨le_b rfl, pd_Mo_fail, le_b rfl⟩ (le_b rfl) og_192 (k_Mo_fail (5 : Int32) h) (fun _ h1 => ?_)
      exact hp_ir hm (at1 6 rfl) rfl (by exact trivial) (pc' := 31) rfl 5 rfl rfl (vp_nar_int _) (fun _ e => e)
    · exact hp_ir hm (at1 7 rfl) rfl (by exact trivial) (pc' := 38) rfl 6 rfl rfl (vp_nar_int _) (fun _ e => e)
/-! HintHouseModel.by(IIII)I -/
def M_Mo_by : hM := (11, ⟨"HintHouseModel", "by", "(IIII)I"⟩, prog_13_method_54_code, 4, (Option.some Jvm.ClassFile.FieldType.int), [], [(0, [(.iload_n 0, 1, 0, 0, 0, .null), (.i2l, 1, 0, 0, 0, .null), (.iload_n 2, 1, 0, 0, 0, .null), (.i2l, 1, 0, 0, 0, .null), (.lmul, 1, 0, 0, 0, .null), (.iload_n 1, 1, 0, 0, 0, .null), (.i2l, 1, 0, 0, 0, .null), (.iload_n 3, 1, 0, 0, 0, .null), (.i2l, 1, 0, 0, 0, .null), (.lmul, 1, 0, 0, 0, .null), (.ladd, 1, 0, 0, 0, .null), (.ldc2_w 310, 3, 0, 0, 0, (.long (16384 : Int64)))]), (17, [(.l2i, 1, 0, 0, 0, .null)])], [(14, .invokestatic 517, 3), (18, .ireturn, 1)])
set_option maxRecDepth 100000 in
theorem m_Mo_by : hx_mok M_Mo_by = true := by decide +kernel
theorem pd_Mo_by : (parseMethodDescriptor M_Mo_by.2.1.desc).map (fun q => q.parameters.length) = some 4 := by decide +kernel
theorem y_Mo_by : hx_okS M_Mo_by := ⟨⟨lw_g (lw_at lw_m10 38 rfl) rfl, lw_g (lw_at lw_m10 37 rfl) rfl, lw_g (lw_at lw_m1 12 rfl) rfl, by decide, by decide⟩, rfl, by decide, plainFor_of_name (by decide), rfl⟩
noncomputable def f_Mo_by (x1 : Int32) (x2 : Int32) (x3 : Int32) (x4 : Int32) : Option Int32 :=
  bP (f_Mo_over (((Int32.toInt64 x1) * (Int32.toInt64 x3)) + ((Int32.toInt64 x2) * (Int32.toInt64 x4))) (16384 : Int64)) fun a1 =>
  some (Int64.toInt32 a1)
set_option maxRecDepth 20000 in
theorem k_Mo_by (x1 : Int32) (x2 : Int32) (x3 : Int32) (x4 : Int32) (h : hH) : hx_kP S0 M_Mo_by 4 NT [(.int x1), (.int x2), (.int x3), (.int x4)] h (f_Mo_by x1 x2 x3 x4) cvI := by
  have hm := m_Mo_by
  show hx_P S0 M_Mo_by 4 0 [(0, (.int x1)), (1, (.int x2)), (2, (.int x3)), (3, (.int x4))] [] NT h (f_Mo_by x1 x2 x3 x4) (hx_Rp cvI NT h)
  unfold f_Mo_by
  refine hp_cSP (M2 := M_Mo_over) hm (at1 0 rfl) (as := [(.long (((Int32.toInt64 x1) * (Int32.toInt64 x3)) + ((Int32.toInt64 x2) * (Int32.toInt64 x4)))), (.long (16384 : Int64))]) (rest := []) rfl (by exact trivial) (pc' := 14) rfl 0 rfl (lw_g (lw_at lw_m9 217 rfl) rfl) y_Mo_over rfl (d2 := 3) ⟨le_b rfl, pd_Mo_over, le_b rfl⟩ (le_b rfl) (k_Mo_over (((Int32.toInt64 x1) * (Int32.toInt64 x3)) + ((Int32.toInt64 x2) * (Int32.toInt64 x4))) (16384 : Int64) h) (fun a1 => ?_)
  exact hp_ir hm (at1 1 rfl) rfl (by exact trivial) (pc' := 18) rfl 1 rfl rfl (vp_nar_int _) (fun _ e => e)
/-! HintHouseModel.originally(II)I -/
def M_Mo_originally : hM := (11, ⟨"HintHouseModel", "originally", "(II)I"⟩, prog_13_method_57_code, 3, (Option.some Jvm.ClassFile.FieldType.int), [], [(0, [(.aload_n 0, 1, 0, 0, 0, .null), (.getfield 70, 3, 11, 46, 4, .null), (.iload_n 1, 1, 0, 0, 0, .null), (.iaload, 1, 0, 0, 0, .null), (.aload_n 0, 1, 0, 0, 0, .null), (.getfield 70, 3, 11, 46, 4, .null), (.iload_n 2, 1, 0, 0, 0, .null), (.iaload, 1, 0, 0, 0, .null), (.isub, 1, 0, 0, 0, .null), (.aload_n 0, 1, 0, 0, 0, .null), (.getfield 73, 3, 11, 47, 4, .null), (.iload_n 1, 1, 0, 0, 0, .null), (.iaload, 1, 0, 0, 0, .null), (.aload_n 0, 1, 0, 0, 0, .null), (.getfield 73, 3, 11, 47, 4, .null), (.iload_n 2, 1, 0, 0, 0, .null), (.iaload, 1, 0, 0, 0, .null), (.isub, 1, 0, 0, 0, .null), (.aload_n 0, 1, 0, 0, 0, .null), (.getfield 445, 3, 11, 67, 0, .null), (.aload_n 0, 1, 0, 0, 0, .null), (.getfield 448, 3, 11, 68, 0, .null)])], [(34, .invokestatic 520, 3), (37, .ireturn, 1)])
set_option maxRecDepth 100000 in
theorem m_Mo_originally : hx_mok M_Mo_originally = true := by decide +kernel
theorem pd_Mo_originally : (parseMethodDescriptor M_Mo_originally.2.1.desc).map (fun q => q.parameters.length) = some 2 := by decide +kernel
theorem y_Mo_originally : hx_okV M_Mo_originally := ⟨⟨lw_g (lw_at lw_m10 35 rfl) rfl, lw_g (lw_at lw_m10 34 rfl) rfl, qs139, lw_g (lw_at lw_m1 12 rfl) rfl, rfl, by decide, by decide, by decide⟩, rfl, by decide, plainFor_of_name (by decide)⟩
noncomputable def f_Mo_originally (x1 : Int32) (x2 : Int32) (h : hH) : Option Int32 :=
  gd (vp_in x1 204 ∧ vp_in x2 204) <|
  bP (f_Mo_by ((rdI h 212 (Int32.toNatClampNeg x1)) - (rdI h 212 (Int32.toNatClampNeg x2))) ((rdI h 213 (Int32.toNatClampNeg x1)) - (rdI h 213 (Int32.toNatClampNeg x2))) (rdI h 192 67) (rdI h 192 68)) fun a2 =>
  some a2
set_option maxRecDepth 20000 in
theorem k_Mo_originally (x1 : Int32) (x2 : Int32) (h : hH) : hx_kP S0 M_Mo_originally 5 NT [(.ref 192), (.int x1), (.int x2)] h (f_Mo_originally x1 x2 h) cvI := by
  have hm := m_Mo_originally
  show hx_P S0 M_Mo_originally 5 0 [(0, (.ref 192)), (1, (.int x1)), (2, (.int x2))] [] NT h (f_Mo_originally x1 x2 h) (hx_Rp cvI NT h)
  unfold f_Mo_originally
  refine hp_G hm (at1 0 rfl) (L' := [(0, (.ref 192)), (1, (.int x1)), (2, (.int x2))]) (st' := [(.int (rdI h 192 68)), (.int (rdI h 192 67)), (.int ((rdI h 213 (Int32.toNatClampNeg x1)) - (rdI h 213 (Int32.toNatClampNeg x2)))), (.int ((rdI h 212 (Int32.toNatClampNeg x1)) - (rdI h 212 (Int32.toNatClampNeg x2))))]) rfl (fun hP => (by exact ⟨⟨⟨⟨⟨⟨⟨⟨⟨og_192, ⟨og_212, hP.1⟩⟩, og_192⟩, ⟨og_212, hP.2⟩⟩, og_192⟩, ⟨og_213, hP.1⟩⟩, og_192⟩, ⟨og_213, hP.2⟩⟩, og_192⟩, og_192⟩)) (pc' := 34) rfl (fun q1 => ?_)
  refine hp_cSP (M2 := M_Mo_by) hm at0 (as := [(.int ((rdI h 212 (Int32.toNatClampNeg x1)) - (rdI h 212 (Int32.toNatClampNeg x2)))), (.int ((rdI h 213 (Int32.toNatClampNeg x1)) - (rdI h 213 (Int32.toNatClampNeg x2)))), (.int (rdI h 192 67)), (.int (rdI h 192 68))]) (rest := []) rfl (by exact trivial) (pc' := 34) rfl 0 rfl (lw_g (lw_at lw_m10 36 rfl) rfl) y_Mo_by rfl (d2 := 4) ⟨le_b rfl, pd_Mo_by, le_b rfl⟩ (le_b rfl) (k_Mo_by ((rdI h 212 (Int32.toNatClampNeg x1)) - (rdI h 212 (Int32.toNatClampNeg x2))) ((rdI h 213 (Int32.toNatClampNeg x1)) - (rdI h 213 (Int32.toNatClampNeg x2))) (rdI h 192 67) (rdI h 192 68) h) (fun a2 => ?_)
  exact hp_ir hm at0 rfl (by exact trivial) (pc' := 37) rfl 1 rfl rfl (vp_nar_int _) (fun _ e => e)
/-! HintHouseModel.singled(J)J -/
def M_Mo_singled : hM := (11, ⟨"HintHouseModel", "singled", "(J)J"⟩, prog_13_method_88_code, 5, (Option.some Jvm.ClassFile.FieldType.long), [], [(0, [(.aload_n 0, 1, 0, 0, 0, .null), (.getfield 615, 3, 11, 81, 0, .null), (.i2l, 1, 0, 0, 0, .null)]), (8, [(.lstore_n 3, 1, 0, 0, 0, .null), (.lload_n 1, 1, 0, 0, 0, .null)]), (13, [(.lload_n 3, 1, 0, 0, 0, .null), (.lsub, 1, 0, 0, 0, .null)]), (18, [(.aload_n 0, 1, 0, 0, 0, .null), (.getfield 608, 3, 11, 82, 0, .null), (.i2l, 1, 0, 0, 0, .null), (.lcmp, 1, 0, 0, 0, .null)]), (42, [(.lload_n 1, 1, 0, 0, 0, .null)]), (27, [(.lload_n 1, 1, 0, 0, 0, .null), (.lconst 0, 1, 0, 0, 0, (.long (0 : Int64))), (.lcmp, 1, 0, 0, 0, .null)]), (38, [(.lload_n 3, 1, 0, 0, 0, .null)]), (33, [(.lload_n 3, 1, 0, 0, 0, .null), (.lneg, 1, 0, 0, 0, .null)])], [(5, .invokestatic 198, 3), (10, .invokestatic 198, 3), (15, .invokestatic 198, 3), (43, .lreturn, 1), (39, .goto 4, 3), (35, .goto 8, 3), (30, .ifCond .ge 8, 3), (24, .ifCond .ge 18, 3)])
set_option maxRecDepth 100000 in
theorem m_Mo_singled : hx_mok M_Mo_singled = true := by decide +kernel
theorem pd_Mo_singled : (parseMethodDescriptor M_Mo_singled.2.1.desc).map (fun q => q.parameters.length) = some 1 := by decide +kernel
theorem y_Mo_singled : hx_okV M_Mo_singled := ⟨⟨lw_g (lw_at lw_m10 43 rfl) rfl, lw_g (lw_at lw_m10 42 rfl) rfl, qs140, lw_g (lw_at lw_m1 12 rfl) rfl, rfl, by decide, by decide, by decide⟩, rfl, by decide, plainFor_of_name (by decide)⟩
noncomputable def f_Mo_singled (x1 : Int64) (h : hH) : Option Int64 :=
  bP (f_Mo_sizeOf (Int32.toInt64 (rdI h 192 81))) fun a1 =>
  bP (f_Mo_sizeOf x1) fun a2 =>
  bP (f_Mo_sizeOf (a2 - a1)) fun a3 =>
  if (Int32.toInt64 (rdI h 192 82)) ≤ a3 then (
    some x1
  ) else (
    if (0 : Int64) ≤ x1 then (
      some a1
    ) else (
      some (-a1)
    )
  )
set_option maxRecDepth 20000 in
theorem k_Mo_singled (x1 : Int64) (h : hH) : hx_kP S0 M_Mo_singled 2 NT [(.ref 192), (.long x1)] h (f_Mo_singled x1 h) cvL := by
  have hm := m_Mo_singled
  show hx_P S0 M_Mo_singled 2 0 [(0, (.ref 192)), (1, (.long x1))] [] NT h (f_Mo_singled x1 h) (hx_Rp cvL NT h)
  unfold f_Mo_singled
  refine hp_cSP (M2 := M_Mo_sizeOf) hm (at1 0 rfl) (as := [(.long (Int32.toInt64 (rdI h 192 81)))]) (rest := []) rfl (by exact og_192) (pc' := 5) rfl 0 rfl (lw_g (lw_at lw_m9 223 rfl) rfl) y_Mo_sizeOf rfl (d2 := 1) ⟨le_b rfl, pd_Mo_sizeOf, le_b rfl⟩ (le_b rfl) (k_Mo_sizeOf (Int32.toInt64 (rdI h 192 81)) h) (fun a1 => ?_)
  refine hp_b hm (at1 1 rfl) (L' := [(3, (.long a1)), (0, (.ref 192)), (1, (.long x1))]) (st' := [(.long x1)]) rfl (by exact trivial) (pc' := 10) rfl ?_
  refine hp_cSP (M2 := M_Mo_sizeOf) hm at0 (as := [(.long x1)]) (rest := []) rfl (by exact trivial) (pc' := 10) rfl 1 rfl (lw_g (lw_at lw_m9 223 rfl) rfl) y_Mo_sizeOf rfl (d2 := 1) ⟨le_b rfl, pd_Mo_sizeOf, le_b rfl⟩ (le_b rfl) (k_Mo_sizeOf x1 h) (fun a2 => ?_)
  refine hp_cSP (M2 := M_Mo_sizeOf) hm (at1 2 rfl) (as := [(.long (a2 - a1))]) (rest := []) rfl (by exact trivial) (pc' := 15) rfl 2 rfl (lw_g (lw_at lw_m9 223 rfl) rfl) y_Mo_sizeOf rfl (d2 := 1) ⟨le_b rfl, pd_Mo_sizeOf, le_b rfl⟩ (le_b rfl) (k_Mo_sizeOf (a2 - a1) h) (fun a3 => ?_)
  refine hp_lc_ge hm (at1 3 rfl) rfl (by exact og_192) (pc' := 24) rfl 7 rfl (tgt := 42) rfl (fun c5 => ?_) (fun c5 => ?_)
  · refine hp_b hm (at1 4 rfl) (L' := [(3, (.long a1)), (0, (.ref 192)), (1, (.long x1))]) (st' := [(.long x1)]) rfl (by exact trivial) (pc' := 43) rfl ?_
    exact hp_lr hm at0 rfl (by exact trivial) (pc' := 43) rfl 3 rfl rfl (fun _ e => e)
  · refine hp_lc_ge hm (at1 5 rfl) rfl (by exact trivial) (pc' := 30) rfl 6 rfl (tgt := 38) rfl (fun c4 => ?_) (fun c4 => ?_)
    · refine hp_b hm (at1 6 rfl) (L' := [(3, (.long a1)), (0, (.ref 192)), (1, (.long x1))]) (st' := [(.long a1)]) rfl (by exact trivial) (pc' := 39) rfl ?_
      refine hp_goto hm 4 rfl (tgt := 43) rfl ?_
      exact hp_lr hm at0 rfl (by exact trivial) (pc' := 43) rfl 3 rfl rfl (fun _ e => e)
    · refine hp_b hm (at1 7 rfl) (L' := [(3, (.long a1)), (0, (.ref 192)), (1, (.long x1))]) (st' := [(.long (-a1))]) rfl (by exact trivial) (pc' := 35) rfl ?_
      refine hp_goto hm 5 rfl (tgt := 43) rfl ?_
      exact hp_lr hm at0 rfl (by exact trivial) (pc' := 43) rfl 3 rfl rfl (fun _ e => e)
/-! HintHouseModel.rounded(J)J -/
def M_Mo_rounded : hM := (11, ⟨"HintHouseModel", "rounded", "(J)J"⟩, prog_13_method_47_code, 7, (Option.some Jvm.ClassFile.FieldType.long), [], [(0, [(.aload_n 0, 1, 0, 0, 0, .null), (.getfield 476, 3, 11, 76, 0, .null), (.bipush 122, 2, 0, 0, 0, (.int (122 : Int32)))]), (11, [(.lload_n 1, 1, 0, 0, 0, .null), (.lconst 0, 1, 0, 0, 0, (.long (0 : Int64))), (.lcmp, 1, 0, 0, 0, .null)]), (22, [(.lload_n 1, 1, 0, 0, 0, .null)]), (17, [(.lload_n 1, 1, 0, 0, 0, .null), (.lneg, 1, 0, 0, 0, .null)]), (23, [(.lstore_n 3, 1, 0, 0, 0, .null), (.lload_n 3, 1, 0, 0, 0, .null), (.aload_n 0, 1, 0, 0, 0, .null), (.getfield 482, 3, 11, 78, 0, .null), (.i2l, 1, 0, 0, 0, .null), (.lsub, 1, 0, 0, 0, .null), (.aload_n 0, 1, 0, 0, 0, .null), (.getfield 485, 3, 11, 79, 0, .null), (.i2l, 1, 0, 0, 0, .null), (.ladd, 1, 0, 0, 0, .null), (.aload_n 0, 1, 0, 0, 0, .null), (.getfield 479, 3, 11, 77, 0, .null), (.i2l, 1, 0, 0, 0, .null)]), (45, [(.aload_n 0, 1, 0, 0, 0, .null), (.getfield 479, 3, 11, 77, 0, .null), (.i2l, 1, 0, 0, 0, .null), (.lmul, 1, 0, 0, 0, .null), (.aload_n 0, 1, 0, 0, 0, .null), (.getfield 482, 3, 11, 78, 0, .null), (.i2l, 1, 0, 0, 0, .null), (.ladd, 1, 0, 0, 0, .null), (.lstore 5, 2, 0, 0, 0, .null)]), (59, [(.lload 5, 2, 0, 0, 0, .null), (.lconst 0, 1, 0, 0, 0, (.long (0 : Int64))), (.lcmp, 1, 0, 0, 0, .null)]), (74, [(.lload 5, 2, 0, 0, 0, .null)]), (66, [(.aload_n 0, 1, 0, 0, 0, .null), (.getfield 482, 3, 11, 78, 0, .null), (.i2l, 1, 0, 0, 0, .null)]), (76, [(.lstore 5, 2, 0, 0, 0, .null), (.lload_n 1, 1, 0, 0, 0, .null), (.lconst 0, 1, 0, 0, 0, (.long (0 : Int64))), (.lcmp, 1, 0, 0, 0, .null)]), (90, [(.lload 5, 2, 0, 0, 0, .null)]), (84, [(.lload 5, 2, 0, 0, 0, .null), (.lneg, 1, 0, 0, 0, .null)]), (9, [(.lload_n 1, 1, 0, 0, 0, .null)])], [(19, .goto 4, 3), (14, .ifCond .ge 8, 3), (42, .invokestatic 488, 3), (71, .goto 5, 3), (63, .ifCond .ge 11, 3), (92, .lreturn, 1), (87, .goto 5, 3), (81, .ifCond .ge 9, 3), (10, .lreturn, 1), (6, .if_icmp .ne 5, 3)])
set_option maxRecDepth 100000 in
theorem m_Mo_rounded : hx_mok M_Mo_rounded = true := by decide +kernel
theorem pd_Mo_rounded : (parseMethodDescriptor M_Mo_rounded.2.1.desc).map (fun q => q.parameters.length) = some 1 := by decide +kernel
theorem y_Mo_rounded : hx_okV M_Mo_rounded := ⟨⟨lw_g (lw_at lw_m10 47 rfl) rfl, lw_g (lw_at lw_m10 46 rfl) rfl, qs141, lw_g (lw_at lw_m1 12 rfl) rfl, rfl, by decide, by decide, by decide⟩, rfl, by decide, plainFor_of_name (by decide)⟩
noncomputable def f_Mo_rounded (x1 : Int64) (h : hH) : Option Int64 :=
  if (rdI h 192 76) = (122 : Int32) then (
    some x1
  ) else (
    lz (A := Int64) (if (0 : Int64) ≤ x1 then x1 else (-x1)) fun p1 =>
    bP (f_JM_floorDiv ((p1 - (Int32.toInt64 (rdI h 192 78))) + (Int32.toInt64 (rdI h 192 79))) (Int32.toInt64 (rdI h 192 77))) fun a3 =>
    lz (A := Int64) ((a3 * (Int32.toInt64 (rdI h 192 77))) + (Int32.toInt64 (rdI h 192 78))) fun v4 =>
    lz (A := Int64) (if (0 : Int64) ≤ v4 then v4 else (Int32.toInt64 (rdI h 192 78))) fun p5 =>
    if (0 : Int64) ≤ x1 then (
      some p5
    ) else (
      some (-p5)
    )
  )
set_option maxRecDepth 20000 in
theorem k_Mo_rounded (x1 : Int64) (h : hH) : hx_kP S0 M_Mo_rounded 2 NT [(.ref 192), (.long x1)] h (f_Mo_rounded x1 h) cvL := by
  have hm := m_Mo_rounded
  show hx_P S0 M_Mo_rounded 2 0 [(0, (.ref 192)), (1, (.long x1))] [] NT h (f_Mo_rounded x1 h) (hx_Rp cvL NT h)
  unfold f_Mo_rounded
  refine hp_ic_ne hm (at1 0 rfl) rfl (by exact og_192) (pc' := 6) rfl 9 rfl (tgt := 11) rfl (fun c8 => ?_) (fun c8 => ?_)
  · refine hp_JZ 23 (fun (p1 : Int64) => [(0, (.ref 192)), (1, (.long x1))]) (fun (p1 : Int64) => [(.long p1)]) (fun (p1 : Int64) => h) ?_ (fun p1 => ?_)
    · refine hp_sv0 ?_
      refine hp_lc_ge hm (at1 1 rfl) rfl (by exact trivial) (pc' := 14) rfl 1 rfl (tgt := 22) rfl (fun c2 => ?_) (fun c2 => ?_)
      · refine hp_b hm (at1 2 rfl) (L' := [(0, (.ref 192)), (1, (.long x1))]) (st' := [(.long x1)]) rfl (by exact trivial) (pc' := 23) rfl ?_
        exact hp_lf [0, 1] rfl (fun _ e => e)
      · refine hp_b hm (at1 3 rfl) (L' := [(0, (.ref 192)), (1, (.long x1))]) (st' := [(.long (-x1))]) rfl (by exact trivial) (pc' := 19) rfl ?_
        refine hp_goto hm 0 rfl (tgt := 23) rfl ?_
        exact hp_lf [0, 1] rfl (fun _ e => e)
    · refine hp_b hm (at1 4 rfl) (L' := [(3, (.long p1)), (0, (.ref 192)), (1, (.long x1))]) (st' := [(.long (Int32.toInt64 (rdI h 192 77))), (.long ((p1 - (Int32.toInt64 (rdI h 192 78))) + (Int32.toInt64 (rdI h 192 79))))]) rfl (by exact ⟨⟨og_192, og_192⟩, og_192⟩) (pc' := 42) rfl ?_
      refine hp_cSP (M2 := M_JM_floorDiv) hm at0 (as := [(.long ((p1 - (Int32.toInt64 (rdI h 192 78))) + (Int32.toInt64 (rdI h 192 79)))), (.long (Int32.toInt64 (rdI h 192 77)))]) (rest := []) rfl (by exact trivial) (pc' := 42) rfl 2 rfl (lw_g (lw_at lw_m10 48 rfl) rfl) y_JM_floorDiv rfl (d2 := 1) ⟨le_b rfl, pd_JM_floorDiv, le_b rfl⟩ (le_b rfl) (k_JM_floorDiv ((p1 - (Int32.toInt64 (rdI h 192 78))) + (Int32.toInt64 (rdI h 192 79))) (Int32.toInt64 (rdI h 192 77)) h) (fun a3 => ?_)
      refine hp_z hm (at1 5 rfl) (fun (v4 : Int64) => [(5, (.long v4)), (3, (.long p1)), (0, (.ref 192)), (1, (.long x1))]) (fun (v4 : Int64) => []) rfl (by exact ⟨og_192, og_192⟩) (pc' := 59) rfl (fun v4 => ?_)
      refine hp_JZ 76 (fun (p5 : Int64) => [(1, (.long x1))]) (fun (p5 : Int64) => [(.long p5)]) (fun (p5 : Int64) => h) ?_ (fun p5 => ?_)
      · refine hp_sv0 ?_
        refine hp_lc_ge hm (at1 6 rfl) rfl (by exact trivial) (pc' := 63) rfl 4 rfl (tgt := 74) rfl (fun c6 => ?_) (fun c6 => ?_)
        · refine hp_b hm (at1 7 rfl) (L' := [(5, (.long v4)), (3, (.long p1)), (0, (.ref 192)), (1, (.long x1))]) (st' := [(.long v4)]) rfl (by exact trivial) (pc' := 76) rfl ?_
          exact hp_lf [3] rfl (fun _ e => e)
        · refine hp_b hm (at1 8 rfl) (L' := [(5, (.long v4)), (3, (.long p1)), (0, (.ref 192)), (1, (.long x1))]) (st' := [(.long (Int32.toInt64 (rdI h 192 78)))]) rfl (by exact og_192) (pc' := 71) rfl ?_
          refine hp_goto hm 3 rfl (tgt := 76) rfl ?_
          exact hp_lf [3] rfl (fun _ e => e)
      · refine hp_b hm (at1 9 rfl) (L' := [(5, (.long p5)), (1, (.long x1))]) (st' := [(.int (lg_cmp x1 (0 : Int64)))]) rfl (by exact trivial) (pc' := 81) rfl ?_
        refine hp_lc_ge hm at0 rfl (by exact trivial) (pc' := 81) rfl 7 rfl (tgt := 90) rfl (fun c7 => ?_) (fun c7 => ?_)
        · refine hp_b hm (at1 10 rfl) (L' := [(5, (.long p5)), (1, (.long x1))]) (st' := [(.long p5)]) rfl (by exact trivial) (pc' := 92) rfl ?_
          exact hp_lr hm at0 rfl (by exact trivial) (pc' := 92) rfl 5 rfl rfl (fun _ e => e)
        · refine hp_b hm (at1 11 rfl) (L' := [(5, (.long p5)), (1, (.long x1))]) (st' := [(.long (-p5))]) rfl (by exact trivial) (pc' := 87) rfl ?_
          refine hp_goto hm 6 rfl (tgt := 92) rfl ?_
          exact hp_lr hm at0 rfl (by exact trivial) (pc' := 92) rfl 5 rfl rfl (fun _ e => e)
  · exact hp_lr hm (at1 12 rfl) rfl (by exact trivial) (pc' := 10) rfl 8 rfl rfl (fun _ e => e)
/-! HintHouseModel.atLeast(IJJ)J -/
def M_Mo_atLeast : hM := (11, ⟨"HintHouseModel", "atLeast", "(IJJ)J"⟩, prog_13_method_89_code, 6, (Option.some Jvm.ClassFile.FieldType.long), [], [(0, [(.iload_n 1, 1, 0, 0, 0, .null), (.bipush 8, 2, 0, 0, 0, (.int (8 : Int32))), (.iand, 1, 0, 0, 0, .null)]), (10, [(.lload_n 2, 1, 0, 0, 0, .null), (.lconst 0, 1, 0, 0, 0, (.long (0 : Int64))), (.lcmp, 1, 0, 0, 0, .null)]), (40, [(.lload 4, 2, 0, 0, 0, .null), (.aload_n 0, 1, 0, 0, 0, .null), (.getfield 595, 3, 11, 83, 0, .null), (.i2l, 1, 0, 0, 0, .null), (.lneg, 1, 0, 0, 0, .null), (.lcmp, 1, 0, 0, 0, .null)]), (61, [(.lload 4, 2, 0, 0, 0, .null)]), (52, [(.aload_n 0, 1, 0, 0, 0, .null), (.getfield 595, 3, 11, 83, 0, .null), (.i2l, 1, 0, 0, 0, .null), (.lneg, 1, 0, 0, 0, .null)]), (16, [(.lload 4, 2, 0, 0, 0, .null), (.aload_n 0, 1, 0, 0, 0, .null), (.getfield 595, 3, 11, 83, 0, .null), (.i2l, 1, 0, 0, 0, .null), (.lcmp, 1, 0, 0, 0, .null)]), (35, [(.lload 4, 2, 0, 0, 0, .null)]), (27, [(.aload_n 0, 1, 0, 0, 0, .null), (.getfield 595, 3, 11, 83, 0, .null), (.i2l, 1, 0, 0, 0, .null)]), (7, [(.lload 4, 2, 0, 0, 0, .null)])], [(63, .lreturn, 1), (58, .goto 5, 3), (49, .ifCond .le 12, 3), (37, .goto 26, 3), (32, .goto 31, 3), (24, .ifCond .ge 11, 3), (13, .ifCond .lt 27, 3), (9, .lreturn, 1), (4, .ifCond .ne 6, 3)])
set_option maxRecDepth 100000 in
theorem m_Mo_atLeast : hx_mok M_Mo_atLeast = true := by decide +kernel
theorem pd_Mo_atLeast : (parseMethodDescriptor M_Mo_atLeast.2.1.desc).map (fun q => q.parameters.length) = some 3 := by decide +kernel
theorem y_Mo_atLeast : hx_okV M_Mo_atLeast := ⟨⟨lw_g (lw_at lw_m10 52 rfl) rfl, lw_g (lw_at lw_m10 51 rfl) rfl, qs142, lw_g (lw_at lw_m1 12 rfl) rfl, rfl, by decide, by decide, by decide⟩, rfl, by decide, plainFor_of_name (by decide)⟩
noncomputable def f_Mo_atLeast (x1 : Int32) (x2 : Int64) (x3 : Int64) (h : hH) : Option Int64 :=
  if (x1 &&& (8 : Int32)) = 0 then (
    some x3
  ) else (
    if x2 < (0 : Int64) then (
      if x3 ≤ (-(Int32.toInt64 (rdI h 192 83))) then (
        some x3
      ) else (
        some (-(Int32.toInt64 (rdI h 192 83)))
      )
    ) else (
      if (Int32.toInt64 (rdI h 192 83)) ≤ x3 then (
        some x3
      ) else (
        some (Int32.toInt64 (rdI h 192 83))
      )
    )
  )
set_option maxRecDepth 20000 in
theorem k_Mo_atLeast (x1 : Int32) (x2 : Int64) (x3 : Int64) (h : hH) : hx_kP S0 M_Mo_atLeast 1 NT [(.ref 192), (.int x1), (.long x2), (.long x3)] h (f_Mo_atLeast x1 x2 x3 h) cvL := by
  have hm := m_Mo_atLeast
  show hx_P S0 M_Mo_atLeast 1 0 [(0, (.ref 192)), (1, (.int x1)), (2, (.long x2)), (4, (.long x3))] [] NT h (f_Mo_atLeast x1 x2 x3 h) (hx_Rp cvL NT h)
  unfold f_Mo_atLeast
  refine hp_if_ne hm (at1 0 rfl) rfl (by exact trivial) (pc' := 4) rfl 8 rfl (tgt := 10) rfl (fun c4 => ?_) (fun c4 => ?_)
  · refine hp_lc_lt hm (at1 1 rfl) rfl (by exact trivial) (pc' := 13) rfl 6 rfl (tgt := 40) rfl (fun c3 => ?_) (fun c3 => ?_)
    · refine hp_lc_le hm (at1 2 rfl) rfl (by exact og_192) (pc' := 49) rfl 2 rfl (tgt := 61) rfl (fun c1 => ?_) (fun c1 => ?_)
      · refine hp_b hm (at1 3 rfl) (L' := [(0, (.ref 192)), (1, (.int x1)), (2, (.long x2)), (4, (.long x3))]) (st' := [(.long x3)]) rfl (by exact trivial) (pc' := 63) rfl ?_
        exact hp_lr hm at0 rfl (by exact trivial) (pc' := 63) rfl 0 rfl rfl (fun _ e => e)
      · refine hp_b hm (at1 4 rfl) (L' := [(0, (.ref 192)), (1, (.int x1)), (2, (.long x2)), (4, (.long x3))]) (st' := [(.long (-(Int32.toInt64 (rdI h 192 83))))]) rfl (by exact og_192) (pc' := 58) rfl ?_
        refine hp_goto hm 1 rfl (tgt := 63) rfl ?_
        exact hp_lr hm at0 rfl (by exact trivial) (pc' := 63) rfl 0 rfl rfl (fun _ e => e)
    · refine hp_lc_ge hm (at1 5 rfl) rfl (by exact og_192) (pc' := 24) rfl 5 rfl (tgt := 35) rfl (fun c2 => ?_) (fun c2 => ?_)
      · refine hp_b hm (at1 6 rfl) (L' := [(0, (.ref 192)), (1, (.int x1)), (2, (.long x2)), (4, (.long x3))]) (st' := [(.long x3)]) rfl (by exact trivial) (pc' := 37) rfl ?_
        refine hp_goto hm 3 rfl (tgt := 63) rfl ?_
        exact hp_lr hm at0 rfl (by exact trivial) (pc' := 63) rfl 0 rfl rfl (fun _ e => e)
      · refine hp_b hm (at1 7 rfl) (L' := [(0, (.ref 192)), (1, (.int x1)), (2, (.long x2)), (4, (.long x3))]) (st' := [(.long (Int32.toInt64 (rdI h 192 83)))]) rfl (by exact og_192) (pc' := 32) rfl ?_
        refine hp_goto hm 4 rfl (tgt := 63) rfl ?_
        exact hp_lr hm at0 rfl (by exact trivial) (pc' := 63) rfl 0 rfl rfl (fun _ e => e)
  · exact hp_lr hm (at1 8 rfl) rfl (by exact trivial) (pc' := 9) rfl 7 rfl rfl (fun _ e => e)
/-! HintHouseModel.between(II)I -/
def M_Mo_between : hM := (11, ⟨"HintHouseModel", "between", "(II)I"⟩, prog_13_method_56_code, 3, (Option.some Jvm.ClassFile.FieldType.int), [], [(0, [(.aload_n 0, 1, 0, 0, 0, .null), (.getfield 76, 3, 11, 48, 4, .null), (.iload_n 1, 1, 0, 0, 0, .null), (.iaload, 1, 0, 0, 0, .null), (.aload_n 0, 1, 0, 0, 0, .null), (.getfield 76, 3, 11, 48, 4, .null), (.iload_n 2, 1, 0, 0, 0, .null), (.iaload, 1, 0, 0, 0, .null), (.isub, 1, 0, 0, 0, .null), (.aload_n 0, 1, 0, 0, 0, .null), (.getfield 79, 3, 11, 49, 4, .null), (.iload_n 1, 1, 0, 0, 0, .null), (.iaload, 1, 0, 0, 0, .null), (.aload_n 0, 1, 0, 0, 0, .null), (.getfield 79, 3, 11, 49, 4, .null), (.iload_n 2, 1, 0, 0, 0, .null), (.iaload, 1, 0, 0, 0, .null), (.isub, 1, 0, 0, 0, .null), (.aload_n 0, 1, 0, 0, 0, .null), (.getfield 439, 3, 11, 65, 0, .null), (.aload_n 0, 1, 0, 0, 0, .null), (.getfield 442, 3, 11, 66, 0, .null)])], [(34, .invokestatic 520, 3), (37, .ireturn, 1)])
set_option maxRecDepth 100000 in
theorem m_Mo_between : hx_mok M_Mo_between = true := by decide +kernel
theorem pd_Mo_between : (parseMethodDescriptor M_Mo_between.2.1.desc).map (fun q => q.parameters.length) = some 2 := by decide +kernel
theorem y_Mo_between : hx_okV M_Mo_between := ⟨⟨lw_g (lw_at lw_m10 60 rfl) rfl, lw_g (lw_at lw_m10 59 rfl) rfl, qs144, lw_g (lw_at lw_m1 12 rfl) rfl, rfl, by decide, by decide, by decide⟩, rfl, by decide, plainFor_of_name (by decide)⟩
noncomputable def f_Mo_between (x1 : Int32) (x2 : Int32) (h : hH) : Option Int32 :=
  gd (vp_in x1 204 ∧ vp_in x2 204) <|
  bP (f_Mo_by ((rdI h 214 (Int32.toNatClampNeg x1)) - (rdI h 214 (Int32.toNatClampNeg x2))) ((rdI h 215 (Int32.toNatClampNeg x1)) - (rdI h 215 (Int32.toNatClampNeg x2))) (rdI h 192 65) (rdI h 192 66)) fun a2 =>
  some a2
set_option maxRecDepth 20000 in
theorem k_Mo_between (x1 : Int32) (x2 : Int32) (h : hH) : hx_kP S0 M_Mo_between 5 NT [(.ref 192), (.int x1), (.int x2)] h (f_Mo_between x1 x2 h) cvI := by
  have hm := m_Mo_between
  show hx_P S0 M_Mo_between 5 0 [(0, (.ref 192)), (1, (.int x1)), (2, (.int x2))] [] NT h (f_Mo_between x1 x2 h) (hx_Rp cvI NT h)
  unfold f_Mo_between
  refine hp_G hm (at1 0 rfl) (L' := [(0, (.ref 192)), (1, (.int x1)), (2, (.int x2))]) (st' := [(.int (rdI h 192 66)), (.int (rdI h 192 65)), (.int ((rdI h 215 (Int32.toNatClampNeg x1)) - (rdI h 215 (Int32.toNatClampNeg x2)))), (.int ((rdI h 214 (Int32.toNatClampNeg x1)) - (rdI h 214 (Int32.toNatClampNeg x2))))]) rfl (fun hP => (by exact ⟨⟨⟨⟨⟨⟨⟨⟨⟨og_192, ⟨og_214, hP.1⟩⟩, og_192⟩, ⟨og_214, hP.2⟩⟩, og_192⟩, ⟨og_215, hP.1⟩⟩, og_192⟩, ⟨og_215, hP.2⟩⟩, og_192⟩, og_192⟩)) (pc' := 34) rfl (fun q1 => ?_)
  refine hp_cSP (M2 := M_Mo_by) hm at0 (as := [(.int ((rdI h 214 (Int32.toNatClampNeg x1)) - (rdI h 214 (Int32.toNatClampNeg x2)))), (.int ((rdI h 215 (Int32.toNatClampNeg x1)) - (rdI h 215 (Int32.toNatClampNeg x2)))), (.int (rdI h 192 65)), (.int (rdI h 192 66))]) (rest := []) rfl (by exact trivial) (pc' := 34) rfl 0 rfl (lw_g (lw_at lw_m10 36 rfl) rfl) y_Mo_by rfl (d2 := 4) ⟨le_b rfl, pd_Mo_by, le_b rfl⟩ (le_b rfl) (k_Mo_by ((rdI h 214 (Int32.toNatClampNeg x1)) - (rdI h 214 (Int32.toNatClampNeg x2))) ((rdI h 215 (Int32.toNatClampNeg x1)) - (rdI h 215 (Int32.toNatClampNeg x2))) (rdI h 192 65) (rdI h 192 66) h) (fun a2 => ?_)
  exact hp_ir hm at0 rfl (by exact trivial) (pc' := 37) rfl 1 rfl rfl (vp_nar_int _) (fun _ e => e)
/-! HintHouseModel.touch(I)V -/
def M_Mo_touch : hM := (11, ⟨"HintHouseModel", "touch", "(I)V"⟩, prog_13_method_58_code, 2, (Option.none : Option Jvm.ClassFile.FieldType), [], [(0, [(.aload_n 0, 1, 0, 0, 0, .null), (.getfield 82, 3, 11, 50, 4, .null), (.iload_n 1, 1, 0, 0, 0, .null), (.aload_n 0, 1, 0, 0, 0, .null), (.getfield 82, 3, 11, 50, 4, .null), (.iload_n 1, 1, 0, 0, 0, .null), (.iaload, 1, 0, 0, 0, .null), (.aload_n 0, 1, 0, 0, 0, .null), (.getfield 433, 3, 11, 63, 0, .null)]), (22, [(.iconst 0, 1, 0, 0, 0, (.int (0 : Int32)))]), (18, [(.iconst 1, 1, 0, 0, 0, (.int (1 : Int32)))]), (23, [(.ior, 1, 0, 0, 0, .null), (.aload_n 0, 1, 0, 0, 0, .null), (.getfield 436, 3, 11, 64, 0, .null)]), (35, [(.iconst 0, 1, 0, 0, 0, (.int (0 : Int32)))]), (31, [(.iconst 2, 1, 0, 0, 0, (.int (2 : Int32)))]), (36, [(.ior, 1, 0, 0, 0, .null), (.iastore, 1, 0, 0, 0, .null)])], [(19, .goto 4, 3), (15, .ifCond .eq 7, 3), (32, .goto 4, 3), (28, .ifCond .eq 7, 3), (38, .return_, 1)])
set_option maxRecDepth 100000 in
theorem m_Mo_touch : hx_mok M_Mo_touch = true := by decide +kernel
theorem pd_Mo_touch : (parseMethodDescriptor M_Mo_touch.2.1.desc).map (fun q => q.parameters.length) = some 1 := by decide +kernel
theorem y_Mo_touch : hx_okV M_Mo_touch := ⟨⟨lw_g (lw_at lw_m10 73 rfl) rfl, lw_g (lw_at lw_m10 72 rfl) rfl, qs147, lw_g (lw_at lw_m1 12 rfl) rfl, rfl, by decide, by decide, by decide⟩, rfl, by decide, plainFor_of_name (by decide)⟩
noncomputable def f_Mo_touch (x1 : Int32) (h : hH) : Option (Unit × hH) :=
  gd (vp_in x1 204) <|
  lz (A := Int32) (if (rdI h 192 63) = 0 then (0 : Int32) else (1 : Int32)) fun p2 =>
  lz (A := Int32) (if (rdI h 192 64) = 0 then (0 : Int32) else (2 : Int32)) fun p4 =>
  gd (vp_in x1 204) <|
  lz (wrI h 216 (Int32.toNatClampNeg x1) (((rdI h 216 (Int32.toNatClampNeg x1)) ||| p2) ||| p4)) fun h1 =>
  some ((), h1)
set_option maxRecDepth 20000 in
theorem k_Mo_touch (x1 : Int32) (h : hH) : hx_kS S0 M_Mo_touch 1 NT [(.ref 192), (.int x1)] h (f_Mo_touch x1 h) cvU := by
  have hm := m_Mo_touch
  show hx_P S0 M_Mo_touch 1 0 [(0, (.ref 192)), (1, (.int x1))] [] NT h (f_Mo_touch x1 h) (hx_Rc cvU NT)
  unfold f_Mo_touch
  refine hp_G hm (at1 0 rfl) (L' := [(0, (.ref 192)), (1, (.int x1))]) (st' := [(.int (rdI h 192 63)), (.int (rdI h 216 (Int32.toNatClampNeg x1))), (.int x1), (.ref 216)]) rfl (fun hP => (by exact ⟨⟨⟨og_192, og_192⟩, ⟨og_216, hP⟩⟩, og_192⟩)) (pc' := 15) rfl (fun q1 => ?_)
  refine hp_JZ 23 (fun (p2 : Int32) => [(0, (.ref 192))]) (fun (p2 : Int32) => [(.int p2), (.int (rdI h 216 (Int32.toNatClampNeg x1))), (.int x1), (.ref 216)]) (fun (p2 : Int32) => h) ?_ (fun p2 => ?_)
  · refine hp_sv0 ?_
    refine hp_if_eq hm at0 rfl (by exact trivial) (pc' := 15) rfl 1 rfl (tgt := 22) rfl (fun c3 => ?_) (fun c3 => ?_)
    · refine hp_b hm (at1 1 rfl) (L' := [(0, (.ref 192)), (1, (.int x1))]) (st' := [(.int (0 : Int32)), (.int (rdI h 216 (Int32.toNatClampNeg x1))), (.int x1), (.ref 216)]) rfl (by exact trivial) (pc' := 23) rfl ?_
      exact hp_lf [0] rfl (fun _ e => e)
    · refine hp_b hm (at1 2 rfl) (L' := [(0, (.ref 192)), (1, (.int x1))]) (st' := [(.int (1 : Int32)), (.int (rdI h 216 (Int32.toNatClampNeg x1))), (.int x1), (.ref 216)]) rfl (by exact trivial) (pc' := 19) rfl ?_
      refine hp_goto hm 0 rfl (tgt := 23) rfl ?_
      exact hp_lf [0] rfl (fun _ e => e)
  · refine hp_JZ 36 (fun (p4 : Int32) => []) (fun (p4 : Int32) => [(.int p4), (.int ((rdI h 216 (Int32.toNatClampNeg x1)) ||| p2)), (.int x1), (.ref 216)]) (fun (p4 : Int32) => h) ?_ (fun p4 => ?_)
    · refine hp_sv0 ?_
      refine hp_if_eq hm (at1 3 rfl) rfl (by exact og_192) (pc' := 28) rfl 3 rfl (tgt := 35) rfl (fun c5 => ?_) (fun c5 => ?_)
      · refine hp_b hm (at1 4 rfl) (L' := [(0, (.ref 192))]) (st' := [(.int (0 : Int32)), (.int ((rdI h 216 (Int32.toNatClampNeg x1)) ||| p2)), (.int x1), (.ref 216)]) rfl (by exact trivial) (pc' := 36) rfl ?_
        exact hp_lf [] rfl (fun _ e => e)
      · refine hp_b hm (at1 5 rfl) (L' := [(0, (.ref 192))]) (st' := [(.int (2 : Int32)), (.int ((rdI h 216 (Int32.toNatClampNeg x1)) ||| p2)), (.int x1), (.ref 216)]) rfl (by exact trivial) (pc' := 32) rfl ?_
        refine hp_goto hm 2 rfl (tgt := 36) rfl ?_
        exact hp_lf [] rfl (fun _ e => e)
    · refine hp_GW hm (at1 6 rfl) (L' := []) rfl (fun hP => (by exact ⟨og_216, hP⟩)) (pc' := 38) rfl (fun q6 h1 => ?_)
      exact hp_vr hm 4 rfl rfl (fun _ e => e)
