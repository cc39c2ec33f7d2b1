/-! LAYER 2b: methods (printed by gen/dec.py): Mo_shiftBy Mo_move Mo_settle Mo_relative Mo_cvtOf Mo_indirect Mo_push Mo_pushBytes Mo_setVectors Mo_part Mo_direction Mo_isZone Mo_setZone Mo_codeLength Mo_pass Mo_jump Mo_call Mo_callFunction Mo_defineFunction Mo_endFunction Mo_longOf Mo_unknown Mo_stacks -/
/-! HintHouseModel.shiftBy(IJZ)V -/
def M_Mo_shiftBy : hM := (11, ⟨"HintHouseModel", "shiftBy", "(IJZ)V"⟩, prog_13_method_59_code, 7, (Option.none : Option Jvm.ClassFile.FieldType), [], [(0, [(.aload_n 0, 1, 0, 0, 0, .null), (.getfield 433, 3, 11, 63, 0, .null), (.i2l, 1, 0, 0, 0, .null), (.aload_n 0, 1, 0, 0, 0, .null), (.getfield 439, 3, 11, 65, 0, .null), (.i2l, 1, 0, 0, 0, .null), (.lmul, 1, 0, 0, 0, .null), (.aload_n 0, 1, 0, 0, 0, .null), (.getfield 436, 3, 11, 64, 0, .null), (.i2l, 1, 0, 0, 0, .null), (.aload_n 0, 1, 0, 0, 0, .null), (.getfield 442, 3, 11, 66, 0, .null), (.i2l, 1, 0, 0, 0, .null), (.lmul, 1, 0, 0, 0, .null), (.ladd, 1, 0, 0, 0, .null), (.ldc2_w 310, 3, 0, 0, 0, (.long (16384 : Int64)))]), (29, [(.lstore 5, 2, 0, 0, 0, .null), (.lload 5, 2, 0, 0, 0, .null)]), (36, [(.ldc2_w 524, 3, 0, 0, 0, (.long (1024 : Int64))), (.lcmp, 1, 0, 0, 0, .null)]), (49, [(.lload 5, 2, 0, 0, 0, .null)]), (43, [(.ldc2_w 310, 3, 0, 0, 0, (.long (16384 : Int64)))]), (51, [(.lstore 5, 2, 0, 0, 0, .null), (.aload_n 0, 1, 0, 0, 0, .null), (.getfield 76, 3, 11, 48, 4, .null), (.iload_n 1, 1, 0, 0, 0, .null), (.aload_n 0, 1, 0, 0, 0, .null), (.getfield 76, 3, 11, 48, 4, .null), (.iload_n 1, 1, 0, 0, 0, .null), (.iaload, 1, 0, 0, 0, .null), (.i2l, 1, 0, 0, 0, .null), (.lload_n 2, 1, 0, 0, 0, .null), (.aload_n 0, 1, 0, 0, 0, .null), (.getfield 433, 3, 11, 63, 0, .null), (.i2l, 1, 0, 0, 0, .null), (.lmul, 1, 0, 0, 0, .null), (.lload 5, 2, 0, 0, 0, .null)]), (77, [(.ladd, 1, 0, 0, 0, .null), (.l2i, 1, 0, 0, 0, .null), (.iastore, 1, 0, 0, 0, .null)]), (80, [(.aload_n 0, 1, 0, 0, 0, .null), (.getfield 79, 3, 11, 49, 4, .null), (.iload_n 1, 1, 0, 0, 0, .null), (.aload_n 0, 1, 0, 0, 0, .null), (.getfield 79, 3, 11, 49, 4, .null), (.iload_n 1, 1, 0, 0, 0, .null), (.iaload, 1, 0, 0, 0, .null), (.i2l, 1, 0, 0, 0, .null), (.lload_n 2, 1, 0, 0, 0, .null), (.aload_n 0, 1, 0, 0, 0, .null), (.getfield 436, 3, 11, 64, 0, .null), (.i2l, 1, 0, 0, 0, .null), (.lmul, 1, 0, 0, 0, .null), (.lload 5, 2, 0, 0, 0, .null)]), (104, [(.ladd, 1, 0, 0, 0, .null), (.l2i, 1, 0, 0, 0, .null), (.iastore, 1, 0, 0, 0, .null)]), (107, [(.iload 4, 2, 0, 0, 0, .null)]), (112, [(.aload_n 0, 1, 0, 0, 0, .null), (.iload_n 1, 1, 0, 0, 0, .null)])], [(26, .invokestatic 517, 3), (33, .invokestatic 198, 3), (46, .goto 5, 3), (40, .ifCond .ge 9, 3), (74, .invokestatic 194, 3), (101, .invokestatic 194, 3), (117, .return_, 1), (114, .invokevirtual 526, 3), (109, .ifCond .eq 8, 3)])
set_option maxRecDepth 100000 in
theorem m_Mo_shiftBy : hx_mok M_Mo_shiftBy = true := by decide +kernel
theorem pd_Mo_shiftBy : (parseMethodDescriptor M_Mo_shiftBy.2.1.desc).map (fun q => q.parameters.length) = some 3 := by decide +kernel
theorem y_Mo_shiftBy : hx_okV M_Mo_shiftBy := ⟨⟨lw_g (lw_at lw_m10 68 rfl) rfl, lw_g (lw_at lw_m10 67 rfl) rfl, qs146, lw_g (lw_at lw_m1 12 rfl) rfl, rfl, by decide, by decide, by decide⟩, rfl, by decide, plainFor_of_name (by decide)⟩
noncomputable def f_Mo_shiftBy (x1 : Int32) (x2 : Int64) (x3 : Int32) (h : hH) : Option (Unit × hH) :=
  bP (f_Mo_over (((Int32.toInt64 (rdI h 192 63)) * (Int32.toInt64 (rdI h 192 65))) + ((Int32.toInt64 (rdI h 192 64)) * (Int32.toInt64 (rdI h 192 66)))) (16384 : Int64)) fun a1 =>
  bP (f_Mo_sizeOf a1) fun a2 =>
  lz (A := Int64) (if (1024 : Int64) ≤ a2 then a1 else (16384 : Int64)) fun p3 =>
  gd (vp_in x1 204) <|
  bP (f_Mo_nearest (x2 * (Int32.toInt64 (rdI h 192 63))) p3) fun a6 =>
  gd (vp_in x1 204) <|
  lz (wrI h 214 (Int32.toNatClampNeg x1) (Int64.toInt32 ((Int32.toInt64 (rdI h 214 (Int32.toNatClampNeg x1))) + a6))) fun h1 =>
  gd (vp_in x1 204) <|
  bP (f_Mo_nearest (x2 * (Int32.toInt64 (rdI h1 192 64))) p3) fun a9 =>
  gd (vp_in x1 204) <|
  lz (wrI h1 215 (Int32.toNatClampNeg x1) (Int64.toInt32 ((Int32.toInt64 (rdI h1 215 (Int32.toNatClampNeg x1))) + a9))) fun h2 =>
  if x3 = 0 then (
    some ((), h2)
  ) else (
    bS (f_Mo_touch x1 h2) fun _ h3 =>
    some ((), h3)
  )
set_option maxRecDepth 20000 in
theorem k_Mo_shiftBy (x1 : Int32) (x2 : Int64) (x3 : Int32) (h : hH) : hx_kS S0 M_Mo_shiftBy 4 NT [(.ref 192), (.int x1), (.long x2), (.int x3)] h (f_Mo_shiftBy x1 x2 x3 h) cvU := by
  have hm := m_Mo_shiftBy
  show hx_P S0 M_Mo_shiftBy 4 0 [(0, (.ref 192)), (1, (.int x1)), (2, (.long x2)), (4, (.int x3))] [] NT h (f_Mo_shiftBy x1 x2 x3 h) (hx_Rc cvU NT)
  unfold f_Mo_shiftBy
  refine hp_cSP (M2 := M_Mo_over) hm (at1 0 rfl) (as := [(.long (((Int32.toInt64 (rdI h 192 63)) * (Int32.toInt64 (rdI h 192 65))) + ((Int32.toInt64 (rdI h 192 64)) * (Int32.toInt64 (rdI h 192 66))))), (.long (16384 : Int64))]) (rest := []) rfl (by exact ⟨⟨⟨og_192, og_192⟩, og_192⟩, og_192⟩) (pc' := 26) rfl 0 rfl (lw_g (lw_at lw_m9 217 rfl) rfl) y_Mo_over rfl (d2 := 3) ⟨le_b rfl, pd_Mo_over, le_b rfl⟩ (le_b rfl) (k_Mo_over (((Int32.toInt64 (rdI h 192 63)) * (Int32.toInt64 (rdI h 192 65))) + ((Int32.toInt64 (rdI h 192 64)) * (Int32.toInt64 (rdI h 192 66)))) (16384 : Int64) h) (fun a1 => ?_)
  refine hp_b hm (at1 1 rfl) (L' := [(5, (.long a1)), (0, (.ref 192)), (1, (.int x1)), (2, (.long x2)), (4, (.int x3))]) (st' := [(.long a1)]) rfl (by exact trivial) (pc' := 33) rfl ?_
  refine hp_cSP (M2 := M_Mo_sizeOf) hm at0 (as := [(.long a1)]) (rest := []) rfl (by exact trivial) (pc' := 33) rfl 1 rfl (lw_g (lw_at lw_m9 223 rfl) rfl) y_Mo_sizeOf rfl (d2 := 1) ⟨le_b rfl, pd_Mo_sizeOf, le_b rfl⟩ (le_b rfl) (k_Mo_sizeOf a1 h) (fun a2 => ?_)
  refine hp_JZ 51 (fun (p3 : Int64) => [(0, (.ref 192)), (1, (.int x1)), (2, (.long x2)), (4, (.int x3))]) (fun (p3 : Int64) => [(.long p3)]) (fun (p3 : Int64) => h) ?_ (fun p3 => ?_)
  · refine hp_sv0 ?_
    refine hp_lc_ge hm (at1 2 rfl) rfl (by exact trivial) (pc' := 40) rfl 3 rfl (tgt := 49) rfl (fun c4 => ?_) (fun c4 => ?_)
    · refine hp_b hm (at1 3 rfl) (L' := [(5, (.long a1)), (0, (.ref 192)), (1, (.int x1)), (2, (.long x2)), (4, (.int x3))]) (st' := [(.long a1)]) rfl (by exact trivial) (pc' := 51) rfl ?_
      exact hp_lf [1, 2, 3, 4] rfl (fun _ e => e)
    · refine hp_b hm (at1 4 rfl) (L' := [(5, (.long a1)), (0, (.ref 192)), (1, (.int x1)), (2, (.long x2)), (4, (.int x3))]) (st' := [(.long (16384 : Int64))]) rfl (by exact trivial) (pc' := 46) rfl ?_
      refine hp_goto hm 2 rfl (tgt := 51) rfl ?_
      exact hp_lf [1, 2, 3, 4] rfl (fun _ e => e)
  · refine hp_G hm (at1 5 rfl) (L' := [(5, (.long p3)), (0, (.ref 192)), (1, (.int x1)), (2, (.long x2)), (4, (.int x3))]) (st' := [(.long p3), (.long (x2 * (Int32.toInt64 (rdI h 192 63)))), (.long (Int32.toInt64 (rdI h 214 (Int32.toNatClampNeg x1)))), (.int x1), (.ref 214)]) rfl (fun hP => (by exact ⟨⟨⟨og_192, og_192⟩, ⟨og_214, hP⟩⟩, og_192⟩)) (pc' := 74) rfl (fun q5 => ?_)
    refine hp_cSP (M2 := M_Mo_nearest) hm at0 (as := [(.long (x2 * (Int32.toInt64 (rdI h 192 63)))), (.long p3)]) (rest := [(.long (Int32.toInt64 (rdI h 214 (Int32.toNatClampNeg x1)))), (.int x1), (.ref 214)]) rfl (by exact trivial) (pc' := 74) rfl 4 rfl (lw_g (lw_at lw_m9 220 rfl) rfl) y_Mo_nearest rfl (d2 := 2) ⟨le_b rfl, pd_Mo_nearest, le_b rfl⟩ (le_b rfl) (k_Mo_nearest (x2 * (Int32.toInt64 (rdI h 192 63))) p3 h) (fun a6 => ?_)
    refine hp_GW hm (at1 6 rfl) (L' := [(5, (.long p3)), (0, (.ref 192)), (1, (.int x1)), (2, (.long x2)), (4, (.int x3))]) rfl (fun hP => (by exact ⟨og_214, hP⟩)) (pc' := 80) rfl (fun q7 h1 => ?_)
    refine hp_G hm (at1 7 rfl) (L' := [(5, (.long p3)), (0, (.ref 192)), (1, (.int x1)), (2, (.long x2)), (4, (.int x3))]) (st' := [(.long p3), (.long (x2 * (Int32.toInt64 (rdI h1 192 64)))), (.long (Int32.toInt64 (rdI h1 215 (Int32.toNatClampNeg x1)))), (.int x1), (.ref 215)]) rfl (fun hP => (by exact ⟨⟨⟨og_192, og_192⟩, ⟨og_215, hP⟩⟩, og_192⟩)) (pc' := 101) rfl (fun q8 => ?_)
    refine hp_cSP (M2 := M_Mo_nearest) hm at0 (as := [(.long (x2 * (Int32.toInt64 (rdI h1 192 64)))), (.long p3)]) (rest := [(.long (Int32.toInt64 (rdI h1 215 (Int32.toNatClampNeg x1)))), (.int x1), (.ref 215)]) rfl (by exact trivial) (pc' := 101) rfl 5 rfl (lw_g (lw_at lw_m9 220 rfl) rfl) y_Mo_nearest rfl (d2 := 2) ⟨le_b rfl, pd_Mo_nearest, le_b rfl⟩ (le_b rfl) (k_Mo_nearest (x2 * (Int32.toInt64 (rdI h1 192 64))) p3 h1) (fun a9 => ?_)
    refine hp_GW hm (at1 8 rfl) (L' := [(5, (.long p3)), (0, (.ref 192)), (1, (.int x1)), (2, (.long x2)), (4, (.int x3))]) rfl (fun hP => (by exact ⟨og_215, hP⟩)) (pc' := 107) rfl (fun q10 h2 => ?_)
    refine hp_if_eq hm (at1 9 rfl) rfl (by exact trivial) (pc' := 109) rfl 8 rfl (tgt := 117) rfl (fun c11 => ?_) (fun c11 => ?_)
    · exact hp_vr hm 6 rfl rfl (fun _ e => e)
    · refine hp_cVS (M2 := M_Mo_touch) hm (at1 10 rfl) (as := [(.int x1)]) (rest := []) (z := 192) rfl (by exact trivial) (pc' := 114) rfl 7 rfl (lw_g (lw_at lw_m10 70 rfl) rfl) y_Mo_touch rfl (d2 := 1) ⟨le_b rfl, pd_Mo_touch, le_b rfl⟩ (le_b rfl) og_192 (k_Mo_touch x1 h2) (fun _ h3 => ?_)
      exact hp_vr hm 6 rfl rfl (fun _ e => e)
/-! HintHouseModel.move(IJ)V -/
def M_Mo_move : hM := (11, ⟨"HintHouseModel", "move", "(IJ)V"⟩, prog_13_method_60_code, 4, (Option.none : Option Jvm.ClassFile.FieldType), [], [(0, [(.aload_n 0, 1, 0, 0, 0, .null), (.iload_n 1, 1, 0, 0, 0, .null), (.lload_n 2, 1, 0, 0, 0, .null), (.iconst 1, 1, 0, 0, 0, (.int (1 : Int32)))])], [(4, .invokevirtual 529, 3), (7, .return_, 1)])
set_option maxRecDepth 100000 in
theorem m_Mo_move : hx_mok M_Mo_move = true := by decide +kernel
theorem pd_Mo_move : (parseMethodDescriptor M_Mo_move.2.1.desc).map (fun q => q.parameters.length) = some 2 := by decide +kernel
theorem y_Mo_move : hx_okV M_Mo_move := ⟨⟨lw_g (lw_at lw_m10 64 rfl) rfl, lw_g (lw_at lw_m10 63 rfl) rfl, qs145, lw_g (lw_at lw_m1 12 rfl) rfl, rfl, by decide, by decide, by decide⟩, rfl, by decide, plainFor_of_name (by decide)⟩
noncomputable def f_Mo_move (x1 : Int32) (x2 : Int64) (h : hH) : Option (Unit × hH) :=
  bS (f_Mo_shiftBy x1 x2 (1 : Int32) h) fun _ h1 =>
  some ((), h1)
set_option maxRecDepth 20000 in
theorem k_Mo_move (x1 : Int32) (x2 : Int64) (h : hH) : hx_kS S0 M_Mo_move 5 NT [(.ref 192), (.int x1), (.long x2)] h (f_Mo_move x1 x2 h) cvU := by
  have hm := m_Mo_move
  show hx_P S0 M_Mo_move 5 0 [(0, (.ref 192)), (1, (.int x1)), (2, (.long x2))] [] NT h (f_Mo_move x1 x2 h) (hx_Rc cvU NT)
  unfold f_Mo_move
  refine hp_cVS (M2 := M_Mo_shiftBy) hm (at1 0 rfl) (as := [(.int x1), (.long x2), (.int (1 : Int32))]) (rest := []) (z := 192) rfl (by exact trivial) (pc' := 4) rfl 0 rfl (lw_g (lw_at lw_m10 65 rfl) rfl) y_Mo_shiftBy rfl (d2 := 4) ⟨le_b rfl, pd_Mo_shiftBy, le_b rfl⟩ (le_b rfl) og_192 (k_Mo_shiftBy x1 x2 (1 : Int32) h) (fun _ h1 => ?_)
  exact hp_vr hm 1 rfl rfl (fun _ e => e)
/-! HintHouseModel.settle(IIIIJ)V -/
def M_Mo_settle : hM := (11, ⟨"HintHouseModel", "settle", "(IIIIJ)V"⟩, prog_13_method_90_code, 7, (Option.none : Option Jvm.ClassFile.FieldType), [], [(0, [(.aload_n 0, 1, 0, 0, 0, .null), (.iload_n 2, 1, 0, 0, 0, .null), (.lload 5, 2, 0, 0, 0, .null), (.aload_n 0, 1, 0, 0, 0, .null), (.iload_n 2, 1, 0, 0, 0, .null), (.iload 4, 2, 0, 0, 0, .null)]), (11, [(.i2l, 1, 0, 0, 0, .null), (.lsub, 1, 0, 0, 0, .null)]), (16, [(.aload_n 0, 1, 0, 0, 0, .null), (.aload_n 0, 1, 0, 0, 0, .null), (.getfield 451, 3, 11, 69, 0, .null), (.putfield 454, 3, 11, 70, 0, .null)]), (24, [(.aload_n 0, 1, 0, 0, 0, .null), (.iload_n 3, 1, 0, 0, 0, .null), (.putfield 457, 3, 11, 71, 0, .null)]), (29, [(.aload_n 0, 1, 0, 0, 0, .null), (.iload_n 1, 1, 0, 0, 0, .null), (.bipush 16, 2, 0, 0, 0, (.int (16 : Int32))), (.iand, 1, 0, 0, 0, .null)]), (41, [(.aload_n 0, 1, 0, 0, 0, .null), (.getfield 451, 3, 11, 69, 0, .null)]), (37, [(.iload_n 3, 1, 0, 0, 0, .null)]), (45, [(.putfield 451, 3, 11, 69, 0, .null)])], [(8, .invokevirtual 627, 3), (13, .invokevirtual 630, 3), (38, .goto 7, 3), (34, .ifCond .eq 7, 3), (48, .return_, 1)])
set_option maxRecDepth 100000 in
theorem m_Mo_settle : hx_mok M_Mo_settle = true := by decide +kernel
theorem pd_Mo_settle : (parseMethodDescriptor M_Mo_settle.2.1.desc).map (fun q => q.parameters.length) = some 5 := by decide +kernel
theorem y_Mo_settle : hx_okV M_Mo_settle := ⟨⟨lw_g (lw_at lw_m10 56 rfl) rfl, lw_g (lw_at lw_m10 55 rfl) rfl, qs143, lw_g (lw_at lw_m1 12 rfl) rfl, rfl, by decide, by decide, by decide⟩, rfl, by decide, plainFor_of_name (by decide)⟩
noncomputable def f_Mo_settle (x1 : Int32) (x2 : Int32) (x3 : Int32) (x4 : Int32) (x5 : Int64) (h : hH) : Option (Unit × hH) :=
  bP (f_Mo_between x2 x4 h) fun a1 =>
  bS (f_Mo_move x2 (x5 - (Int32.toInt64 a1)) h) fun _ h1 =>
  lz (wrI h1 192 70 (rdI h1 192 69)) fun h2 =>
  lz (wrI h2 192 71 x3) fun h3 =>
  lz (A := Int32) (if (x1 &&& (16 : Int32)) = 0 then (rdI h3 192 69) else x3) fun p2 =>
  lz (wrI h3 192 69 p2) fun h4 =>
  some ((), h4)
set_option maxRecDepth 20000 in
theorem k_Mo_settle (x1 : Int32) (x2 : Int32) (x3 : Int32) (x4 : Int32) (x5 : Int64) (h : hH) : hx_kS S0 M_Mo_settle 6 NT [(.ref 192), (.int x1), (.int x2), (.int x3), (.int x4), (.long x5)] h (f_Mo_settle x1 x2 x3 x4 x5 h) cvU := by
  have hm := m_Mo_settle
  show hx_P S0 M_Mo_settle 6 0 [(0, (.ref 192)), (1, (.int x1)), (2, (.int x2)), (3, (.int x3)), (4, (.int x4)), (5, (.long x5))] [] NT h (f_Mo_settle x1 x2 x3 x4 x5 h) (hx_Rc cvU NT)
  unfold f_Mo_settle
  refine hp_cVP (M2 := M_Mo_between) hm (at1 0 rfl) (as := [(.int x2), (.int x4)]) (rest := [(.long x5), (.int x2), (.ref 192)]) (z := 192) rfl (by exact trivial) (pc' := 8) rfl 0 rfl (lw_g (lw_at lw_m10 57 rfl) rfl) y_Mo_between rfl (d2 := 5) ⟨le_b rfl, pd_Mo_between, le_b rfl⟩ (le_b rfl) og_192 (k_Mo_between x2 x4 h) (fun a1 => ?_)
  refine hp_cVS (M2 := M_Mo_move) hm (at1 1 rfl) (as := [(.int x2), (.long (x5 - (Int32.toInt64 a1)))]) (rest := []) (z := 192) rfl (by exact trivial) (pc' := 13) rfl 1 rfl (lw_g (lw_at lw_m10 61 rfl) rfl) y_Mo_move rfl (d2 := 5) ⟨le_b rfl, pd_Mo_move, le_b rfl⟩ (le_b rfl) og_192 (k_Mo_move x2 (x5 - (Int32.toInt64 a1)) h) (fun _ h1 => ?_)
  refine hp_w hm (at1 2 rfl) (L' := [(0, (.ref 192)), (1, (.int x1)), (2, (.int x2)), (3, (.int x3)), (4, (.int x4)), (5, (.long x5))]) rfl (by exact ⟨og_192, og_192⟩) (pc' := 24) rfl (fun h2 => ?_)
  refine hp_w hm (at1 3 rfl) (L' := [(0, (.ref 192)), (1, (.int x1)), (2, (.int x2)), (3, (.int x3)), (4, (.int x4)), (5, (.long x5))]) rfl (by exact og_192) (pc' := 29) rfl (fun h3 => ?_)
  refine hp_JZ 45 (fun (p2 : Int32) => []) (fun (p2 : Int32) => [(.int p2), (.ref 192)]) (fun (p2 : Int32) => h3) ?_ (fun p2 => ?_)
  · refine hp_sv0 ?_
    refine hp_if_eq hm (at1 4 rfl) rfl (by exact trivial) (pc' := 34) rfl 3 rfl (tgt := 41) rfl (fun c3 => ?_) (fun c3 => ?_)
    · refine hp_b hm (at1 5 rfl) (L' := [(0, (.ref 192)), (1, (.int x1)), (2, (.int x2)), (3, (.int x3)), (4, (.int x4)), (5, (.long x5))]) (st' := [(.int (rdI h3 192 69)), (.ref 192)]) rfl (by exact og_192) (pc' := 45) rfl ?_
      exact hp_lf [] rfl (fun _ e => e)
    · refine hp_b hm (at1 6 rfl) (L' := [(0, (.ref 192)), (1, (.int x1)), (2, (.int x2)), (3, (.int x3)), (4, (.int x4)), (5, (.long x5))]) (st' := [(.int x3), (.ref 192)]) rfl (by exact trivial) (pc' := 38) rfl ?_
      refine hp_goto hm 2 rfl (tgt := 45) rfl ?_
      exact hp_lf [] rfl (fun _ e => e)
  · refine hp_w hm (at1 7 rfl) (L' := []) rfl (by exact og_192) (pc' := 48) rfl (fun h4 => ?_)
    exact hp_vr hm 4 rfl rfl (fun _ e => e)
/-! HintHouseModel.relative(I)V -/
def M_Mo_relative : hM := (11, ⟨"HintHouseModel", "relative", "(I)V"⟩, prog_13_method_91_code, 9, (Option.none : Option Jvm.ClassFile.FieldType), [], [(0, [(.aload_n 0, 1, 0, 0, 0, .null), (.iconst 1, 1, 0, 0, 0, (.int (1 : Int32)))]), (9, [(.aload_n 0, 1, 0, 0, 0, .null)]), (13, [(.istore_n 2, 1, 0, 0, 0, .null), (.aload_n 0, 1, 0, 0, 0, .null), (.aload_n 0, 1, 0, 0, 0, .null), (.getfield 463, 3, 11, 73, 0, .null), (.iload_n 2, 1, 0, 0, 0, .null)]), (23, [(.istore_n 3, 1, 0, 0, 0, .null), (.aload_n 0, 1, 0, 0, 0, .null), (.aload_n 0, 1, 0, 0, 0, .null), (.getfield 460, 3, 11, 72, 0, .null), (.aload_n 0, 1, 0, 0, 0, .null), (.getfield 451, 3, 11, 69, 0, .null)]), (36, [(.istore 4, 2, 0, 0, 0, .null), (.aload_n 0, 1, 0, 0, 0, .null), (.getfield 409, 3, 11, 59, 0, .null)]), (46, [(.aload_n 0, 1, 0, 0, 0, .null), (.aload_n 0, 1, 0, 0, 0, .null), (.iload_n 3, 1, 0, 0, 0, .null), (.iload 4, 2, 0, 0, 0, .null)]), (54, [(.i2l, 1, 0, 0, 0, .null)]), (58, [(.lstore 5, 2, 0, 0, 0, .null), (.iload_n 1, 1, 0, 0, 0, .null), (.iconst 4, 1, 0, 0, 0, (.int (4 : Int32))), (.iand, 1, 0, 0, 0, .null)]), (75, [(.lload 5, 2, 0, 0, 0, .null)]), (66, [(.aload_n 0, 1, 0, 0, 0, .null), (.lload 5, 2, 0, 0, 0, .null)]), (77, [(.lstore 7, 2, 0, 0, 0, .null), (.aload_n 0, 1, 0, 0, 0, .null), (.iload_n 1, 1, 0, 0, 0, .null), (.iload_n 3, 1, 0, 0, 0, .null), (.iload_n 2, 1, 0, 0, 0, .null), (.iload 4, 2, 0, 0, 0, .null), (.aload_n 0, 1, 0, 0, 0, .null), (.iload_n 1, 1, 0, 0, 0, .null), (.lload 5, 2, 0, 0, 0, .null), (.lload 7, 2, 0, 0, 0, .null)])], [(2, .invokevirtual 576, 3), (10, .invokevirtual 579, 3), (20, .invokevirtual 582, 3), (33, .invokevirtual 582, 3), (51, .invokevirtual 680, 3), (55, .invokevirtual 720, 3), (69, .invokevirtual 647, 3), (72, .goto 5, 3), (63, .ifCond .eq 12, 3), (91, .invokevirtual 723, 3), (94, .invokevirtual 727, 3), (97, .return_, 1), (45, .return_, 1), (42, .ifCond .le 4, 3), (8, .return_, 1), (5, .ifCond .ne 4, 3)])
set_option maxRecDepth 100000 in
theorem m_Mo_relative : hx_mok M_Mo_relative = true := by decide +kernel
theorem pd_Mo_relative : (parseMethodDescriptor M_Mo_relative.2.1.desc).map (fun q => q.parameters.length) = some 1 := by decide +kernel
theorem y_Mo_relative : hx_okV M_Mo_relative := ⟨⟨lw_g (lw_at lw_m10 19 rfl) rfl, lw_g (lw_at lw_m10 18 rfl) rfl, qs135, lw_g (lw_at lw_m1 12 rfl) rfl, rfl, by decide, by decide, by decide⟩, rfl, by decide, plainFor_of_name (by decide)⟩
noncomputable def f_Mo_relative (x1 : Int32) (h : hH) : Option (Unit × hH) :=
  bS (f_Mo_has (1 : Int32) h) fun a1 h1 =>
  if a1 = 0 then (
    some ((), h1)
  ) else (
    bS (f_Mo_pop h1) fun a2 h2 =>
    bS (f_Mo_pointOf (rdI h2 192 73) a2 h2) fun a3 h3 =>
    bS (f_Mo_pointOf (rdI h3 192 72) (rdI h3 192 69) h3) fun a4 h4 =>
    if (rdI h4 192 59) ≤ 0 then (
      bP (f_Mo_originally a3 a4 h4) fun a5 =>
      bP (f_Mo_singled (Int32.toInt64 a5) h4) fun a6 =>
      bP (A := Int64) (
        if (x1 &&& (4 : Int32)) = 0 then (
          some a6
        ) else (
          bP (f_Mo_rounded a6 h4) fun a8 =>
          some a8
        )
      ) fun p7 =>
      bP (f_Mo_atLeast x1 a6 p7 h4) fun a10 =>
      bS (f_Mo_settle x1 a3 a2 a4 a10 h4) fun _ h5 =>
      some ((), h5)
    ) else (
      some ((), h4)
    )
  )
set_option maxRecDepth 20000 in
theorem k_Mo_relative (x1 : Int32) (h : hH) : hx_kS S0 M_Mo_relative 7 NT [(.ref 192), (.int x1)] h (f_Mo_relative x1 h) cvU := by
  have hm := m_Mo_relative
  show hx_P S0 M_Mo_relative 7 0 [(0, (.ref 192)), (1, (.int x1))] [] NT h (f_Mo_relative x1 h) (hx_Rc cvU NT)
  unfold f_Mo_relative
  refine hp_cVS (M2 := M_Mo_has) hm (at1 0 rfl) (as := [(.int (1 : Int32))]) (rest := []) (z := 192) rfl (by exact trivial) (pc' := 2) rfl 0 rfl (lw_g (lw_at lw_m10 20 rfl) rfl) y_Mo_has rfl (d2 := 2) ⟨le_b rfl, pd_Mo_has, le_b rfl⟩ (le_b rfl) og_192 (k_Mo_has (1 : Int32) h) (fun a1 h1 => ?_)
  refine hp_if_ne hm at0 rfl (by exact trivial) (pc' := 5) rfl 15 rfl (tgt := 9) rfl (fun c12 => ?_) (fun c12 => ?_)
  · refine hp_cVS (M2 := M_Mo_pop) hm (at1 1 rfl) (as := []) (rest := []) (z := 192) rfl (by exact trivial) (pc' := 10) rfl 1 rfl (lw_g (lw_at lw_m10 24 rfl) rfl) y_Mo_pop rfl (d2 := 1) ⟨le_b rfl, pd_Mo_pop, le_b rfl⟩ (le_b rfl) og_192 (k_Mo_pop h1) (fun a2 h2 => ?_)
    refine hp_b hm (at1 2 rfl) (L' := [(2, (.int a2)), (0, (.ref 192)), (1, (.int x1))]) (st' := [(.int a2), (.int (rdI h2 192 73)), (.ref 192)]) rfl (by exact og_192) (pc' := 20) rfl ?_
    refine hp_cVS (M2 := M_Mo_pointOf) hm at0 (as := [(.int (rdI h2 192 73)), (.int a2)]) (rest := []) (z := 192) rfl (by exact trivial) (pc' := 20) rfl 2 rfl (lw_g (lw_at lw_m10 28 rfl) rfl) y_Mo_pointOf rfl (d2 := 2) ⟨le_b rfl, pd_Mo_pointOf, le_b rfl⟩ (le_b rfl) og_192 (k_Mo_pointOf (rdI h2 192 73) a2 h2) (fun a3 h3 => ?_)
    refine hp_b hm (at1 3 rfl) (L' := [(3, (.int a3)), (2, (.int a2)), (0, (.ref 192)), (1, (.int x1))]) (st' := [(.int (rdI h3 192 69)), (.int (rdI h3 192 72)), (.ref 192)]) rfl (by exact ⟨og_192, og_192⟩) (pc' := 33) rfl ?_
    refine hp_cVS (M2 := M_Mo_pointOf) hm at0 (as := [(.int (rdI h3 192 72)), (.int (rdI h3 192 69))]) (rest := []) (z := 192) rfl (by exact trivial) (pc' := 33) rfl 3 rfl (lw_g (lw_at lw_m10 28 rfl) rfl) y_Mo_pointOf rfl (d2 := 2) ⟨le_b rfl, pd_Mo_pointOf, le_b rfl⟩ (le_b rfl) og_192 (k_Mo_pointOf (rdI h3 192 72) (rdI h3 192 69) h3) (fun a4 h4 => ?_)
    refine hp_b hm (at1 4 rfl) (L' := [(4, (.int a4)), (3, (.int a3)), (2, (.int a2)), (0, (.ref 192)), (1, (.int x1))]) (st' := [(.int (rdI h4 192 59))]) rfl (by exact og_192) (pc' := 42) rfl ?_
    refine hp_if_le hm at0 rfl (by exact trivial) (pc' := 42) rfl 13 rfl (tgt := 46) rfl (fun c11 => ?_) (fun c11 => ?_)
    · refine hp_cVP (M2 := M_Mo_originally) hm (at1 5 rfl) (as := [(.int a3), (.int a4)]) (rest := [(.ref 192)]) (z := 192) rfl (by exact trivial) (pc' := 51) rfl 4 rfl (lw_g (lw_at lw_m10 32 rfl) rfl) y_Mo_originally rfl (d2 := 5) ⟨le_b rfl, pd_Mo_originally, le_b rfl⟩ (le_b rfl) og_192 (k_Mo_originally a3 a4 h4) (fun a5 => ?_)
      refine hp_cVP (M2 := M_Mo_singled) hm (at1 6 rfl) (as := [(.long (Int32.toInt64 a5))]) (rest := []) (z := 192) rfl (by exact trivial) (pc' := 55) rfl 5 rfl (lw_g (lw_at lw_m10 40 rfl) rfl) y_Mo_singled rfl (d2 := 2) ⟨le_b rfl, pd_Mo_singled, le_b rfl⟩ (le_b rfl) og_192 (k_Mo_singled (Int32.toInt64 a5) h4) (fun a6 => ?_)
      refine hp_b hm (at1 7 rfl) (L' := [(5, (.long a6)), (4, (.int a4)), (3, (.int a3)), (2, (.int a2)), (0, (.ref 192)), (1, (.int x1))]) (st' := [(.int (x1 &&& (4 : Int32)))]) rfl (by exact trivial) (pc' := 63) rfl ?_
      refine hp_J 77 (fun (p7 : Int64) => [(0, (.ref 192)), (1, (.int x1)), (2, (.int a2)), (3, (.int a3)), (4, (.int a4)), (5, (.long a6))]) (fun (p7 : Int64) => [(.long p7)]) (fun (p7 : Int64) => h4) ?_ (fun p7 => ?_)
      · refine hp_if_eq hm at0 rfl (by exact trivial) (pc' := 63) rfl 8 rfl (tgt := 75) rfl (fun c9 => ?_) (fun c9 => ?_)
        · refine hp_b hm (at1 8 rfl) (L' := [(5, (.long a6)), (4, (.int a4)), (3, (.int a3)), (2, (.int a2)), (0, (.ref 192)), (1, (.int x1))]) (st' := [(.long a6)]) rfl (by exact trivial) (pc' := 77) rfl ?_
          exact hp_lf [4, 5, 3, 2, 1, 0] rfl (fun _ e => e)
        · refine hp_cVP (M2 := M_Mo_rounded) hm (at1 9 rfl) (as := [(.long a6)]) (rest := []) (z := 192) rfl (by exact trivial) (pc' := 69) rfl 6 rfl (lw_g (lw_at lw_m10 44 rfl) rfl) y_Mo_rounded rfl (d2 := 2) ⟨le_b rfl, pd_Mo_rounded, le_b rfl⟩ (le_b rfl) og_192 (k_Mo_rounded a6 h4) (fun a8 => ?_)
          refine hp_goto hm 7 rfl (tgt := 77) rfl ?_
          exact hp_lf [4, 5, 3, 2, 1, 0] rfl (fun _ e => e)
      · refine hp_b hm (at1 10 rfl) (L' := [(7, (.long p7)), (0, (.ref 192)), (1, (.int x1)), (2, (.int a2)), (3, (.int a3)), (4, (.int a4)), (5, (.long a6))]) (st' := [(.long p7), (.long a6), (.int x1), (.ref 192), (.int a4), (.int a2), (.int a3), (.int x1), (.ref 192)]) rfl (by exact trivial) (pc' := 91) rfl ?_
        refine hp_cVP (M2 := M_Mo_atLeast) hm at0 (as := [(.int x1), (.long a6), (.long p7)]) (rest := [(.int a4), (.int a2), (.int a3), (.int x1), (.ref 192)]) (z := 192) rfl (by exact trivial) (pc' := 91) rfl 9 rfl (lw_g (lw_at lw_m10 49 rfl) rfl) y_Mo_atLeast rfl (d2 := 1) ⟨le_b rfl, pd_Mo_atLeast, le_b rfl⟩ (le_b rfl) og_192 (k_Mo_atLeast x1 a6 p7 h4) (fun a10 => ?_)
        refine hp_cVS (M2 := M_Mo_settle) hm at0 (as := [(.int x1), (.int a3), (.int a2), (.int a4), (.long a10)]) (rest := []) (z := 192) rfl (by exact trivial) (pc' := 94) rfl 10 rfl (lw_g (lw_at lw_m10 53 rfl) rfl) y_Mo_settle rfl (d2 := 6) ⟨le_b rfl, pd_Mo_settle, le_b rfl⟩ (le_b rfl) og_192 (k_Mo_settle x1 a3 a2 a4 a10 h4) (fun _ h5 => ?_)
        exact hp_vr hm 11 rfl rfl (fun _ e => e)
    · exact hp_vr hm 12 rfl rfl (fun _ e => e)
  · exact hp_vr hm 14 rfl rfl (fun _ e => e)
/-! HintHouseModel.cvtOf(I)I -/
def M_Mo_cvtOf : hM := (11, ⟨"HintHouseModel", "cvtOf", "(I)I"⟩, prog_13_method_64_code, 2, (Option.some Jvm.ClassFile.FieldType.int), [], [(0, [(.iload_n 1, 1, 0, 0, 0, .null)]), (4, [(.iload_n 1, 1, 0, 0, 0, .null), (.aload_n 0, 1, 0, 0, 0, .null), (.getfield 294, 3, 11, 25, 0, .null)]), (12, [(.aload_n 0, 1, 0, 0, 0, .null), (.bipush 6, 2, 0, 0, 0, (.int (6 : Int32)))]), (18, [(.iconst 0, 1, 0, 0, 0, (.int (0 : Int32)))]), (20, [(.aload_n 0, 1, 0, 0, 0, .null), (.getfield 64, 3, 11, 44, 4, .null), (.iload_n 1, 1, 0, 0, 0, .null), (.iaload, 1, 0, 0, 0, .null)])], [(9, .if_icmp .lt 11, 3), (1, .ifCond .lt 11, 3), (15, .invokevirtual 421, 3), (19, .ireturn, 1), (26, .ireturn, 1)])
set_option maxRecDepth 100000 in
theorem m_Mo_cvtOf : hx_mok M_Mo_cvtOf = true := by decide +kernel
theorem pd_Mo_cvtOf : (parseMethodDescriptor M_Mo_cvtOf.2.1.desc).map (fun q => q.parameters.length) = some 1 := by decide +kernel
theorem y_Mo_cvtOf : hx_okV M_Mo_cvtOf := ⟨⟨lw_g (lw_at lw_m10 81 rfl) rfl, lw_g (lw_at lw_m10 80 rfl) rfl, qs149, lw_g (lw_at lw_m1 12 rfl) rfl, rfl, by decide, by decide, by decide⟩, rfl, by decide, plainFor_of_name (by decide)⟩
noncomputable def f_Mo_cvtOf (x1 : Int32) (h : hH) : Option (Int32 × hH) :=
  if (x1 < 0 ∨ ¬ (x1 < (rdI h 192 25))) then (
    bS (f_Mo_fail (6 : Int32) h) fun _ h1 =>
    some ((0 : Int32), h1)
  ) else (
    gd (vp_in x1 256) <|
    some ((rdI h 210 (Int32.toNatClampNeg x1)), h)
  )
set_option maxRecDepth 20000 in
theorem k_Mo_cvtOf (x1 : Int32) (h : hH) : hx_kS S0 M_Mo_cvtOf 2 NT [(.ref 192), (.int x1)] h (f_Mo_cvtOf x1 h) cvI := by
  have hm := m_Mo_cvtOf
  show hx_P S0 M_Mo_cvtOf 2 0 [(0, (.ref 192)), (1, (.int x1))] [] NT h (f_Mo_cvtOf x1 h) (hx_Rc cvI NT)
  unfold f_Mo_cvtOf
  refine hp_cI (L0 := [(0, (.ref 192)), (1, (.int x1))]) (s0 := []) 12 20 ?_ (fun c5 => ?_) (fun c5 => ?_)
  · refine hp_or ?_
    refine hp_if_lt hm (at1 0 rfl) rfl (by exact trivial) (pc' := 1) rfl 1 rfl (tgt := 12) rfl (fun c2 => ?_) (fun c2 => ?_)
    · exact hp_l0 (fun _ e => e)
    · refine hp_decn ?_
      refine hp_ic_lt hm (at1 1 rfl) rfl (by exact og_192) (pc' := 9) rfl 0 rfl (tgt := 20) rfl (fun c1 => ?_) (fun c1 => ?_)
      · exact hp_l0 (fun _ e => e)
      · exact hp_l0 (fun _ e => e)
  · refine hp_cVS (M2 := M_Mo_fail) hm (at1 2 rfl) (as := [(.int (6 : Int32))]) (rest := []) (z := 192) rfl (by exact trivial) (pc' := 15) rfl 2 rfl (lw_g (lw_at lw_m10 4 rfl) rfl) y_Mo_fail rfl (d2 := 1) ⟨le_b rfl, pd_Mo_fail, le_b rfl⟩ (le_b rfl) og_192 (k_Mo_fail (6 : Int32) h) (fun _ h1 => ?_)
    exact hp_ir hm (at1 3 rfl) rfl (by exact trivial) (pc' := 19) rfl 3 rfl rfl (vp_nar_int _) (fun _ e => e)
  · refine hp_G hm (at1 4 rfl) (L' := [(0, (.ref 192)), (1, (.int x1))]) (st' := [(.int (rdI h 210 (Int32.toNatClampNeg x1)))]) rfl (fun hP => (by exact ⟨og_192, ⟨og_210, hP⟩⟩)) (pc' := 26) rfl (fun q6 => ?_)
    exact hp_ir hm at0 rfl (by exact trivial) (pc' := 26) rfl 4 rfl rfl (vp_nar_int _) (fun _ e => e)
/-! HintHouseModel.indirect(I)V -/
def M_Mo_indirect : hM := (11, ⟨"HintHouseModel", "indirect", "(I)V"⟩, prog_13_method_92_code, 10, (Option.none : Option Jvm.ClassFile.FieldType), [], [(0, [(.aload_n 0, 1, 0, 0, 0, .null), (.iconst 2, 1, 0, 0, 0, (.int (2 : Int32)))]), (9, [(.aload_n 0, 1, 0, 0, 0, .null)]), (13, [(.istore_n 2, 1, 0, 0, 0, .null), (.aload_n 0, 1, 0, 0, 0, .null)]), (18, [(.istore_n 3, 1, 0, 0, 0, .null), (.aload_n 0, 1, 0, 0, 0, .null), (.aload_n 0, 1, 0, 0, 0, .null), (.getfield 463, 3, 11, 73, 0, .null), (.iload_n 3, 1, 0, 0, 0, .null)]), (28, [(.istore 4, 2, 0, 0, 0, .null), (.aload_n 0, 1, 0, 0, 0, .null), (.aload_n 0, 1, 0, 0, 0, .null), (.getfield 460, 3, 11, 72, 0, .null), (.aload_n 0, 1, 0, 0, 0, .null), (.getfield 451, 3, 11, 69, 0, .null)]), (42, [(.istore 5, 2, 0, 0, 0, .null), (.aload_n 0, 1, 0, 0, 0, .null), (.iload_n 2, 1, 0, 0, 0, .null)]), (49, [(.i2l, 1, 0, 0, 0, .null), (.lstore 6, 2, 0, 0, 0, .null)]), (52, [(.aload_n 0, 1, 0, 0, 0, .null), (.getfield 409, 3, 11, 59, 0, .null)]), (60, [(.aload_n 0, 1, 0, 0, 0, .null), (.lload 6, 2, 0, 0, 0, .null)]), (66, [(.lstore 6, 2, 0, 0, 0, .null), (.aload_n 0, 1, 0, 0, 0, .null), (.getfield 463, 3, 11, 73, 0, .null)]), (75, [(.aload_n 0, 1, 0, 0, 0, .null), (.iload 4, 2, 0, 0, 0, .null), (.aload_n 0, 1, 0, 0, 0, .null), (.getfield 70, 3, 11, 46, 4, .null), (.iload 5, 2, 0, 0, 0, .null), (.iaload, 1, 0, 0, 0, .null), (.i2l, 1, 0, 0, 0, .null), (.lload 6, 2, 0, 0, 0, .null), (.aload_n 0, 1, 0, 0, 0, .null), (.getfield 433, 3, 11, 63, 0, .null), (.i2l, 1, 0, 0, 0, .null), (.lmul, 1, 0, 0, 0, .null), (.ldc2_w 310, 3, 0, 0, 0, (.long (16384 : Int64)))]), (100, [(.ladd, 1, 0, 0, 0, .null), (.aload_n 0, 1, 0, 0, 0, .null), (.getfield 73, 3, 11, 47, 4, .null), (.iload 5, 2, 0, 0, 0, .null), (.iaload, 1, 0, 0, 0, .null), (.i2l, 1, 0, 0, 0, .null), (.lload 6, 2, 0, 0, 0, .null), (.aload_n 0, 1, 0, 0, 0, .null), (.getfield 436, 3, 11, 64, 0, .null), (.i2l, 1, 0, 0, 0, .null), (.lmul, 1, 0, 0, 0, .null), (.ldc2_w 310, 3, 0, 0, 0, (.long (16384 : Int64)))]), (123, [(.ladd, 1, 0, 0, 0, .null)]), (127, [(.aload_n 0, 1, 0, 0, 0, .null), (.iload 4, 2, 0, 0, 0, .null), (.iload 5, 2, 0, 0, 0, .null)]), (135, [(.i2l, 1, 0, 0, 0, .null), (.lstore 8, 2, 0, 0, 0, .null)]), (138, [(.aload_n 0, 1, 0, 0, 0, .null), (.getfield 683, 3, 11, 84, 1, .null)]), (145, [(.lload 8, 2, 0, 0, 0, .null), (.lconst 0, 1, 0, 0, 0, (.long (0 : Int64))), (.lcmp, 1, 0, 0, 0, .null)]), (156, [(.iconst 0, 1, 0, 0, 0, (.int (0 : Int32)))]), (152, [(.iconst 1, 1, 0, 0, 0, (.int (1 : Int32)))]), (157, [(.lload 6, 2, 0, 0, 0, .null), (.lconst 0, 1, 0, 0, 0, (.long (0 : Int64))), (.lcmp, 1, 0, 0, 0, .null)]), (168, [(.iconst 0, 1, 0, 0, 0, (.int (0 : Int32)))]), (164, [(.iconst 1, 1, 0, 0, 0, (.int (1 : Int32)))]), (172, [(.lload 6, 2, 0, 0, 0, .null), (.lneg, 1, 0, 0, 0, .null), (.lstore 6, 2, 0, 0, 0, .null)]), (177, [(.iload_n 1, 1, 0, 0, 0, .null), (.iconst 4, 1, 0, 0, 0, (.int (4 : Int32))), (.iand, 1, 0, 0, 0, .null)]), (183, [(.aload_n 0, 1, 0, 0, 0, .null), (.getfield 460, 3, 11, 72, 0, .null), (.aload_n 0, 1, 0, 0, 0, .null), (.getfield 463, 3, 11, 73, 0, .null)]), (216, [(.lload 6, 2, 0, 0, 0, .null)]), (194, [(.lload 6, 2, 0, 0, 0, .null), (.lload 8, 2, 0, 0, 0, .null), (.lsub, 1, 0, 0, 0, .null)]), (202, [(.aload_n 0, 1, 0, 0, 0, .null), (.getfield 605, 3, 11, 80, 0, .null), (.i2l, 1, 0, 0, 0, .null), (.lcmp, 1, 0, 0, 0, .null)]), (211, [(.lload 8, 2, 0, 0, 0, .null)]), (218, [(.lstore 6, 2, 0, 0, 0, .null), (.aload_n 0, 1, 0, 0, 0, .null), (.lload 6, 2, 0, 0, 0, .null)]), (226, [(.lstore 6, 2, 0, 0, 0, .null)]), (228, [(.aload_n 0, 1, 0, 0, 0, .null), (.iload_n 1, 1, 0, 0, 0, .null), (.iload 4, 2, 0, 0, 0, .null), (.iload_n 3, 1, 0, 0, 0, .null), (.iload 5, 2, 0, 0, 0, .null), (.aload_n 0, 1, 0, 0, 0, .null), (.iload_n 1, 1, 0, 0, 0, .null), (.lload 8, 2, 0, 0, 0, .null), (.lload 6, 2, 0, 0, 0, .null)])], [(2, .invokevirtual 576, 3), (10, .invokevirtual 579, 3), (15, .invokevirtual 579, 3), (25, .invokevirtual 582, 3), (39, .invokevirtual 582, 3), (46, .invokevirtual 677, 3), (63, .invokevirtual 720, 3), (97, .invokestatic 517, 3), (120, .invokestatic 517, 3), (124, .invokevirtual 716, 3), (72, .ifCond .ne 55, 3), (132, .invokevirtual 680, 3), (153, .goto 4, 3), (149, .ifCond .ge 7, 3), (165, .goto 4, 3), (161, .ifCond .ge 7, 3), (169, .if_icmp .eq 8, 3), (142, .ifCond .eq 35, 3), (199, .invokestatic 198, 3), (213, .goto 5, 3), (208, .ifCond .le 8, 3), (191, .if_icmp .ne 25, 3), (223, .invokevirtual 647, 3), (180, .ifCond .eq 48, 3), (241, .invokevirtual 723, 3), (244, .invokevirtual 727, 3), (247, .return_, 1), (59, .return_, 1), (56, .ifCond .le 4, 3), (8, .return_, 1), (5, .ifCond .ne 4, 3)])
set_option maxRecDepth 100000 in
theorem m_Mo_indirect : hx_mok M_Mo_indirect = true := by decide +kernel
theorem pd_Mo_indirect : (parseMethodDescriptor M_Mo_indirect.2.1.desc).map (fun q => q.parameters.length) = some 1 := by decide +kernel
theorem y_Mo_indirect : hx_okV M_Mo_indirect := ⟨⟨lw_g (lw_at lw_m10 77 rfl) rfl, lw_g (lw_at lw_m10 76 rfl) rfl, qs148, lw_g (lw_at lw_m1 12 rfl) rfl, rfl, by decide, by decide, by decide⟩, rfl, by decide, plainFor_of_name (by decide)⟩
noncomputable def f_Mo_indirect (x1 : Int32) (h : hH) : Option (Unit × hH) :=
  bS (f_Mo_has (2 : Int32) h) fun a1 h1 =>
  if a1 = 0 then (
    some ((), h1)
  ) else (
    bS (f_Mo_pop h1) fun a2 h2 =>
    bS (f_Mo_pop h2) fun a3 h3 =>
    bS (f_Mo_pointOf (rdI h3 192 73) a3 h3) fun a4 h4 =>
    bS (f_Mo_pointOf (rdI h4 192 72) (rdI h4 192 69) h4) fun a5 h5 =>
    bS (f_Mo_cvtOf a2 h5) fun a6 h6 =>
    lz (A := Int64) (Int32.toInt64 a6) fun v7 =>
    if (rdI h6 192 59) ≤ 0 then (
      bP (f_Mo_singled v7 h6) fun a8 =>
      bP (A := hH) (
        if (rdI h6 192 73) = 0 then (
          gd (vp_in a5 204) <|
          bP (f_Mo_over (a8 * (Int32.toInt64 (rdI h6 192 63))) (16384 : Int64)) fun a11 =>
          gd (vp_in a5 204) <|
          bP (f_Mo_over (a8 * (Int32.toInt64 (rdI h6 192 64))) (16384 : Int64)) fun a13 =>
          bS (f_Mo_put a4 ((Int32.toInt64 (rdI h6 212 (Int32.toNatClampNeg a5))) + a11) ((Int32.toInt64 (rdI h6 213 (Int32.toNatClampNeg a5))) + a13) h6) fun _ h7 =>
          some h7
        ) else (
          some h6
        )
      ) fun p9 =>
      bP (f_Mo_originally a4 a5 p9) fun a15 =>
      lz (A := Int64) (Int32.toInt64 a15) fun v16 =>
      bP (A := Int64) (
        if (rdI p9 192 84) = 0 then (
          some a8
        ) else (
          lz (A := Int32) (if (0 : Int64) ≤ v16 then (0 : Int32) else (1 : Int32)) fun p18 =>
          lz (A := Int32) (if (0 : Int64) ≤ a8 then (0 : Int32) else (1 : Int32)) fun p20 =>
          if p18 = p20 then (
            some a8
          ) else (
            lz (A := Int64) (-a8) fun v22 =>
            some v22
          )
        )
      ) fun p17 =>
      bP (A := Int64) (
        if (x1 &&& (4 : Int32)) = 0 then (
          some p17
        ) else (
          bP (A := Int64) (
            if (rdI p9 192 72) = (rdI p9 192 73) then (
              bP (f_Mo_sizeOf (p17 - v16)) fun a27 =>
              if a27 ≤ (Int32.toInt64 (rdI p9 192 80)) then (
                some p17
              ) else (
                some v16
              )
            ) else (
              some p17
            )
          ) fun p26 =>
          bP (f_Mo_rounded p26 p9) fun a30 =>
          some a30
        )
      ) fun p25 =>
      bP (f_Mo_atLeast x1 v16 p25 p9) fun a32 =>
      bS (f_Mo_settle x1 a4 a3 a5 a32 p9) fun _ h8 =>
      some ((), h8)
    ) else (
      some ((), h6)
    )
  )
set_option maxRecDepth 20000 in
theorem k_Mo_indirect (x1 : Int32) (h : hH) : hx_kS S0 M_Mo_indirect 7 NT [(.ref 192), (.int x1)] h (f_Mo_indirect x1 h) cvU := by
  have hm := m_Mo_indirect
  show hx_P S0 M_Mo_indirect 7 0 [(0, (.ref 192)), (1, (.int x1))] [] NT h (f_Mo_indirect x1 h) (hx_Rc cvU NT)
  unfold f_Mo_indirect
  refine hp_cVS (M2 := M_Mo_has) hm (at1 0 rfl) (as := [(.int (2 : Int32))]) (rest := []) (z := 192) rfl (by exact trivial) (pc' := 2) rfl 0 rfl (lw_g (lw_at lw_m10 20 rfl) rfl) y_Mo_has rfl (d2 := 2) ⟨le_b rfl, pd_Mo_has, le_b rfl⟩ (le_b rfl) og_192 (k_Mo_has (2 : Int32) h) (fun a1 h1 => ?_)
  refine hp_if_ne hm at0 rfl (by exact trivial) (pc' := 5) rfl 30 rfl (tgt := 9) rfl (fun c34 => ?_) (fun c34 => ?_)
  · refine hp_cVS (M2 := M_Mo_pop) hm (at1 1 rfl) (as := []) (rest := []) (z := 192) rfl (by exact trivial) (pc' := 10) rfl 1 rfl (lw_g (lw_at lw_m10 24 rfl) rfl) y_Mo_pop rfl (d2 := 1) ⟨le_b rfl, pd_Mo_pop, le_b rfl⟩ (le_b rfl) og_192 (k_Mo_pop h1) (fun a2 h2 => ?_)
    refine hp_b hm (at1 2 rfl) (L' := [(2, (.int a2)), (0, (.ref 192)), (1, (.int x1))]) (st' := [(.ref 192)]) rfl (by exact trivial) (pc' := 15) rfl ?_
    refine hp_cVS (M2 := M_Mo_pop) hm at0 (as := []) (rest := []) (z := 192) rfl (by exact trivial) (pc' := 15) rfl 2 rfl (lw_g (lw_at lw_m10 24 rfl) rfl) y_Mo_pop rfl (d2 := 1) ⟨le_b rfl, pd_Mo_pop, le_b rfl⟩ (le_b rfl) og_192 (k_Mo_pop h2) (fun a3 h3 => ?_)
    refine hp_b hm (at1 3 rfl) (L' := [(3, (.int a3)), (2, (.int a2)), (0, (.ref 192)), (1, (.int x1))]) (st' := [(.int a3), (.int (rdI h3 192 73)), (.ref 192)]) rfl (by exact og_192) (pc' := 25) rfl ?_
    refine hp_cVS (M2 := M_Mo_pointOf) hm at0 (as := [(.int (rdI h3 192 73)), (.int a3)]) (rest := []) (z := 192) rfl (by exact trivial) (pc' := 25) rfl 3 rfl (lw_g (lw_at lw_m10 28 rfl) rfl) y_Mo_pointOf rfl (d2 := 2) ⟨le_b rfl, pd_Mo_pointOf, le_b rfl⟩ (le_b rfl) og_192 (k_Mo_pointOf (rdI h3 192 73) a3 h3) (fun a4 h4 => ?_)
    refine hp_b hm (at1 4 rfl) (L' := [(4, (.int a4)), (3, (.int a3)), (2, (.int a2)), (0, (.ref 192)), (1, (.int x1))]) (st' := [(.int (rdI h4 192 69)), (.int (rdI h4 192 72)), (.ref 192)]) rfl (by exact ⟨og_192, og_192⟩) (pc' := 39) rfl ?_
    refine hp_cVS (M2 := M_Mo_pointOf) hm at0 (as := [(.int (rdI h4 192 72)), (.int (rdI h4 192 69))]) (rest := []) (z := 192) rfl (by exact trivial) (pc' := 39) rfl 4 rfl (lw_g (lw_at lw_m10 28 rfl) rfl) y_Mo_pointOf rfl (d2 := 2) ⟨le_b rfl, pd_Mo_pointOf, le_b rfl⟩ (le_b rfl) og_192 (k_Mo_pointOf (rdI h4 192 72) (rdI h4 192 69) h4) (fun a5 h5 => ?_)
    refine hp_b hm (at1 5 rfl) (L' := [(5, (.int a5)), (4, (.int a4)), (3, (.int a3)), (2, (.int a2)), (0, (.ref 192)), (1, (.int x1))]) (st' := [(.int a2), (.ref 192)]) rfl (by exact trivial) (pc' := 46) rfl ?_
    refine hp_cVS (M2 := M_Mo_cvtOf) hm at0 (as := [(.int a2)]) (rest := []) (z := 192) rfl (by exact trivial) (pc' := 46) rfl 5 rfl (lw_g (lw_at lw_m10 78 rfl) rfl) y_Mo_cvtOf rfl (d2 := 2) ⟨le_b rfl, pd_Mo_cvtOf, le_b rfl⟩ (le_b rfl) og_192 (k_Mo_cvtOf a2 h5) (fun a6 h6 => ?_)
    refine hp_z hm (at1 6 rfl) (fun (v7 : Int64) => [(6, (.long v7)), (5, (.int a5)), (4, (.int a4)), (3, (.int a3)), (2, (.int a2)), (0, (.ref 192)), (1, (.int x1))]) (fun (v7 : Int64) => []) rfl (by exact trivial) (pc' := 52) rfl (fun v7 => ?_)
    refine hp_if_le hm (at1 7 rfl) rfl (by exact og_192) (pc' := 56) rfl 28 rfl (tgt := 60) rfl (fun c33 => ?_) (fun c33 => ?_)
    · refine hp_cVP (M2 := M_Mo_singled) hm (at1 8 rfl) (as := [(.long v7)]) (rest := []) (z := 192) rfl (by exact trivial) (pc' := 63) rfl 6 rfl (lw_g (lw_at lw_m10 40 rfl) rfl) y_Mo_singled rfl (d2 := 2) ⟨le_b rfl, pd_Mo_singled, le_b rfl⟩ (le_b rfl) og_192 (k_Mo_singled v7 h6) (fun a8 => ?_)
      refine hp_b hm (at1 9 rfl) (L' := [(6, (.long a8)), (5, (.int a5)), (4, (.int a4)), (3, (.int a3)), (2, (.int a2)), (0, (.ref 192)), (1, (.int x1))]) (st' := [(.int (rdI h6 192 73))]) rfl (by exact og_192) (pc' := 72) rfl ?_
      refine hp_J 127 (fun (p9 : hH) => [(0, (.ref 192)), (1, (.int x1)), (3, (.int a3)), (4, (.int a4)), (5, (.int a5)), (6, (.long a8))]) (fun (p9 : hH) => []) (fun (p9 : hH) => p9) ?_ (fun p9 => ?_)
      · refine hp_if_ne hm at0 rfl (by exact trivial) (pc' := 72) rfl 10 rfl (tgt := 127) rfl (fun c14 => ?_) (fun c14 => ?_)
        · exact hp_lf [5, 6, 3, 2, 1, 0] rfl (fun _ e => e)
        · refine hp_G hm (at1 10 rfl) (L' := [(6, (.long a8)), (5, (.int a5)), (4, (.int a4)), (3, (.int a3)), (2, (.int a2)), (0, (.ref 192)), (1, (.int x1))]) (st' := [(.long (16384 : Int64)), (.long (a8 * (Int32.toInt64 (rdI h6 192 63)))), (.long (Int32.toInt64 (rdI h6 212 (Int32.toNatClampNeg a5)))), (.int a4), (.ref 192)]) rfl (fun hP => (by exact ⟨⟨og_192, ⟨og_212, hP⟩⟩, og_192⟩)) (pc' := 97) rfl (fun q10 => ?_)
          refine hp_cSP (M2 := M_Mo_over) hm at0 (as := [(.long (a8 * (Int32.toInt64 (rdI h6 192 63)))), (.long (16384 : Int64))]) (rest := [(.long (Int32.toInt64 (rdI h6 212 (Int32.toNatClampNeg a5)))), (.int a4), (.ref 192)]) rfl (by exact trivial) (pc' := 97) rfl 7 rfl (lw_g (lw_at lw_m9 217 rfl) rfl) y_Mo_over rfl (d2 := 3) ⟨le_b rfl, pd_Mo_over, le_b rfl⟩ (le_b rfl) (k_Mo_over (a8 * (Int32.toInt64 (rdI h6 192 63))) (16384 : Int64) h6) (fun a11 => ?_)
          refine hp_G hm (at1 11 rfl) (L' := [(6, (.long a8)), (5, (.int a5)), (4, (.int a4)), (3, (.int a3)), (2, (.int a2)), (0, (.ref 192)), (1, (.int x1))]) (st' := [(.long (16384 : Int64)), (.long (a8 * (Int32.toInt64 (rdI h6 192 64)))), (.long (Int32.toInt64 (rdI h6 213 (Int32.toNatClampNeg a5)))), (.long ((Int32.toInt64 (rdI h6 212 (Int32.toNatClampNeg a5))) + a11)), (.int a4), (.ref 192)]) rfl (fun hP => (by exact ⟨⟨og_192, ⟨og_213, hP⟩⟩, og_192⟩)) (pc' := 120) rfl (fun q12 => ?_)
          refine hp_cSP (M2 := M_Mo_over) hm at0 (as := [(.long (a8 * (Int32.toInt64 (rdI h6 192 64)))), (.long (16384 : Int64))]) (rest := [(.long (Int32.toInt64 (rdI h6 213 (Int32.toNatClampNeg a5)))), (.long ((Int32.toInt64 (rdI h6 212 (Int32.toNatClampNeg a5))) + a11)), (.int a4), (.ref 192)]) rfl (by exact trivial) (pc' := 120) rfl 8 rfl (lw_g (lw_at lw_m9 217 rfl) rfl) y_Mo_over rfl (d2 := 3) ⟨le_b rfl, pd_Mo_over, le_b rfl⟩ (le_b rfl) (k_Mo_over (a8 * (Int32.toInt64 (rdI h6 192 64))) (16384 : Int64) h6) (fun a13 => ?_)
          refine hp_cVS (M2 := M_Mo_put) hm (at1 12 rfl) (as := [(.int a4), (.long ((Int32.toInt64 (rdI h6 212 (Int32.toNatClampNeg a5))) + a11)), (.long ((Int32.toInt64 (rdI h6 213 (Int32.toNatClampNeg a5))) + a13))]) (rest := []) (z := 192) rfl (by exact trivial) (pc' := 124) rfl 9 rfl (lw_g (lw_at lw_m9 187 rfl) rfl) y_Mo_put rfl (d2 := 1) ⟨le_b rfl, pd_Mo_put, le_b rfl⟩ (le_b rfl) og_192 (k_Mo_put a4 ((Int32.toInt64 (rdI h6 212 (Int32.toNatClampNeg a5))) + a11) ((Int32.toInt64 (rdI h6 213 (Int32.toNatClampNeg a5))) + a13) h6) (fun _ h7 => ?_)
          exact hp_lf [5, 6, 3, 2, 1, 0] rfl (fun _ e => e)
      · refine hp_cVP (M2 := M_Mo_originally) hm (at1 13 rfl) (as := [(.int a4), (.int a5)]) (rest := []) (z := 192) rfl (by exact trivial) (pc' := 132) rfl 11 rfl (lw_g (lw_at lw_m10 32 rfl) rfl) y_Mo_originally rfl (d2 := 5) ⟨le_b rfl, pd_Mo_originally, le_b rfl⟩ (le_b rfl) og_192 (k_Mo_originally a4 a5 p9) (fun a15 => ?_)
        refine hp_z hm (at1 14 rfl) (fun (v16 : Int64) => [(8, (.long v16)), (0, (.ref 192)), (1, (.int x1)), (3, (.int a3)), (4, (.int a4)), (5, (.int a5)), (6, (.long a8))]) (fun (v16 : Int64) => []) rfl (by exact trivial) (pc' := 138) rfl (fun v16 => ?_)
        refine hp_J 177 (fun (p17 : Int64) => [(0, (.ref 192)), (1, (.int x1)), (3, (.int a3)), (4, (.int a4)), (5, (.int a5)), (6, (.long p17)), (8, (.long v16))]) (fun (p17 : Int64) => []) (fun (p17 : Int64) => p9) ?_ (fun p17 => ?_)
        · refine hp_if_eq hm (at1 15 rfl) rfl (by exact og_192) (pc' := 142) rfl 17 rfl (tgt := 177) rfl (fun c24 => ?_) (fun c24 => ?_)
          · exact hp_lf [1, 2, 3, 4, 5, 6, 0] rfl (fun _ e => e)
          · refine hp_JZ 157 (fun (p18 : Int32) => [(0, (.ref 192)), (1, (.int x1)), (3, (.int a3)), (4, (.int a4)), (5, (.int a5)), (6, (.long a8)), (8, (.long v16))]) (fun (p18 : Int32) => [(.int p18)]) (fun (p18 : Int32) => p9) ?_ (fun p18 => ?_)
            · refine hp_sv0 ?_
              refine hp_lc_ge hm (at1 16 rfl) rfl (by exact trivial) (pc' := 149) rfl 13 rfl (tgt := 156) rfl (fun c19 => ?_) (fun c19 => ?_)
              · refine hp_b hm (at1 17 rfl) (L' := [(8, (.long v16)), (0, (.ref 192)), (1, (.int x1)), (3, (.int a3)), (4, (.int a4)), (5, (.int a5)), (6, (.long a8))]) (st' := [(.int (0 : Int32))]) rfl (by exact trivial) (pc' := 157) rfl ?_
                exact hp_lf [1, 2, 3, 4, 5, 6, 0] rfl (fun _ e => e)
              · refine hp_b hm (at1 18 rfl) (L' := [(8, (.long v16)), (0, (.ref 192)), (1, (.int x1)), (3, (.int a3)), (4, (.int a4)), (5, (.int a5)), (6, (.long a8))]) (st' := [(.int (1 : Int32))]) rfl (by exact trivial) (pc' := 153) rfl ?_
                refine hp_goto hm 12 rfl (tgt := 157) rfl ?_
                exact hp_lf [1, 2, 3, 4, 5, 6, 0] rfl (fun _ e => e)
            · refine hp_JZ 169 (fun (p20 : Int32) => [(0, (.ref 192)), (1, (.int x1)), (3, (.int a3)), (4, (.int a4)), (5, (.int a5)), (6, (.long a8)), (8, (.long v16))]) (fun (p20 : Int32) => [(.int p20), (.int p18)]) (fun (p20 : Int32) => p9) ?_ (fun p20 => ?_)
              · refine hp_sv0 ?_
                refine hp_lc_ge hm (at1 19 rfl) rfl (by exact trivial) (pc' := 161) rfl 15 rfl (tgt := 168) rfl (fun c21 => ?_) (fun c21 => ?_)
                · refine hp_b hm (at1 20 rfl) (L' := [(0, (.ref 192)), (1, (.int x1)), (3, (.int a3)), (4, (.int a4)), (5, (.int a5)), (6, (.long a8)), (8, (.long v16))]) (st' := [(.int (0 : Int32)), (.int p18)]) rfl (by exact trivial) (pc' := 169) rfl ?_
                  exact hp_lf [0, 1, 2, 3, 4, 5, 6] rfl (fun _ e => e)
                · refine hp_b hm (at1 21 rfl) (L' := [(0, (.ref 192)), (1, (.int x1)), (3, (.int a3)), (4, (.int a4)), (5, (.int a5)), (6, (.long a8)), (8, (.long v16))]) (st' := [(.int (1 : Int32)), (.int p18)]) rfl (by exact trivial) (pc' := 165) rfl ?_
                  refine hp_goto hm 14 rfl (tgt := 169) rfl ?_
                  exact hp_lf [0, 1, 2, 3, 4, 5, 6] rfl (fun _ e => e)
              · refine hp_ic_eq hm at0 rfl (by exact trivial) (pc' := 169) rfl 16 rfl (tgt := 177) rfl (fun c23 => ?_) (fun c23 => ?_)
                · exact hp_lf [0, 1, 2, 3, 4, 5, 6] rfl (fun _ e => e)
                · refine hp_z hm (at1 22 rfl) (fun (v22 : Int64) => [(6, (.long v22)), (0, (.ref 192)), (1, (.int x1)), (3, (.int a3)), (4, (.int a4)), (5, (.int a5)), (8, (.long v16))]) (fun (v22 : Int64) => []) rfl (by exact trivial) (pc' := 177) rfl (fun v22 => ?_)
                  exact hp_lf [1, 2, 3, 4, 5, 0, 6] rfl (fun _ e => e)
        · refine hp_J 228 (fun (p25 : Int64) => [(0, (.ref 192)), (1, (.int x1)), (3, (.int a3)), (4, (.int a4)), (5, (.int a5)), (6, (.long p25)), (8, (.long v16))]) (fun (p25 : Int64) => []) (fun (p25 : Int64) => p9) ?_ (fun p25 => ?_)
          · refine hp_if_eq hm (at1 23 rfl) rfl (by exact trivial) (pc' := 180) rfl 23 rfl (tgt := 228) rfl (fun c31 => ?_) (fun c31 => ?_)
            · exact hp_lf [0, 1, 2, 3, 4, 5, 6] rfl (fun _ e => e)
            · refine hp_J 218 (fun (p26 : Int64) => [(0, (.ref 192)), (1, (.int x1)), (3, (.int a3)), (4, (.int a4)), (5, (.int a5)), (8, (.long v16))]) (fun (p26 : Int64) => [(.long p26)]) (fun (p26 : Int64) => p9) ?_ (fun p26 => ?_)
              · refine hp_ic_ne hm (at1 24 rfl) rfl (by exact ⟨og_192, og_192⟩) (pc' := 191) rfl 21 rfl (tgt := 216) rfl (fun c29 => ?_) (fun c29 => ?_)
                · refine hp_b hm (at1 25 rfl) (L' := [(0, (.ref 192)), (1, (.int x1)), (3, (.int a3)), (4, (.int a4)), (5, (.int a5)), (6, (.long p17)), (8, (.long v16))]) (st' := [(.long p17)]) rfl (by exact trivial) (pc' := 218) rfl ?_
                  exact hp_lf [0, 1, 2, 3, 4, 6] rfl (fun _ e => e)
                · refine hp_cSP (M2 := M_Mo_sizeOf) hm (at1 26 rfl) (as := [(.long (p17 - v16))]) (rest := []) rfl (by exact trivial) (pc' := 199) rfl 18 rfl (lw_g (lw_at lw_m9 223 rfl) rfl) y_Mo_sizeOf rfl (d2 := 1) ⟨le_b rfl, pd_Mo_sizeOf, le_b rfl⟩ (le_b rfl) (k_Mo_sizeOf (p17 - v16) p9) (fun a27 => ?_)
                  refine hp_lc_le hm (at1 27 rfl) rfl (by exact og_192) (pc' := 208) rfl 20 rfl (tgt := 216) rfl (fun c28 => ?_) (fun c28 => ?_)
                  · refine hp_b hm (at1 25 rfl) (L' := [(0, (.ref 192)), (1, (.int x1)), (3, (.int a3)), (4, (.int a4)), (5, (.int a5)), (6, (.long p17)), (8, (.long v16))]) (st' := [(.long p17)]) rfl (by exact trivial) (pc' := 218) rfl ?_
                    exact hp_lf [0, 1, 2, 3, 4, 6] rfl (fun _ e => e)
                  · refine hp_b hm (at1 28 rfl) (L' := [(0, (.ref 192)), (1, (.int x1)), (3, (.int a3)), (4, (.int a4)), (5, (.int a5)), (6, (.long p17)), (8, (.long v16))]) (st' := [(.long v16)]) rfl (by exact trivial) (pc' := 213) rfl ?_
                    refine hp_goto hm 19 rfl (tgt := 218) rfl ?_
                    exact hp_lf [0, 1, 2, 3, 4, 6] rfl (fun _ e => e)
              · refine hp_b hm (at1 29 rfl) (L' := [(6, (.long p26)), (0, (.ref 192)), (1, (.int x1)), (3, (.int a3)), (4, (.int a4)), (5, (.int a5)), (8, (.long v16))]) (st' := [(.long p26), (.ref 192)]) rfl (by exact trivial) (pc' := 223) rfl ?_
                refine hp_cVP (M2 := M_Mo_rounded) hm at0 (as := [(.long p26)]) (rest := []) (z := 192) rfl (by exact trivial) (pc' := 223) rfl 22 rfl (lw_g (lw_at lw_m10 44 rfl) rfl) y_Mo_rounded rfl (d2 := 2) ⟨le_b rfl, pd_Mo_rounded, le_b rfl⟩ (le_b rfl) og_192 (k_Mo_rounded p26 p9) (fun a30 => ?_)
                refine hp_b hm (at1 30 rfl) (L' := [(6, (.long a30)), (0, (.ref 192)), (1, (.int x1)), (3, (.int a3)), (4, (.int a4)), (5, (.int a5)), (8, (.long v16))]) (st' := []) rfl (by exact trivial) (pc' := 228) rfl ?_
                exact hp_lf [1, 2, 3, 4, 5, 0, 6] rfl (fun _ e => e)
          · refine hp_cVP (M2 := M_Mo_atLeast) hm (at1 31 rfl) (as := [(.int x1), (.long v16), (.long p25)]) (rest := [(.int a5), (.int a3), (.int a4), (.int x1), (.ref 192)]) (z := 192) rfl (by exact trivial) (pc' := 241) rfl 24 rfl (lw_g (lw_at lw_m10 49 rfl) rfl) y_Mo_atLeast rfl (d2 := 1) ⟨le_b rfl, pd_Mo_atLeast, le_b rfl⟩ (le_b rfl) og_192 (k_Mo_atLeast x1 v16 p25 p9) (fun a32 => ?_)
            refine hp_cVS (M2 := M_Mo_settle) hm at0 (as := [(.int x1), (.int a4), (.int a3), (.int a5), (.long a32)]) (rest := []) (z := 192) rfl (by exact trivial) (pc' := 244) rfl 25 rfl (lw_g (lw_at lw_m10 53 rfl) rfl) y_Mo_settle rfl (d2 := 6) ⟨le_b rfl, pd_Mo_settle, le_b rfl⟩ (le_b rfl) og_192 (k_Mo_settle x1 a4 a3 a5 a32 p9) (fun _ h8 => ?_)
            exact hp_vr hm 26 rfl rfl (fun _ e => e)
    · exact hp_vr hm 27 rfl rfl (fun _ e => e)
  · exact hp_vr hm 29 rfl rfl (fun _ e => e)
/-! HintHouseModel.push(J)V -/
def M_Mo_push : hM := (11, ⟨"HintHouseModel", "push", "(J)V"⟩, prog_13_method_42_code, 3, (Option.none : Option Jvm.ClassFile.FieldType), [], [(0, [(.aload_n 0, 1, 0, 0, 0, .null), (.getfield 418, 3, 11, 56, 0, .null), (.aload_n 0, 1, 0, 0, 0, .null), (.getfield 328, 3, 11, 18, 0, .null)]), (17, [(.aload_n 0, 1, 0, 0, 0, .null), (.getfield 91, 3, 11, 55, 4, .null), (.aload_n 0, 1, 0, 0, 0, .null), (.getfield 418, 3, 11, 56, 0, .null), (.lload_n 1, 1, 0, 0, 0, .null), (.l2i, 1, 0, 0, 0, .null), (.iastore, 1, 0, 0, 0, .null)]), (28, [(.aload_n 0, 1, 0, 0, 0, .null), (.dup, 1, 0, 0, 0, .null), (.getfield 418, 3, 11, 56, 0, .null), (.iconst 1, 1, 0, 0, 0, (.int (1 : Int32))), (.iadd, 1, 0, 0, 0, .null), (.putfield 418, 3, 11, 56, 0, .null)]), (38, [(.aload_n 0, 1, 0, 0, 0, .null), (.aload_n 0, 1, 0, 0, 0, .null), (.getfield 418, 3, 11, 56, 0, .null), (.aload_n 0, 1, 0, 0, 0, .null), (.getfield 424, 3, 11, 57, 0, .null)]), (57, [(.aload_n 0, 1, 0, 0, 0, .null), (.getfield 424, 3, 11, 57, 0, .null)]), (50, [(.aload_n 0, 1, 0, 0, 0, .null), (.getfield 418, 3, 11, 56, 0, .null)]), (61, [(.putfield 424, 3, 11, 57, 0, .null)]), (11, [(.aload_n 0, 1, 0, 0, 0, .null), (.iconst 2, 1, 0, 0, 0, (.int (2 : Int32)))])], [(54, .goto 7, 3), (47, .if_icmp .le 10, 3), (64, .return_, 1), (13, .invokevirtual 421, 3), (16, .return_, 1), (8, .if_icmp .lt 9, 3)])
set_option maxRecDepth 100000 in
theorem m_Mo_push : hx_mok M_Mo_push = true := by decide +kernel
theorem pd_Mo_push : (parseMethodDescriptor M_Mo_push.2.1.desc).map (fun q => q.parameters.length) = some 1 := by decide +kernel
theorem y_Mo_push : hx_okV M_Mo_push := ⟨⟨lw_g (lw_at lw_m10 89 rfl) rfl, lw_g (lw_at lw_m10 88 rfl) rfl, qs151, lw_g (lw_at lw_m1 12 rfl) rfl, rfl, by decide, by decide, by decide⟩, rfl, by decide, plainFor_of_name (by decide)⟩
noncomputable def f_Mo_push (x1 : Int64) (h : hH) : Option (Unit × hH) :=
  if (rdI h 192 56) < (rdI h 192 18) then (
    gd (vp_in (rdI h 192 56) 256) <|
    lz (wrI h 219 (Int32.toNatClampNeg (rdI h 192 56)) (Int64.toInt32 x1)) fun h1 =>
    lz (wrI h1 192 56 ((rdI h1 192 56) + (1 : Int32))) fun h2 =>
    lz (A := Int32) (if (rdI h2 192 56) ≤ (rdI h2 192 57) then (rdI h2 192 57) else (rdI h2 192 56)) fun p2 =>
    lz (wrI h2 192 57 p2) fun h3 =>
    some ((), h3)
  ) else (
    bS (f_Mo_fail (2 : Int32) h) fun _ h4 =>
    some ((), h4)
  )
set_option maxRecDepth 20000 in
theorem k_Mo_push (x1 : Int64) (h : hH) : hx_kS S0 M_Mo_push 2 NT [(.ref 192), (.long x1)] h (f_Mo_push x1 h) cvU := by
  have hm := m_Mo_push
  show hx_P S0 M_Mo_push 2 0 [(0, (.ref 192)), (1, (.long x1))] [] NT h (f_Mo_push x1 h) (hx_Rc cvU NT)
  unfold f_Mo_push
  refine hp_ic_lt hm (at1 0 rfl) rfl (by exact ⟨og_192, og_192⟩) (pc' := 8) rfl 5 rfl (tgt := 17) rfl (fun c4 => ?_) (fun c4 => ?_)
  · refine hp_GW hm (at1 1 rfl) (L' := [(0, (.ref 192)), (1, (.long x1))]) rfl (fun hP => (by exact ⟨⟨og_192, og_192⟩, ⟨og_219, hP⟩⟩)) (pc' := 28) rfl (fun q1 h1 => ?_)
    refine hp_w hm (at1 2 rfl) (L' := [(0, (.ref 192)), (1, (.long x1))]) rfl (by exact ⟨og_192, og_192⟩) (pc' := 38) rfl (fun h2 => ?_)
    refine hp_JZ 61 (fun (p2 : Int32) => []) (fun (p2 : Int32) => [(.int p2), (.ref 192)]) (fun (p2 : Int32) => h2) ?_ (fun p2 => ?_)
    · refine hp_sv0 ?_
      refine hp_ic_le hm (at1 3 rfl) rfl (by exact ⟨og_192, og_192⟩) (pc' := 47) rfl 1 rfl (tgt := 57) rfl (fun c3 => ?_) (fun c3 => ?_)
      · refine hp_b hm (at1 4 rfl) (L' := [(0, (.ref 192)), (1, (.long x1))]) (st' := [(.int (rdI h2 192 57)), (.ref 192)]) rfl (by exact og_192) (pc' := 61) rfl ?_
        exact hp_lf [] rfl (fun _ e => e)
      · refine hp_b hm (at1 5 rfl) (L' := [(0, (.ref 192)), (1, (.long x1))]) (st' := [(.int (rdI h2 192 56)), (.ref 192)]) rfl (by exact og_192) (pc' := 54) rfl ?_
        refine hp_goto hm 0 rfl (tgt := 61) rfl ?_
        exact hp_lf [] rfl (fun _ e => e)
    · refine hp_w hm (at1 6 rfl) (L' := []) rfl (by exact og_192) (pc' := 64) rfl (fun h3 => ?_)
      exact hp_vr hm 2 rfl rfl (fun _ e => e)
  · refine hp_cVS (M2 := M_Mo_fail) hm (at1 7 rfl) (as := [(.int (2 : Int32))]) (rest := []) (z := 192) rfl (by exact trivial) (pc' := 13) rfl 3 rfl (lw_g (lw_at lw_m10 4 rfl) rfl) y_Mo_fail rfl (d2 := 1) ⟨le_b rfl, pd_Mo_fail, le_b rfl⟩ (le_b rfl) og_192 (k_Mo_fail (2 : Int32) h) (fun _ h4 => ?_)
    exact hp_vr hm 4 rfl rfl (fun _ e => e)
/-! HintHouseModel.pushBytes(IZI)V -/
def M_Mo_pushBytes : hM := (11, ⟨"HintHouseModel", "pushBytes", "(IZI)V"⟩, prog_13_method_66_code, 7, (Option.none : Option Jvm.ClassFile.FieldType), [], [(0, [(.iload_n 2, 1, 0, 0, 0, .null)]), (8, [(.iconst 1, 1, 0, 0, 0, (.int (1 : Int32)))]), (4, [(.iconst 2, 1, 0, 0, 0, (.int (2 : Int32)))]), (9, [(.istore 4, 2, 0, 0, 0, .null), (.iload_n 3, 1, 0, 0, 0, .null), (.iload 4, 2, 0, 0, 0, .null), (.iload_n 1, 1, 0, 0, 0, .null), (.imul, 1, 0, 0, 0, .null), (.iadd, 1, 0, 0, 0, .null), (.aload_n 0, 1, 0, 0, 0, .null), (.getfield 97, 3, 11, 90, 4, .null), (.aload_n 0, 1, 0, 0, 0, .null), (.getfield 427, 3, 11, 92, 0, .null), (.iaload, 1, 0, 0, 0, .null)]), (35, [(.iconst 0, 1, 0, 0, 0, (.int (0 : Int32))), (.istore 5, 2, 0, 0, 0, .null)]), (38, [(.iload 5, 2, 0, 0, 0, .null), (.iload_n 1, 1, 0, 0, 0, .null)]), (44, [(.aload_n 0, 1, 0, 0, 0, .null), (.getfield 409, 3, 11, 59, 0, .null)]), (51, [(.aload_n 0, 1, 0, 0, 0, .null), (.getfield 94, 3, 11, 89, 4, .null), (.aload_n 0, 1, 0, 0, 0, .null), (.getfield 427, 3, 11, 92, 0, .null), (.iaload, 1, 0, 0, 0, .null), (.iload_n 3, 1, 0, 0, 0, .null), (.iadd, 1, 0, 0, 0, .null), (.iload 4, 2, 0, 0, 0, .null), (.iload 5, 2, 0, 0, 0, .null), (.imul, 1, 0, 0, 0, .null), (.iadd, 1, 0, 0, 0, .null), (.istore 6, 2, 0, 0, 0, .null)]), (70, [(.aload_n 0, 1, 0, 0, 0, .null), (.iload_n 2, 1, 0, 0, 0, .null)]), (85, [(.aload_n 0, 1, 0, 0, 0, .null), (.iload 6, 2, 0, 0, 0, .null)]), (91, [(.i2l, 1, 0, 0, 0, .null)]), (75, [(.aload_n 0, 1, 0, 0, 0, .null), (.iload 6, 2, 0, 0, 0, .null)]), (81, [(.i2l, 1, 0, 0, 0, .null)]), (95, [(.iinc 5 1, 3, 0, 0, 0, (.int (1 : Int32)))]), (101, [(.aload_n 0, 1, 0, 0, 0, .null), (.iload_n 3, 1, 0, 0, 0, .null), (.iload 4, 2, 0, 0, 0, .null), (.iload_n 1, 1, 0, 0, 0, .null), (.imul, 1, 0, 0, 0, .null), (.iadd, 1, 0, 0, 0, .null), (.putfield 496, 3, 11, 93, 0, .null)]), (29, [(.aload_n 0, 1, 0, 0, 0, .null), (.iconst 4, 1, 0, 0, 0, (.int (4 : Int32)))])], [(5, .goto 4, 3), (1, .ifCond .eq 7, 3), (48, .ifCond .ne 53, 3), (41, .if_icmp .ge 60, 3), (88, .invokevirtual 209, 3), (78, .invokevirtual 305, 3), (82, .goto 10, 3), (72, .ifCond .eq 13, 3), (92, .invokevirtual 564, 3), (98, .goto (-60), 3), (111, .return_, 1), (31, .invokevirtual 421, 3), (34, .return_, 1), (26, .if_icmp .le 9, 3)])
set_option maxRecDepth 100000 in
theorem m_Mo_pushBytes : hx_mok M_Mo_pushBytes = true := by decide +kernel
theorem pd_Mo_pushBytes : (parseMethodDescriptor M_Mo_pushBytes.2.1.desc).map (fun q => q.parameters.length) = some 3 := by decide +kernel
theorem y_Mo_pushBytes : hx_okV M_Mo_pushBytes := ⟨⟨lw_g (lw_at lw_m10 85 rfl) rfl, lw_g (lw_at lw_m10 84 rfl) rfl, qs150, lw_g (lw_at lw_m1 12 rfl) rfl, rfl, by decide, by decide, by decide⟩, rfl, by decide, plainFor_of_name (by decide)⟩
noncomputable def f_Mo_pushBytes (x1 : Int32) (x2 : Int32) (x3 : Int32) (h : hH) : Option (Unit × hH) :=
  lz (A := Int32) (if x2 = 0 then (1 : Int32) else (2 : Int32)) fun p1 =>
  gd (vp_in (rdI h 192 92) 3) <|
  if (x3 + (p1 * x1)) ≤ (rdI h 221 (Int32.toNatClampNeg (rdI h 192 92))) then (
    bP (A := hH) (
      wh (A := (Int32 × hH)) (B := hH) (fun p4 =>
          if (¬ (x1 ≤ p4.1) ∧ (rdI p4.2 192 59) = 0) then (
            gd (vp_in (rdI p4.2 192 92) 3) <|
            lz (A := Int32) (((rdI p4.2 220 (Int32.toNatClampNeg (rdI p4.2 192 92))) + x3) + (p1 * p4.1)) fun v11 =>
            bP (A := Int64) (
              if x2 = 0 then (
                bP (f_Mo_u1 v11 p4.2) fun a14 =>
                some (Int32.toInt64 a14)
              ) else (
                bP (f_Mo_s2 v11 p4.2) fun a15 =>
                some (Int32.toInt64 a15)
              )
            ) fun p13 =>
            bS (f_Mo_push p13 p4.2) fun _ h1 =>
            lz (A := Int32) (p4.1 + (1 : Int32)) fun v17 =>
            some (.inl (v17, h1))
          ) else (
            some (.inr p4.2)
          )
      ) ((0 : Int32), h)
    ) fun p5 =>
    lz (wrI p5 192 93 (x3 + (p1 * x1))) fun h2 =>
    some ((), h2)
  ) else (
    bS (f_Mo_fail (4 : Int32) h) fun _ h3 =>
    some ((), h3)
  )
set_option maxRecDepth 20000 in
theorem k_Mo_pushBytes (x1 : Int32) (x2 : Int32) (x3 : Int32) (h : hH) : hx_kS S0 M_Mo_pushBytes 4 NT [(.ref 192), (.int x1), (.int x2), (.int x3)] h (f_Mo_pushBytes x1 x2 x3 h) cvU := by
  have hm := m_Mo_pushBytes
  show hx_P S0 M_Mo_pushBytes 4 0 [(0, (.ref 192)), (1, (.int x1)), (2, (.int x2)), (3, (.int x3))] [] NT h (f_Mo_pushBytes x1 x2 x3 h) (hx_Rc cvU NT)
  unfold f_Mo_pushBytes
  refine hp_JZ 9 (fun (p1 : Int32) => [(0, (.ref 192)), (1, (.int x1)), (2, (.int x2)), (3, (.int x3))]) (fun (p1 : Int32) => [(.int p1)]) (fun (p1 : Int32) => h) ?_ (fun p1 => ?_)
  · refine hp_sv0 ?_
    refine hp_if_eq hm (at1 0 rfl) rfl (by exact trivial) (pc' := 1) rfl 1 rfl (tgt := 8) rfl (fun c2 => ?_) (fun c2 => ?_)
    · refine hp_b hm (at1 1 rfl) (L' := [(0, (.ref 192)), (1, (.int x1)), (2, (.int x2)), (3, (.int x3))]) (st' := [(.int (1 : Int32))]) rfl (by exact trivial) (pc' := 9) rfl ?_
      exact hp_lf [0, 1, 2, 3] rfl (fun _ e => e)
    · refine hp_b hm (at1 2 rfl) (L' := [(0, (.ref 192)), (1, (.int x1)), (2, (.int x2)), (3, (.int x3))]) (st' := [(.int (2 : Int32))]) rfl (by exact trivial) (pc' := 5) rfl ?_
      refine hp_goto hm 0 rfl (tgt := 9) rfl ?_
      exact hp_lf [0, 1, 2, 3] rfl (fun _ e => e)
  · refine hp_G hm (at1 3 rfl) (L' := [(4, (.int p1)), (0, (.ref 192)), (1, (.int x1)), (2, (.int x2)), (3, (.int x3))]) (st' := [(.int (rdI h 221 (Int32.toNatClampNeg (rdI h 192 92)))), (.int (x3 + (p1 * x1)))]) rfl (fun hP => (by exact ⟨⟨og_192, og_192⟩, ⟨og_221, hP⟩⟩)) (pc' := 26) rfl (fun q3 => ?_)
    refine hp_ic_le hm at0 rfl (by exact trivial) (pc' := 26) rfl 13 rfl (tgt := 35) rfl (fun c18 => ?_) (fun c18 => ?_)
    · refine hp_b hm (at1 4 rfl) (L' := [(5, (.int (0 : Int32))), (4, (.int p1)), (0, (.ref 192)), (1, (.int x1)), (2, (.int x2)), (3, (.int x3))]) (st' := []) rfl (by exact trivial) (pc' := 38) rfl ?_
      refine hp_J 101 (fun (p5 : hH) => [(0, (.ref 192)), (1, (.int x1)), (3, (.int x3)), (4, (.int p1))]) (fun (p5 : hH) => []) (fun (p5 : hH) => p5) ?_ (fun p5 => ?_)
      · refine hp_s [2, 3, 4, 5, 1, 0] rfl (L' := [(0, (.ref 192)), (1, (.int x1)), (2, (.int x2)), (3, (.int x3)), (4, (.int p1)), (5, (.int (0 : Int32)))]) ?_
        refine hp_wh (fun (p4 : (Int32 × hH)) => [(0, (.ref 192)), (1, (.int x1)), (2, (.int x2)), (3, (.int x3)), (4, (.int p1)), (5, (.int p4.1))]) [] (fun (p4 : (Int32 × hH)) => p4.2) (fun p4 => ?_) ((0 : Int32), h)
        refine hp_cI (L0 := [(0, (.ref 192)), (1, (.int x1)), (2, (.int x2)), (3, (.int x3)), (4, (.int p1)), (5, (.int p4.1))]) (s0 := []) 51 101 ?_ (fun c10 => ?_) (fun c10 => ?_)
        · refine hp_nand ?_
          refine hp_ic_ge hm (at1 5 rfl) rfl (by exact trivial) (pc' := 41) rfl 3 rfl (tgt := 101) rfl (fun c7 => ?_) (fun c7 => ?_)
          · exact hp_l0 (fun _ e => e)
          · refine hp_dec ?_
            refine hp_if_ne hm (at1 6 rfl) rfl (by exact og_192) (pc' := 48) rfl 2 rfl (tgt := 101) rfl (fun c6 => ?_) (fun c6 => ?_)
            · exact hp_l0 (fun _ e => e)
            · exact hp_l0 (fun _ e => e)
        · refine hp_GZ hm (at1 7 rfl) (fun (v11 : Int32) => [(6, (.int v11)), (0, (.ref 192)), (1, (.int x1)), (2, (.int x2)), (3, (.int x3)), (4, (.int p1)), (5, (.int p4.1))]) (fun (v11 : Int32) => []) rfl (fun hP => (by exact ⟨⟨og_192, og_192⟩, ⟨og_220, hP⟩⟩)) (pc' := 70) rfl (fun q12 v11 => ?_)
          refine hp_J 92 (fun (p13 : Int64) => [(0, (.ref 192)), (1, (.int x1)), (2, (.int x2)), (3, (.int x3)), (4, (.int p1)), (5, (.int p4.1))]) (fun (p13 : Int64) => [(.long p13), (.ref 192)]) (fun (p13 : Int64) => p4.2) ?_ (fun p13 => ?_)
          · refine hp_if_eq hm (at1 8 rfl) rfl (by exact trivial) (pc' := 72) rfl 7 rfl (tgt := 85) rfl (fun c16 => ?_) (fun c16 => ?_)
            · refine hp_cVP (M2 := M_Mo_u1) hm (at1 9 rfl) (as := [(.int v11)]) (rest := [(.ref 192)]) (z := 192) rfl (by exact trivial) (pc' := 88) rfl 4 rfl (lw_g (lw_at lw_m9 208 rfl) rfl) y_Mo_u1 rfl (d2 := 1) ⟨le_b rfl, pd_Mo_u1, le_b rfl⟩ (le_b rfl) og_192 (k_Mo_u1 v11 p4.2) (fun a14 => ?_)
              refine hp_b hm (at1 10 rfl) (L' := [(6, (.int v11)), (0, (.ref 192)), (1, (.int x1)), (2, (.int x2)), (3, (.int x3)), (4, (.int p1)), (5, (.int p4.1))]) (st' := [(.long (Int32.toInt64 a14)), (.ref 192)]) rfl (by exact trivial) (pc' := 92) rfl ?_
              exact hp_lf [1, 2, 3, 4, 5, 6] rfl (fun _ e => e)
            · refine hp_cVP (M2 := M_Mo_s2) hm (at1 11 rfl) (as := [(.int v11)]) (rest := [(.ref 192)]) (z := 192) rfl (by exact trivial) (pc' := 78) rfl 5 rfl (lw_g (lw_at lw_m9 200 rfl) rfl) y_Mo_s2 rfl (d2 := 3) ⟨le_b rfl, pd_Mo_s2, le_b rfl⟩ (le_b rfl) og_192 (k_Mo_s2 v11 p4.2) (fun a15 => ?_)
              refine hp_b hm (at1 12 rfl) (L' := [(6, (.int v11)), (0, (.ref 192)), (1, (.int x1)), (2, (.int x2)), (3, (.int x3)), (4, (.int p1)), (5, (.int p4.1))]) (st' := [(.long (Int32.toInt64 a15)), (.ref 192)]) rfl (by exact trivial) (pc' := 82) rfl ?_
              refine hp_goto hm 6 rfl (tgt := 92) rfl ?_
              exact hp_lf [1, 2, 3, 4, 5, 6] rfl (fun _ e => e)
          · refine hp_cVS (M2 := M_Mo_push) hm at0 (as := [(.long p13)]) (rest := []) (z := 192) rfl (by exact trivial) (pc' := 92) rfl 8 rfl (lw_g (lw_at lw_m10 86 rfl) rfl) y_Mo_push rfl (d2 := 2) ⟨le_b rfl, pd_Mo_push, le_b rfl⟩ (le_b rfl) og_192 (k_Mo_push p13 p4.2) (fun _ h1 => ?_)
            refine hp_z hm (at1 13 rfl) (fun (v17 : Int32) => [(5, (.int v17)), (0, (.ref 192)), (1, (.int x1)), (2, (.int x2)), (3, (.int x3)), (4, (.int p1))]) (fun (v17 : Int32) => []) rfl (by exact trivial) (pc' := 98) rfl (fun v17 => ?_)
            refine hp_goto hm 9 rfl (tgt := 38) rfl ?_
            exact hp_lf [1, 2, 3, 4, 5, 0] rfl (fun _ e => e)
        · exact hp_lf [0, 1, 3, 4] rfl (fun _ e => e)
      · refine hp_w hm (at1 14 rfl) (L' := [(0, (.ref 192)), (1, (.int x1)), (3, (.int x3)), (4, (.int p1))]) rfl (by exact og_192) (pc' := 111) rfl (fun h2 => ?_)
        exact hp_vr hm 10 rfl rfl (fun _ e => e)
    · refine hp_cVS (M2 := M_Mo_fail) hm (at1 15 rfl) (as := [(.int (4 : Int32))]) (rest := []) (z := 192) rfl (by exact trivial) (pc' := 31) rfl 11 rfl (lw_g (lw_at lw_m10 4 rfl) rfl) y_Mo_fail rfl (d2 := 1) ⟨le_b rfl, pd_Mo_fail, le_b rfl⟩ (le_b rfl) og_192 (k_Mo_fail (4 : Int32) h) (fun _ h3 => ?_)
      exact hp_vr hm 12 rfl rfl (fun _ e => e)
/-! HintHouseModel.setVectors(IIZZ)V -/
def M_Mo_setVectors : hM := (11, ⟨"HintHouseModel", "setVectors", "(IIZZ)V"⟩, prog_13_method_67_code, 5, (Option.none : Option Jvm.ClassFile.FieldType), [], [(0, [(.iload_n 3, 1, 0, 0, 0, .null)]), (4, [(.aload_n 0, 1, 0, 0, 0, .null), (.iload_n 1, 1, 0, 0, 0, .null), (.putfield 433, 3, 11, 63, 0, .null)]), (9, [(.aload_n 0, 1, 0, 0, 0, .null), (.iload_n 2, 1, 0, 0, 0, .null), (.putfield 436, 3, 11, 64, 0, .null)]), (14, [(.iload 4, 2, 0, 0, 0, .null)]), (19, [(.aload_n 0, 1, 0, 0, 0, .null), (.iload_n 1, 1, 0, 0, 0, .null), (.putfield 439, 3, 11, 65, 0, .null)]), (24, [(.aload_n 0, 1, 0, 0, 0, .null), (.iload_n 2, 1, 0, 0, 0, .null), (.putfield 442, 3, 11, 66, 0, .null)]), (29, [(.aload_n 0, 1, 0, 0, 0, .null), (.iload_n 1, 1, 0, 0, 0, .null), (.putfield 445, 3, 11, 67, 0, .null)]), (34, [(.aload_n 0, 1, 0, 0, 0, .null), (.iload_n 2, 1, 0, 0, 0, .null), (.putfield 448, 3, 11, 68, 0, .null)])], [(1, .ifCond .eq 13, 3), (39, .return_, 1), (16, .ifCond .eq 23, 3)])
set_option maxRecDepth 100000 in
theorem m_Mo_setVectors : hx_mok M_Mo_setVectors = true := by decide +kernel
theorem pd_Mo_setVectors : (parseMethodDescriptor M_Mo_setVectors.2.1.desc).map (fun q => q.parameters.length) = some 4 := by decide +kernel
theorem y_Mo_setVectors : hx_okV M_Mo_setVectors := ⟨⟨lw_g (lw_at lw_m10 97 rfl) rfl, lw_g (lw_at lw_m10 96 rfl) rfl, qs153, lw_g (lw_at lw_m1 12 rfl) rfl, rfl, by decide, by decide, by decide⟩, rfl, by decide, plainFor_of_name (by decide)⟩
noncomputable def f_Mo_setVectors (x1 : Int32) (x2 : Int32) (x3 : Int32) (x4 : Int32) (h : hH) : Option (Unit × hH) :=
  bP (A := hH) (
    if x3 = 0 then (
      some h
    ) else (
      lz (wrI h 192 63 x1) fun h1 =>
      lz (wrI h1 192 64 x2) fun h2 =>
      some h2
    )
  ) fun p1 =>
  if x4 = 0 then (
    some ((), p1)
  ) else (
    lz (wrI p1 192 65 x1) fun h3 =>
    lz (wrI h3 192 66 x2) fun h4 =>
    lz (wrI h4 192 67 x1) fun h5 =>
    lz (wrI h5 192 68 x2) fun h6 =>
    some ((), h6)
  )
set_option maxRecDepth 20000 in
theorem k_Mo_setVectors (x1 : Int32) (x2 : Int32) (x3 : Int32) (x4 : Int32) (h : hH) : hx_kS S0 M_Mo_setVectors 1 NT [(.ref 192), (.int x1), (.int x2), (.int x3), (.int x4)] h (f_Mo_setVectors x1 x2 x3 x4 h) cvU := by
  have hm := m_Mo_setVectors
  show hx_P S0 M_Mo_setVectors 1 0 [(0, (.ref 192)), (1, (.int x1)), (2, (.int x2)), (3, (.int x3)), (4, (.int x4))] [] NT h (f_Mo_setVectors x1 x2 x3 x4 h) (hx_Rc cvU NT)
  unfold f_Mo_setVectors
  refine hp_J 14 (fun (p1 : hH) => [(0, (.ref 192)), (1, (.int x1)), (2, (.int x2)), (4, (.int x4))]) (fun (p1 : hH) => []) (fun (p1 : hH) => p1) ?_ (fun p1 => ?_)
  · refine hp_if_eq hm (at1 0 rfl) rfl (by exact trivial) (pc' := 1) rfl 0 rfl (tgt := 14) rfl (fun c2 => ?_) (fun c2 => ?_)
    · exact hp_lf [0, 1, 2, 4] rfl (fun _ e => e)
    · refine hp_w hm (at1 1 rfl) (L' := [(0, (.ref 192)), (1, (.int x1)), (2, (.int x2)), (3, (.int x3)), (4, (.int x4))]) rfl (by exact og_192) (pc' := 9) rfl (fun h1 => ?_)
      refine hp_w hm (at1 2 rfl) (L' := [(0, (.ref 192)), (1, (.int x1)), (2, (.int x2)), (3, (.int x3)), (4, (.int x4))]) rfl (by exact og_192) (pc' := 14) rfl (fun h2 => ?_)
      exact hp_lf [0, 1, 2, 4] rfl (fun _ e => e)
  · refine hp_if_eq hm (at1 3 rfl) rfl (by exact trivial) (pc' := 16) rfl 2 rfl (tgt := 39) rfl (fun c3 => ?_) (fun c3 => ?_)
    · exact hp_vr hm 1 rfl rfl (fun _ e => e)
    · refine hp_w hm (at1 4 rfl) (L' := [(0, (.ref 192)), (1, (.int x1)), (2, (.int x2)), (4, (.int x4))]) rfl (by exact og_192) (pc' := 24) rfl (fun h3 => ?_)
      refine hp_w hm (at1 5 rfl) (L' := [(0, (.ref 192)), (1, (.int x1)), (2, (.int x2)), (4, (.int x4))]) rfl (by exact og_192) (pc' := 29) rfl (fun h4 => ?_)
      refine hp_w hm (at1 6 rfl) (L' := [(0, (.ref 192)), (1, (.int x1)), (2, (.int x2)), (4, (.int x4))]) rfl (by exact og_192) (pc' := 34) rfl (fun h5 => ?_)
      refine hp_w hm (at1 7 rfl) (L' := [(0, (.ref 192)), (1, (.int x1)), (2, (.int x2)), (4, (.int x4))]) rfl (by exact og_192) (pc' := 39) rfl (fun h6 => ?_)
      exact hp_vr hm 1 rfl rfl (fun _ e => e)
/-! HintHouseModel.part(IJ)I -/
def M_Mo_part : hM := (11, ⟨"HintHouseModel", "part", "(IJ)I"⟩, prog_13_method_62_code, 10, (Option.some Jvm.ClassFile.FieldType.int), [], [(0, [(.ldc2_w 336, 3, 0, 0, 0, (.long (2 : Int64))), (.iload_n 0, 1, 0, 0, 0, .null), (.i2l, 1, 0, 0, 0, .null)]), (8, [(.lmul, 1, 0, 0, 0, .null), (.ldc2_w 310, 3, 0, 0, 0, (.long (16384 : Int64))), (.lmul, 1, 0, 0, 0, .null), (.lstore_n 3, 1, 0, 0, 0, .null)]), (14, [(.iconst 0, 1, 0, 0, 0, (.int (0 : Int32))), (.istore 5, 2, 0, 0, 0, .null), (.sipush 16385, 3, 0, 0, 0, (.int (16385 : Int32))), (.istore 6, 2, 0, 0, 0, .null)]), (22, [(.iload 5, 2, 0, 0, 0, .null), (.iconst 1, 1, 0, 0, 0, (.int (1 : Int32))), (.iadd, 1, 0, 0, 0, .null), (.iload 6, 2, 0, 0, 0, .null)]), (31, [(.iload 5, 2, 0, 0, 0, .null), (.iload 6, 2, 0, 0, 0, .null), (.iadd, 1, 0, 0, 0, .null), (.iconst 2, 1, 0, 0, 0, (.int (2 : Int32))), (.idiv, 1, 0, 0, 0, .null), (.istore 7, 2, 0, 0, 0, .null)]), (40, [(.ldc2_w 336, 3, 0, 0, 0, (.long (2 : Int64))), (.iload 7, 2, 0, 0, 0, .null), (.i2l, 1, 0, 0, 0, .null), (.lmul, 1, 0, 0, 0, .null), (.lconst 1, 1, 0, 0, 0, (.long (1 : Int64))), (.lsub, 1, 0, 0, 0, .null), (.lstore 8, 2, 0, 0, 0, .null)]), (51, [(.lload 8, 2, 0, 0, 0, .null), (.lload 8, 2, 0, 0, 0, .null), (.lmul, 1, 0, 0, 0, .null), (.lload_n 1, 1, 0, 0, 0, .null), (.lmul, 1, 0, 0, 0, .null), (.lload_n 3, 1, 0, 0, 0, .null), (.lload_n 3, 1, 0, 0, 0, .null), (.lmul, 1, 0, 0, 0, .null), (.lcmp, 1, 0, 0, 0, .null)]), (72, [(.iload 7, 2, 0, 0, 0, .null), (.istore 6, 2, 0, 0, 0, .null)]), (65, [(.iload 7, 2, 0, 0, 0, .null), (.istore 5, 2, 0, 0, 0, .null)]), (79, [(.iload_n 0, 1, 0, 0, 0, .null)]), (89, [(.iload 5, 2, 0, 0, 0, .null)]), (83, [(.iload 5, 2, 0, 0, 0, .null), (.ineg, 1, 0, 0, 0, .null)])], [(5, .invokestatic 198, 3), (69, .goto 7, 3), (62, .ifCond .gt 10, 3), (76, .goto (-54), 3), (28, .if_icmp .ge 51, 3), (91, .ireturn, 1), (86, .goto 5, 3), (80, .ifCond .ge 9, 3)])
set_option maxRecDepth 100000 in
theorem m_Mo_part : hx_mok M_Mo_part = true := by decide +kernel
theorem pd_Mo_part : (parseMethodDescriptor M_Mo_part.2.1.desc).map (fun q => q.parameters.length) = some 2 := by decide +kernel
theorem y_Mo_part : hx_okS M_Mo_part := ⟨⟨lw_g (lw_at lw_m10 105 rfl) rfl, lw_g (lw_at lw_m10 104 rfl) rfl, lw_g (lw_at lw_m1 12 rfl) rfl, by decide, by decide⟩, rfl, by decide, plainFor_of_name (by decide), rfl⟩
noncomputable def f_Mo_part (x1 : Int32) (x2 : Int64) : Option Int32 :=
  bP (f_Mo_sizeOf (Int32.toInt64 x1)) fun a1 =>
  lz (A := Int64) (((2 : Int64) * a1) * (16384 : Int64)) fun v2 =>
  bP (A := Int32) (
    wh (A := (Int32 × Int32)) (B := Int32) (fun p3 =>
        if p3.2 ≤ (p3.1 + (1 : Int32)) then (
          some (.inr p3.1)
        ) else (
          lz (A := Int32) ((p3.1 + p3.2) / (2 : Int32)) fun v5 =>
          lz (A := Int64) (((2 : Int64) * (Int32.toInt64 v5)) - (1 : Int64)) fun v6 =>
          bP (A := (Int32 × Int32)) (
            if (v2 * v2) < ((v6 * v6) * x2) then (
              some (p3.1, v5)
            ) else (
              some (v5, p3.2)
            )
          ) fun p7 =>
          some (.inl (p7.1, p7.2))
        )
    ) ((0 : Int32), (16385 : Int32))
  ) fun p4 =>
  if 0 ≤ x1 then (
    some p4
  ) else (
    some (-p4)
  )
set_option maxRecDepth 20000 in
theorem k_Mo_part (x1 : Int32) (x2 : Int64) (h : hH) : hx_kP S0 M_Mo_part 2 NT [(.int x1), (.long x2)] h (f_Mo_part x1 x2) cvI := by
  have hm := m_Mo_part
  show hx_P S0 M_Mo_part 2 0 [(0, (.int x1)), (1, (.long x2))] [] NT h (f_Mo_part x1 x2) (hx_Rp cvI NT h)
  unfold f_Mo_part
  refine hp_cSP (M2 := M_Mo_sizeOf) hm (at1 0 rfl) (as := [(.long (Int32.toInt64 x1))]) (rest := [(.long (2 : Int64))]) rfl (by exact trivial) (pc' := 5) rfl 0 rfl (lw_g (lw_at lw_m9 223 rfl) rfl) y_Mo_sizeOf rfl (d2 := 1) ⟨le_b rfl, pd_Mo_sizeOf, le_b rfl⟩ (le_b rfl) (k_Mo_sizeOf (Int32.toInt64 x1) h) (fun a1 => ?_)
  refine hp_z hm (at1 1 rfl) (fun (v2 : Int64) => [(3, (.long v2)), (0, (.int x1)), (1, (.long x2))]) (fun (v2 : Int64) => []) rfl (by exact trivial) (pc' := 14) rfl (fun v2 => ?_)
  refine hp_b hm (at1 2 rfl) (L' := [(6, (.int (16385 : Int32))), (5, (.int (0 : Int32))), (3, (.long v2)), (0, (.int x1)), (1, (.long x2))]) (st' := []) rfl (by exact trivial) (pc' := 22) rfl ?_
  refine hp_J 79 (fun (p4 : Int32) => [(0, (.int x1)), (5, (.int p4))]) (fun (p4 : Int32) => []) (fun (p4 : Int32) => h) ?_ (fun p4 => ?_)
  · refine hp_s [3, 4, 2, 1, 0] rfl (L' := [(0, (.int x1)), (1, (.long x2)), (3, (.long v2)), (5, (.int (0 : Int32))), (6, (.int (16385 : Int32)))]) ?_
    refine hp_wh (fun (p3 : (Int32 × Int32)) => [(0, (.int x1)), (1, (.long x2)), (3, (.long v2)), (5, (.int p3.1)), (6, (.int p3.2))]) [] (fun (p3 : (Int32 × Int32)) => h) (fun p3 => ?_) ((0 : Int32), (16385 : Int32))
    refine hp_ic_ge hm (at1 3 rfl) rfl (by exact trivial) (pc' := 28) rfl 4 rfl (tgt := 79) rfl (fun c9 => ?_) (fun c9 => ?_)
    · exact hp_lf [0, 3] rfl (fun _ e => e)
    · refine hp_z hm (at1 4 rfl) (fun (v5 : Int32) => [(7, (.int v5)), (0, (.int x1)), (1, (.long x2)), (3, (.long v2)), (5, (.int p3.1)), (6, (.int p3.2))]) (fun (v5 : Int32) => []) rfl (by exact (show ¬ (2 : Int32) = 0 by decide)) (pc' := 40) rfl (fun v5 => ?_)
      refine hp_z hm (at1 5 rfl) (fun (v6 : Int64) => [(8, (.long v6)), (7, (.int v5)), (0, (.int x1)), (1, (.long x2)), (3, (.long v2)), (5, (.int p3.1)), (6, (.int p3.2))]) (fun (v6 : Int64) => []) rfl (by exact trivial) (pc' := 51) rfl (fun v6 => ?_)
      refine hp_J 76 (fun (p7 : (Int32 × Int32)) => [(0, (.int x1)), (1, (.long x2)), (3, (.long v2)), (5, (.int p7.1)), (6, (.int p7.2))]) (fun (p7 : (Int32 × Int32)) => []) (fun (p7 : (Int32 × Int32)) => h) ?_ (fun p7 => ?_)
      · refine hp_lc_gt hm (at1 6 rfl) rfl (by exact trivial) (pc' := 62) rfl 2 rfl (tgt := 72) rfl (fun c8 => ?_) (fun c8 => ?_)
        · refine hp_b hm (at1 7 rfl) (L' := [(6, (.int v5)), (8, (.long v6)), (7, (.int v5)), (0, (.int x1)), (1, (.long x2)), (3, (.long v2)), (5, (.int p3.1))]) (st' := []) rfl (by exact trivial) (pc' := 76) rfl ?_
          exact hp_lf [3, 4, 5, 6, 0] rfl (fun _ e => e)
        · refine hp_b hm (at1 8 rfl) (L' := [(5, (.int v5)), (8, (.long v6)), (7, (.int v5)), (0, (.int x1)), (1, (.long x2)), (3, (.long v2)), (6, (.int p3.2))]) (st' := []) rfl (by exact trivial) (pc' := 69) rfl ?_
          refine hp_goto hm 1 rfl (tgt := 76) rfl ?_
          exact hp_lf [3, 4, 5, 0, 6] rfl (fun _ e => e)
      · refine hp_goto hm 3 rfl (tgt := 22) rfl ?_
        exact hp_lf [0, 1, 2, 3, 4] rfl (fun _ e => e)
  · refine hp_if_ge hm (at1 9 rfl) rfl (by exact trivial) (pc' := 80) rfl 7 rfl (tgt := 89) rfl (fun c10 => ?_) (fun c10 => ?_)
    · refine hp_b hm (at1 10 rfl) (L' := [(0, (.int x1)), (5, (.int p4))]) (st' := [(.int p4)]) rfl (by exact trivial) (pc' := 91) rfl ?_
      exact hp_ir hm at0 rfl (by exact trivial) (pc' := 91) rfl 5 rfl rfl (vp_nar_int _) (fun _ e => e)
    · refine hp_b hm (at1 11 rfl) (L' := [(0, (.int x1)), (5, (.int p4))]) (st' := [(.int (-p4))]) rfl (by exact trivial) (pc' := 86) rfl ?_
      refine hp_goto hm 6 rfl (tgt := 91) rfl ?_
      exact hp_ir hm at0 rfl (by exact trivial) (pc' := 91) rfl 5 rfl rfl (vp_nar_int _) (fun _ e => e)
/-! HintHouseModel.direction(II)V -/
def M_Mo_direction : hM := (11, ⟨"HintHouseModel", "direction", "(II)V"⟩, prog_13_method_61_code, 7, (Option.none : Option Jvm.ClassFile.FieldType), [], [(0, [(.iload_n 1, 1, 0, 0, 0, .null), (.istore_n 3, 1, 0, 0, 0, .null), (.iload_n 2, 1, 0, 0, 0, .null), (.istore 4, 2, 0, 0, 0, .null), (.iload_n 3, 1, 0, 0, 0, .null)]), (9, [(.iload 4, 2, 0, 0, 0, .null)]), (14, [(.aload_n 0, 1, 0, 0, 0, .null), (.sipush 16384, 3, 0, 0, 0, (.int (16384 : Int32))), (.putfield 533, 3, 11, 105, 0, .null)]), (21, [(.aload_n 0, 1, 0, 0, 0, .null), (.iconst 0, 1, 0, 0, 0, (.int (0 : Int32))), (.putfield 536, 3, 11, 106, 0, .null)]), (27, [(.iload_n 3, 1, 0, 0, 0, .null), (.i2l, 1, 0, 0, 0, .null)]), (32, [(.ldc2_w 539, 3, 0, 0, 0, (.long (30000 : Int64))), (.lcmp, 1, 0, 0, 0, .null)]), (39, [(.iload 4, 2, 0, 0, 0, .null), (.i2l, 1, 0, 0, 0, .null)]), (45, [(.ldc2_w 539, 3, 0, 0, 0, (.long (30000 : Int64))), (.lcmp, 1, 0, 0, 0, .null)]), (52, [(.iload_n 3, 1, 0, 0, 0, .null), (.iconst 2, 1, 0, 0, 0, (.int (2 : Int32))), (.idiv, 1, 0, 0, 0, .null), (.istore_n 3, 1, 0, 0, 0, .null)]), (56, [(.iload 4, 2, 0, 0, 0, .null), (.iconst 2, 1, 0, 0, 0, (.int (2 : Int32))), (.idiv, 1, 0, 0, 0, .null), (.istore 4, 2, 0, 0, 0, .null)]), (65, [(.iload_n 3, 1, 0, 0, 0, .null), (.i2l, 1, 0, 0, 0, .null), (.iload_n 3, 1, 0, 0, 0, .null), (.i2l, 1, 0, 0, 0, .null), (.lmul, 1, 0, 0, 0, .null), (.iload 4, 2, 0, 0, 0, .null), (.i2l, 1, 0, 0, 0, .null), (.iload 4, 2, 0, 0, 0, .null), (.i2l, 1, 0, 0, 0, .null), (.lmul, 1, 0, 0, 0, .null), (.ladd, 1, 0, 0, 0, .null), (.lstore 5, 2, 0, 0, 0, .null)]), (80, [(.aload_n 0, 1, 0, 0, 0, .null), (.iload_n 3, 1, 0, 0, 0, .null), (.lload 5, 2, 0, 0, 0, .null)]), (87, [(.putfield 533, 3, 11, 105, 0, .null)]), (90, [(.aload_n 0, 1, 0, 0, 0, .null), (.iload 4, 2, 0, 0, 0, .null), (.lload 5, 2, 0, 0, 0, .null)]), (98, [(.putfield 536, 3, 11, 106, 0, .null)])], [(11, .ifCond .ne 16, 3), (6, .ifCond .ne 21, 3), (26, .return_, 1), (29, .invokestatic 198, 3), (42, .invokestatic 198, 3), (49, .ifCond .le 16, 3), (36, .ifCond .gt 16, 3), (62, .goto (-35), 3), (84, .invokestatic 541, 3), (95, .invokestatic 541, 3), (101, .return_, 1)])
set_option maxRecDepth 100000 in
theorem m_Mo_direction : hx_mok M_Mo_direction = true := by decide +kernel
theorem pd_Mo_direction : (parseMethodDescriptor M_Mo_direction.2.1.desc).map (fun q => q.parameters.length) = some 2 := by decide +kernel
theorem y_Mo_direction : hx_okV M_Mo_direction := ⟨⟨lw_g (lw_at lw_m10 101 rfl) rfl, lw_g (lw_at lw_m10 100 rfl) rfl, qs154, lw_g (lw_at lw_m1 12 rfl) rfl, rfl, by decide, by decide, by decide⟩, rfl, by decide, plainFor_of_name (by decide)⟩
noncomputable def f_Mo_direction (x1 : Int32) (x2 : Int32) (h : hH) : Option (Unit × hH) :=
  bE (P := Unit) (X := (Unit × hH)) (
    if (x1 = 0 ∧ x2 = 0) then (
      lz (wrI h 192 105 (16384 : Int32)) fun h1 =>
      lz (wrI h1 192 106 (0 : Int32)) fun h2 =>
      some (.inr ((), h2))
    ) else (
      some (.inl ())
    )
  ) fun p1 =>
  bP (A := (Int32 × Int32)) (
    wh (A := (Int32 × Int32)) (B := (Int32 × Int32)) (fun p7 =>
        bP (f_Mo_sizeOf (Int32.toInt64 p7.1)) fun a9 =>
        cO (
          if (30000 : Int64) < a9 then (
            some true
          ) else (
            bP (f_Mo_sizeOf (Int32.toInt64 p7.2)) fun a10 =>
            if a10 ≤ (30000 : Int64) then (
              some false
            ) else (
              some true
            )
          )
        ) (
          lz (A := Int32) (p7.1 / (2 : Int32)) fun v16 =>
          lz (A := Int32) (p7.2 / (2 : Int32)) fun v17 =>
          some (.inl (v16, v17))
        ) (
          some (.inr (p7.1, p7.2))
        )
    ) (x1, x2)
  ) fun p8 =>
  lz (A := Int64) (((Int32.toInt64 p8.1) * (Int32.toInt64 p8.1)) + ((Int32.toInt64 p8.2) * (Int32.toInt64 p8.2))) fun v18 =>
  bP (f_Mo_part p8.1 v18) fun a19 =>
  lz (wrI h 192 105 a19) fun h3 =>
  bP (f_Mo_part p8.2 v18) fun a20 =>
  lz (wrI h3 192 106 a20) fun h4 =>
  some ((), h4)
set_option maxRecDepth 20000 in
theorem k_Mo_direction (x1 : Int32) (x2 : Int32) (h : hH) : hx_kS S0 M_Mo_direction 3 NT [(.ref 192), (.int x1), (.int x2)] h (f_Mo_direction x1 x2 h) cvU := by
  have hm := m_Mo_direction
  show hx_P S0 M_Mo_direction 3 0 [(0, (.ref 192)), (1, (.int x1)), (2, (.int x2))] [] NT h (f_Mo_direction x1 x2 h) (hx_Rc cvU NT)
  unfold f_Mo_direction
  refine hp_b hm (at1 0 rfl) (L' := [(4, (.int x2)), (3, (.int x1)), (0, (.ref 192)), (1, (.int x1)), (2, (.int x2))]) (st' := [(.int x1)]) rfl (by exact trivial) (pc' := 6) rfl ?_
  refine hp_E 27 (fun (p1 : Unit) => [(0, (.ref 192)), (3, (.int x1)), (4, (.int x2))]) (fun (p1 : Unit) => []) (fun (p1 : Unit) => h) ?_ (fun p1 => ?_)
  · refine hp_cI (L0 := [(4, (.int x2)), (3, (.int x1)), (0, (.ref 192)), (1, (.int x1)), (2, (.int x2))]) (s0 := []) 14 27 ?_ (fun c6 => ?_) (fun c6 => ?_)
    · refine hp_and ?_
      refine hp_if_ne hm at0 rfl (by exact trivial) (pc' := 6) rfl 1 rfl (tgt := 27) rfl (fun c3 => ?_) (fun c3 => ?_)
      · exact hp_l0 (fun _ e => e)
      · refine hp_dec ?_
        refine hp_if_ne hm (at1 1 rfl) rfl (by exact trivial) (pc' := 11) rfl 0 rfl (tgt := 27) rfl (fun c2 => ?_) (fun c2 => ?_)
        · exact hp_l0 (fun _ e => e)
        · exact hp_l0 (fun _ e => e)
    · refine hp_w hm (at1 2 rfl) (L' := [(4, (.int x2)), (3, (.int x1)), (0, (.ref 192)), (1, (.int x1)), (2, (.int x2))]) rfl (by exact og_192) (pc' := 21) rfl (fun h1 => ?_)
      refine hp_w hm (at1 3 rfl) (L' := [(4, (.int x2)), (3, (.int x1)), (0, (.ref 192)), (1, (.int x1)), (2, (.int x2))]) rfl (by exact og_192) (pc' := 26) rfl (fun h2 => ?_)
      exact hp_vr hm 2 rfl rfl (fun _ e => e)
    · exact hp_lf [2, 1, 0] rfl (fun _ e => e)
  · refine hp_J 65 (fun (p8 : (Int32 × Int32)) => [(0, (.ref 192)), (3, (.int p8.1)), (4, (.int p8.2))]) (fun (p8 : (Int32 × Int32)) => []) (fun (p8 : (Int32 × Int32)) => h) ?_ (fun p8 => ?_)
    · refine hp_s [0, 1, 2] rfl (L' := [(0, (.ref 192)), (3, (.int x1)), (4, (.int x2))]) ?_
      refine hp_wh (fun (p7 : (Int32 × Int32)) => [(0, (.ref 192)), (3, (.int p7.1)), (4, (.int p7.2))]) [] (fun (p7 : (Int32 × Int32)) => h) (fun p7 => ?_) (x1, x2)
      refine hp_cSP (M2 := M_Mo_sizeOf) hm (at1 4 rfl) (as := [(.long (Int32.toInt64 p7.1))]) (rest := []) rfl (by exact trivial) (pc' := 29) rfl 3 rfl (lw_g (lw_at lw_m9 223 rfl) rfl) y_Mo_sizeOf rfl (d2 := 1) ⟨le_b rfl, pd_Mo_sizeOf, le_b rfl⟩ (le_b rfl) (k_Mo_sizeOf (Int32.toInt64 p7.1) h) (fun a9 => ?_)
      refine hp_cO (L0 := [(0, (.ref 192)), (3, (.int p7.1)), (4, (.int p7.2))]) (s0 := []) 52 65 ?_ ?_ ?_
      · refine hp_lc_gt hm (at1 5 rfl) rfl (by exact trivial) (pc' := 36) rfl 6 rfl (tgt := 52) rfl (fun c12 => ?_) (fun c12 => ?_)
        · exact hp_l0 (fun _ e => e)
        · refine hp_cSP (M2 := M_Mo_sizeOf) hm (at1 6 rfl) (as := [(.long (Int32.toInt64 p7.2))]) (rest := []) rfl (by exact trivial) (pc' := 42) rfl 4 rfl (lw_g (lw_at lw_m9 223 rfl) rfl) y_Mo_sizeOf rfl (d2 := 1) ⟨le_b rfl, pd_Mo_sizeOf, le_b rfl⟩ (le_b rfl) (k_Mo_sizeOf (Int32.toInt64 p7.2) h) (fun a10 => ?_)
          refine hp_lc_le hm (at1 7 rfl) rfl (by exact trivial) (pc' := 49) rfl 5 rfl (tgt := 65) rfl (fun c11 => ?_) (fun c11 => ?_)
          · exact hp_l0 (fun _ e => e)
          · exact hp_l0 (fun _ e => e)
      · refine hp_z hm (at1 8 rfl) (fun (v16 : Int32) => [(3, (.int v16)), (0, (.ref 192)), (4, (.int p7.2))]) (fun (v16 : Int32) => []) rfl (by exact (show ¬ (2 : Int32) = 0 by decide)) (pc' := 56) rfl (fun v16 => ?_)
        refine hp_z hm (at1 9 rfl) (fun (v17 : Int32) => [(4, (.int v17)), (3, (.int v16)), (0, (.ref 192))]) (fun (v17 : Int32) => []) rfl (by exact (show ¬ (2 : Int32) = 0 by decide)) (pc' := 62) rfl (fun v17 => ?_)
        refine hp_goto hm 7 rfl (tgt := 27) rfl ?_
        exact hp_lf [2, 1, 0] rfl (fun _ e => e)
      · exact hp_lf [0, 1, 2] rfl (fun _ e => e)
    · refine hp_z hm (at1 10 rfl) (fun (v18 : Int64) => [(5, (.long v18)), (0, (.ref 192)), (3, (.int p8.1)), (4, (.int p8.2))]) (fun (v18 : Int64) => []) rfl (by exact trivial) (pc' := 80) rfl (fun v18 => ?_)
      refine hp_cSP (M2 := M_Mo_part) hm (at1 11 rfl) (as := [(.int p8.1), (.long v18)]) (rest := [(.ref 192)]) rfl (by exact trivial) (pc' := 84) rfl 8 rfl (lw_g (lw_at lw_m10 103 rfl) rfl) y_Mo_part rfl (d2 := 2) ⟨le_b rfl, pd_Mo_part, le_b rfl⟩ (le_b rfl) (k_Mo_part p8.1 v18 h) (fun a19 => ?_)
      refine hp_w hm (at1 12 rfl) (L' := [(5, (.long v18)), (0, (.ref 192)), (3, (.int p8.1)), (4, (.int p8.2))]) rfl (by exact og_192) (pc' := 90) rfl (fun h3 => ?_)
      refine hp_cSP (M2 := M_Mo_part) hm (at1 13 rfl) (as := [(.int p8.2), (.long v18)]) (rest := [(.ref 192)]) rfl (by exact trivial) (pc' := 95) rfl 9 rfl (lw_g (lw_at lw_m10 103 rfl) rfl) y_Mo_part rfl (d2 := 2) ⟨le_b rfl, pd_Mo_part, le_b rfl⟩ (le_b rfl) (k_Mo_part p8.2 v18 h3) (fun a20 => ?_)
      refine hp_w hm (at1 14 rfl) (L' := [(5, (.long v18)), (0, (.ref 192)), (3, (.int p8.1)), (4, (.int p8.2))]) rfl (by exact og_192) (pc' := 101) rfl (fun h4 => ?_)
      exact hp_vr hm 10 rfl rfl (fun _ e => e)
/-! HintHouseModel.isZone(I)Z -/
def M_Mo_isZone : hM := (11, ⟨"HintHouseModel", "isZone", "(I)Z"⟩, prog_13_method_71_code, 2, (Option.some Jvm.ClassFile.FieldType.boolean), [], [(0, [(.iload_n 1, 1, 0, 0, 0, .null), (.iconst 1, 1, 0, 0, 0, (.int (1 : Int32)))]), (17, [(.iconst 1, 1, 0, 0, 0, (.int (1 : Int32)))]), (5, [(.iload_n 1, 1, 0, 0, 0, .null)]), (21, [(.iconst 0, 1, 0, 0, 0, (.int (0 : Int32)))]), (9, [(.aload_n 0, 1, 0, 0, 0, .null), (.getfield 313, 3, 11, 13, 0, .null), (.iconst 2, 1, 0, 0, 0, (.int (2 : Int32)))])], [(22, .ireturn, 1), (18, .goto 4, 3), (14, .if_icmp .ne 7, 3), (6, .ifCond .ne 15, 3), (2, .if_icmp .eq 15, 3)])
set_option maxRecDepth 100000 in
theorem m_Mo_isZone : hx_mok M_Mo_isZone = true := by decide +kernel
theorem pd_Mo_isZone : (parseMethodDescriptor M_Mo_isZone.2.1.desc).map (fun q => q.parameters.length) = some 1 := by decide +kernel
theorem y_Mo_isZone : hx_okV M_Mo_isZone := ⟨⟨lw_g (lw_at lw_m10 114 rfl) rfl, lw_g (lw_at lw_m10 113 rfl) rfl, qs156, lw_g (lw_at lw_m1 12 rfl) rfl, rfl, by decide, by decide, by decide⟩, rfl, by decide, plainFor_of_name (by decide)⟩
noncomputable def f_Mo_isZone (x1 : Int32) (h : hH) : Option Int32 :=
  if x1 = (1 : Int32) then (
    some (1 : Int32)
  ) else (
    if x1 = 0 then (
      if (rdI h 192 13) = (2 : Int32) then (
        some (1 : Int32)
      ) else (
        some (0 : Int32)
      )
    ) else (
      some (0 : Int32)
    )
  )
set_option maxRecDepth 20000 in
theorem k_Mo_isZone (x1 : Int32) (h : hH) : hx_kP S0 M_Mo_isZone 1 NT [(.ref 192), (.int x1)] h (f_Mo_isZone x1 h) cvI := by
  have hm := m_Mo_isZone
  show hx_P S0 M_Mo_isZone 1 0 [(0, (.ref 192)), (1, (.int x1))] [] NT h (f_Mo_isZone x1 h) (hx_Rp cvI NT h)
  unfold f_Mo_isZone
  refine hp_ic_eq hm (at1 0 rfl) rfl (by exact trivial) (pc' := 2) rfl 4 rfl (tgt := 17) rfl (fun c3 => ?_) (fun c3 => ?_)
  · refine hp_b hm (at1 1 rfl) (L' := [(0, (.ref 192)), (1, (.int x1))]) (st' := [(.int (1 : Int32))]) rfl (by exact trivial) (pc' := 18) rfl ?_
    refine hp_goto hm 1 rfl (tgt := 22) rfl ?_
    exact hp_ir hm at0 rfl (by exact trivial) (pc' := 22) rfl 0 rfl rfl rfl (fun _ e => e)
  · refine hp_if_ne hm (at1 2 rfl) rfl (by exact trivial) (pc' := 6) rfl 3 rfl (tgt := 21) rfl (fun c2 => ?_) (fun c2 => ?_)
    · refine hp_b hm (at1 3 rfl) (L' := [(0, (.ref 192)), (1, (.int x1))]) (st' := [(.int (0 : Int32))]) rfl (by exact trivial) (pc' := 22) rfl ?_
      exact hp_ir hm at0 rfl (by exact trivial) (pc' := 22) rfl 0 rfl rfl rfl (fun _ e => e)
    · refine hp_ic_ne hm (at1 4 rfl) rfl (by exact og_192) (pc' := 14) rfl 2 rfl (tgt := 21) rfl (fun c1 => ?_) (fun c1 => ?_)
      · refine hp_b hm (at1 3 rfl) (L' := [(0, (.ref 192)), (1, (.int x1))]) (st' := [(.int (0 : Int32))]) rfl (by exact trivial) (pc' := 22) rfl ?_
        exact hp_ir hm at0 rfl (by exact trivial) (pc' := 22) rfl 0 rfl rfl rfl (fun _ e => e)
      · refine hp_b hm (at1 1 rfl) (L' := [(0, (.ref 192)), (1, (.int x1))]) (st' := [(.int (1 : Int32))]) rfl (by exact trivial) (pc' := 18) rfl ?_
        refine hp_goto hm 1 rfl (tgt := 22) rfl ?_
        exact hp_ir hm at0 rfl (by exact trivial) (pc' := 22) rfl 0 rfl rfl rfl (fun _ e => e)
/-! HintHouseModel.setZone(I)V -/
def M_Mo_setZone : hM := (11, ⟨"HintHouseModel", "setZone", "(I)V"⟩, prog_13_method_72_code, 3, (Option.none : Option Jvm.ClassFile.FieldType), [], [(0, [(.aload_n 0, 1, 0, 0, 0, .null), (.iconst 1, 1, 0, 0, 0, (.int (1 : Int32)))]), (9, [(.aload_n 0, 1, 0, 0, 0, .null)]), (13, [(.istore_n 2, 1, 0, 0, 0, .null), (.aload_n 0, 1, 0, 0, 0, .null), (.iload_n 2, 1, 0, 0, 0, .null)]), (28, [(.aload_n 0, 1, 0, 0, 0, .null), (.iload_n 1, 1, 0, 0, 0, .null), (.bipush 19, 2, 0, 0, 0, (.int (19 : Int32)))]), (41, [(.iload_n 2, 1, 0, 0, 0, .null)]), (35, [(.iload_n 1, 1, 0, 0, 0, .null), (.bipush 22, 2, 0, 0, 0, (.int (22 : Int32)))]), (45, [(.aload_n 0, 1, 0, 0, 0, .null), (.getfield 460, 3, 11, 72, 0, .null)]), (49, [(.putfield 460, 3, 11, 72, 0, .null)]), (52, [(.aload_n 0, 1, 0, 0, 0, .null), (.iload_n 1, 1, 0, 0, 0, .null), (.bipush 20, 2, 0, 0, 0, (.int (20 : Int32)))]), (65, [(.iload_n 2, 1, 0, 0, 0, .null)]), (59, [(.iload_n 1, 1, 0, 0, 0, .null), (.bipush 22, 2, 0, 0, 0, (.int (22 : Int32)))]), (69, [(.aload_n 0, 1, 0, 0, 0, .null), (.getfield 463, 3, 11, 73, 0, .null)]), (73, [(.putfield 463, 3, 11, 73, 0, .null)]), (76, [(.aload_n 0, 1, 0, 0, 0, .null), (.iload_n 1, 1, 0, 0, 0, .null), (.bipush 21, 2, 0, 0, 0, (.int (21 : Int32)))]), (89, [(.iload_n 2, 1, 0, 0, 0, .null)]), (83, [(.iload_n 1, 1, 0, 0, 0, .null), (.bipush 22, 2, 0, 0, 0, (.int (22 : Int32)))]), (93, [(.aload_n 0, 1, 0, 0, 0, .null), (.getfield 466, 3, 11, 74, 0, .null)]), (97, [(.putfield 466, 3, 11, 74, 0, .null)]), (22, [(.aload_n 0, 1, 0, 0, 0, .null), (.iconst 5, 1, 0, 0, 0, (.int (5 : Int32)))])], [(2, .invokevirtual 576, 3), (10, .invokevirtual 579, 3), (16, .invokevirtual 624, 3), (42, .goto 7, 3), (38, .if_icmp .ne 7, 3), (32, .if_icmp .eq 9, 3), (66, .goto 7, 3), (62, .if_icmp .ne 7, 3), (56, .if_icmp .eq 9, 3), (90, .goto 7, 3), (86, .if_icmp .ne 7, 3), (80, .if_icmp .eq 9, 3), (100, .return_, 1), (24, .invokevirtual 421, 3), (27, .return_, 1), (19, .ifCond .ne 9, 3), (8, .return_, 1), (5, .ifCond .ne 4, 3)])
set_option maxRecDepth 100000 in
theorem m_Mo_setZone : hx_mok M_Mo_setZone = true := by decide +kernel
theorem pd_Mo_setZone : (parseMethodDescriptor M_Mo_setZone.2.1.desc).map (fun q => q.parameters.length) = some 1 := by decide +kernel
theorem y_Mo_setZone : hx_okV M_Mo_setZone := ⟨⟨lw_g (lw_at lw_m10 110 rfl) rfl, lw_g (lw_at lw_m10 109 rfl) rfl, qs155, lw_g (lw_at lw_m1 12 rfl) rfl, rfl, by decide, by decide, by decide⟩, rfl, by decide, plainFor_of_name (by decide)⟩
noncomputable def f_Mo_setZone (x1 : Int32) (h : hH) : Option (Unit × hH) :=
  bS (f_Mo_has (1 : Int32) h) fun a1 h1 =>
  if a1 = 0 then (
    some ((), h1)
  ) else (
    bS (f_Mo_pop h1) fun a2 h2 =>
    bP (f_Mo_isZone a2 h2) fun a3 =>
    if a3 = 0 then (
      bS (f_Mo_fail (5 : Int32) h2) fun _ h6 =>
      some ((), h6)
    ) else (
      lz (A := Int32) (if x1 = (19 : Int32) then a2 else (if x1 = (22 : Int32) then a2 else (rdI h2 192 72))) fun p4 =>
      lz (wrI h2 192 72 p4) fun h3 =>
      lz (A := Int32) (if x1 = (20 : Int32) then a2 else (if x1 = (22 : Int32) then a2 else (rdI h3 192 73))) fun p7 =>
      lz (wrI h3 192 73 p7) fun h4 =>
      lz (A := Int32) (if x1 = (21 : Int32) then a2 else (if x1 = (22 : Int32) then a2 else (rdI h4 192 74))) fun p10 =>
      lz (wrI h4 192 74 p10) fun h5 =>
      some ((), h5)
    )
  )
set_option maxRecDepth 20000 in
theorem k_Mo_setZone (x1 : Int32) (h : hH) : hx_kS S0 M_Mo_setZone 3 NT [(.ref 192), (.int x1)] h (f_Mo_setZone x1 h) cvU := by
  have hm := m_Mo_setZone
  show hx_P S0 M_Mo_setZone 3 0 [(0, (.ref 192)), (1, (.int x1))] [] NT h (f_Mo_setZone x1 h) (hx_Rc cvU NT)
  unfold f_Mo_setZone
  refine hp_cVS (M2 := M_Mo_has) hm (at1 0 rfl) (as := [(.int (1 : Int32))]) (rest := []) (z := 192) rfl (by exact trivial) (pc' := 2) rfl 0 rfl (lw_g (lw_at lw_m10 20 rfl) rfl) y_Mo_has rfl (d2 := 2) ⟨le_b rfl, pd_Mo_has, le_b rfl⟩ (le_b rfl) og_192 (k_Mo_has (1 : Int32) h) (fun a1 h1 => ?_)
  refine hp_if_ne hm at0 rfl (by exact trivial) (pc' := 5) rfl 17 rfl (tgt := 9) rfl (fun c14 => ?_) (fun c14 => ?_)
  · refine hp_cVS (M2 := M_Mo_pop) hm (at1 1 rfl) (as := []) (rest := []) (z := 192) rfl (by exact trivial) (pc' := 10) rfl 1 rfl (lw_g (lw_at lw_m10 24 rfl) rfl) y_Mo_pop rfl (d2 := 1) ⟨le_b rfl, pd_Mo_pop, le_b rfl⟩ (le_b rfl) og_192 (k_Mo_pop h1) (fun a2 h2 => ?_)
    refine hp_b hm (at1 2 rfl) (L' := [(2, (.int a2)), (0, (.ref 192)), (1, (.int x1))]) (st' := [(.int a2), (.ref 192)]) rfl (by exact trivial) (pc' := 16) rfl ?_
    refine hp_cVP (M2 := M_Mo_isZone) hm at0 (as := [(.int a2)]) (rest := []) (z := 192) rfl (by exact trivial) (pc' := 16) rfl 2 rfl (lw_g (lw_at lw_m10 111 rfl) rfl) y_Mo_isZone rfl (d2 := 1) ⟨le_b rfl, pd_Mo_isZone, le_b rfl⟩ (le_b rfl) og_192 (k_Mo_isZone a2 h2) (fun a3 => ?_)
    refine hp_if_ne hm at0 rfl (by exact trivial) (pc' := 19) rfl 15 rfl (tgt := 28) rfl (fun c13 => ?_) (fun c13 => ?_)
    · refine hp_JZ 49 (fun (p4 : Int32) => [(0, (.ref 192)), (1, (.int x1)), (2, (.int a2))]) (fun (p4 : Int32) => [(.int p4), (.ref 192)]) (fun (p4 : Int32) => h2) ?_ (fun p4 => ?_)
      · refine hp_sv0 ?_
        refine hp_ic_eq hm (at1 3 rfl) rfl (by exact trivial) (pc' := 32) rfl 5 rfl (tgt := 41) rfl (fun c6 => ?_) (fun c6 => ?_)
        · refine hp_b hm (at1 4 rfl) (L' := [(2, (.int a2)), (0, (.ref 192)), (1, (.int x1))]) (st' := [(.int a2), (.ref 192)]) rfl (by exact trivial) (pc' := 42) rfl ?_
          refine hp_goto hm 3 rfl (tgt := 49) rfl ?_
          exact hp_lf [1, 2, 0] rfl (fun _ e => e)
        · refine hp_sv0 ?_
          refine hp_ic_ne hm (at1 5 rfl) rfl (by exact trivial) (pc' := 38) rfl 4 rfl (tgt := 45) rfl (fun c5 => ?_) (fun c5 => ?_)
          · refine hp_b hm (at1 6 rfl) (L' := [(2, (.int a2)), (0, (.ref 192)), (1, (.int x1))]) (st' := [(.int (rdI h2 192 72)), (.ref 192)]) rfl (by exact og_192) (pc' := 49) rfl ?_
            exact hp_lf [1, 2, 0] rfl (fun _ e => e)
          · refine hp_b hm (at1 4 rfl) (L' := [(2, (.int a2)), (0, (.ref 192)), (1, (.int x1))]) (st' := [(.int a2), (.ref 192)]) rfl (by exact trivial) (pc' := 42) rfl ?_
            refine hp_goto hm 3 rfl (tgt := 49) rfl ?_
            exact hp_lf [1, 2, 0] rfl (fun _ e => e)
      · refine hp_w hm (at1 7 rfl) (L' := [(0, (.ref 192)), (1, (.int x1)), (2, (.int a2))]) rfl (by exact og_192) (pc' := 52) rfl (fun h3 => ?_)
        refine hp_JZ 73 (fun (p7 : Int32) => [(0, (.ref 192)), (1, (.int x1)), (2, (.int a2))]) (fun (p7 : Int32) => [(.int p7), (.ref 192)]) (fun (p7 : Int32) => h3) ?_ (fun p7 => ?_)
        · refine hp_sv0 ?_
          refine hp_ic_eq hm (at1 8 rfl) rfl (by exact trivial) (pc' := 56) rfl 8 rfl (tgt := 65) rfl (fun c9 => ?_) (fun c9 => ?_)
          · refine hp_b hm (at1 9 rfl) (L' := [(0, (.ref 192)), (1, (.int x1)), (2, (.int a2))]) (st' := [(.int a2), (.ref 192)]) rfl (by exact trivial) (pc' := 66) rfl ?_
            refine hp_goto hm 6 rfl (tgt := 73) rfl ?_
            exact hp_lf [0, 1, 2] rfl (fun _ e => e)
          · refine hp_sv0 ?_
            refine hp_ic_ne hm (at1 10 rfl) rfl (by exact trivial) (pc' := 62) rfl 7 rfl (tgt := 69) rfl (fun c8 => ?_) (fun c8 => ?_)
            · refine hp_b hm (at1 11 rfl) (L' := [(0, (.ref 192)), (1, (.int x1)), (2, (.int a2))]) (st' := [(.int (rdI h3 192 73)), (.ref 192)]) rfl (by exact og_192) (pc' := 73) rfl ?_
              exact hp_lf [0, 1, 2] rfl (fun _ e => e)
            · refine hp_b hm (at1 9 rfl) (L' := [(0, (.ref 192)), (1, (.int x1)), (2, (.int a2))]) (st' := [(.int a2), (.ref 192)]) rfl (by exact trivial) (pc' := 66) rfl ?_
              refine hp_goto hm 6 rfl (tgt := 73) rfl ?_
              exact hp_lf [0, 1, 2] rfl (fun _ e => e)
        · refine hp_w hm (at1 12 rfl) (L' := [(0, (.ref 192)), (1, (.int x1)), (2, (.int a2))]) rfl (by exact og_192) (pc' := 76) rfl (fun h4 => ?_)
          refine hp_JZ 97 (fun (p10 : Int32) => []) (fun (p10 : Int32) => [(.int p10), (.ref 192)]) (fun (p10 : Int32) => h4) ?_ (fun p10 => ?_)
          · refine hp_sv0 ?_
            refine hp_ic_eq hm (at1 13 rfl) rfl (by exact trivial) (pc' := 80) rfl 11 rfl (tgt := 89) rfl (fun c12 => ?_) (fun c12 => ?_)
            · refine hp_b hm (at1 14 rfl) (L' := [(0, (.ref 192)), (1, (.int x1)), (2, (.int a2))]) (st' := [(.int a2), (.ref 192)]) rfl (by exact trivial) (pc' := 90) rfl ?_
              refine hp_goto hm 9 rfl (tgt := 97) rfl ?_
              exact hp_lf [] rfl (fun _ e => e)
            · refine hp_sv0 ?_
              refine hp_ic_ne hm (at1 15 rfl) rfl (by exact trivial) (pc' := 86) rfl 10 rfl (tgt := 93) rfl (fun c11 => ?_) (fun c11 => ?_)
              · refine hp_b hm (at1 16 rfl) (L' := [(0, (.ref 192)), (1, (.int x1)), (2, (.int a2))]) (st' := [(.int (rdI h4 192 74)), (.ref 192)]) rfl (by exact og_192) (pc' := 97) rfl ?_
                exact hp_lf [] rfl (fun _ e => e)
              · refine hp_b hm (at1 14 rfl) (L' := [(0, (.ref 192)), (1, (.int x1)), (2, (.int a2))]) (st' := [(.int a2), (.ref 192)]) rfl (by exact trivial) (pc' := 90) rfl ?_
                refine hp_goto hm 9 rfl (tgt := 97) rfl ?_
                exact hp_lf [] rfl (fun _ e => e)
          · refine hp_w hm (at1 17 rfl) (L' := []) rfl (by exact og_192) (pc' := 100) rfl (fun h5 => ?_)
            exact hp_vr hm 12 rfl rfl (fun _ e => e)
    · refine hp_cVS (M2 := M_Mo_fail) hm (at1 18 rfl) (as := [(.int (5 : Int32))]) (rest := []) (z := 192) rfl (by exact trivial) (pc' := 24) rfl 13 rfl (lw_g (lw_at lw_m10 4 rfl) rfl) y_Mo_fail rfl (d2 := 1) ⟨le_b rfl, pd_Mo_fail, le_b rfl⟩ (le_b rfl) og_192 (k_Mo_fail (5 : Int32) h2) (fun _ h6 => ?_)
      exact hp_vr hm 14 rfl rfl (fun _ e => e)
  · exact hp_vr hm 16 rfl rfl (fun _ e => e)
/-! HintHouseModel.codeLength(I)I -/
def M_Mo_codeLength : hM := (11, ⟨"HintHouseModel", "codeLength", "(I)I"⟩, prog_13_method_44_code, 4, (Option.some Jvm.ClassFile.FieldType.int), [], [(0, [(.aload_n 0, 1, 0, 0, 0, .null), (.iload_n 1, 1, 0, 0, 0, .null)]), (5, [(.istore_n 2, 1, 0, 0, 0, .null), (.iload_n 1, 1, 0, 0, 0, .null), (.iconst 1, 1, 0, 0, 0, (.int (1 : Int32))), (.iadd, 1, 0, 0, 0, .null), (.aload_n 0, 1, 0, 0, 0, .null), (.getfield 97, 3, 11, 90, 4, .null), (.aload_n 0, 1, 0, 0, 0, .null), (.getfield 427, 3, 11, 92, 0, .null), (.iaload, 1, 0, 0, 0, .null)]), (31, [(.iconst 0, 1, 0, 0, 0, (.int (0 : Int32)))]), (21, [(.aload_n 0, 1, 0, 0, 0, .null), (.iload_n 1, 1, 0, 0, 0, .null), (.iconst 1, 1, 0, 0, 0, (.int (1 : Int32))), (.iadd, 1, 0, 0, 0, .null)]), (32, [(.istore_n 3, 1, 0, 0, 0, .null), (.iload_n 2, 1, 0, 0, 0, .null), (.bipush 64, 2, 0, 0, 0, (.int (64 : Int32)))]), (39, [(.iload_n 2, 1, 0, 0, 0, .null), (.bipush 65, 2, 0, 0, 0, (.int (65 : Int32)))]), (45, [(.iload_n 1, 1, 0, 0, 0, .null), (.iconst 1, 1, 0, 0, 0, (.int (1 : Int32))), (.iadd, 1, 0, 0, 0, .null), (.aload_n 0, 1, 0, 0, 0, .null), (.getfield 97, 3, 11, 90, 4, .null), (.aload_n 0, 1, 0, 0, 0, .null), (.getfield 427, 3, 11, 92, 0, .null), (.iaload, 1, 0, 0, 0, .null)]), (78, [(.iconst 2, 1, 0, 0, 0, (.int (2 : Int32)))]), (60, [(.iconst 2, 1, 0, 0, 0, (.int (2 : Int32))), (.iload_n 2, 1, 0, 0, 0, .null), (.bipush 64, 2, 0, 0, 0, (.int (64 : Int32)))]), (71, [(.iconst 2, 1, 0, 0, 0, (.int (2 : Int32))), (.iload_n 3, 1, 0, 0, 0, .null), (.imul, 1, 0, 0, 0, .null)]), (67, [(.iload_n 3, 1, 0, 0, 0, .null)]), (74, [(.iadd, 1, 0, 0, 0, .null)]), (80, [(.iload_n 2, 1, 0, 0, 0, .null), (.sipush 176, 3, 0, 0, 0, (.int (176 : Int32)))]), (87, [(.iload_n 2, 1, 0, 0, 0, .null), (.sipush 183, 3, 0, 0, 0, (.int (183 : Int32)))]), (102, [(.iload_n 2, 1, 0, 0, 0, .null), (.sipush 184, 3, 0, 0, 0, (.int (184 : Int32)))]), (128, [(.iconst 1, 1, 0, 0, 0, (.int (1 : Int32)))]), (109, [(.iload_n 2, 1, 0, 0, 0, .null), (.sipush 191, 3, 0, 0, 0, (.int (191 : Int32)))]), (116, [(.iconst 1, 1, 0, 0, 0, (.int (1 : Int32))), (.iconst 2, 1, 0, 0, 0, (.int (2 : Int32))), (.iload_n 2, 1, 0, 0, 0, .null), (.sipush 183, 3, 0, 0, 0, (.int (183 : Int32))), (.isub, 1, 0, 0, 0, .null), (.imul, 1, 0, 0, 0, .null), (.iadd, 1, 0, 0, 0, .null)]), (94, [(.iload_n 2, 1, 0, 0, 0, .null), (.sipush 174, 3, 0, 0, 0, (.int (174 : Int32))), (.isub, 1, 0, 0, 0, .null)])], [(2, .invokevirtual 430, 3), (25, .invokevirtual 430, 3), (28, .goto 4, 3), (18, .if_icmp .ge 13, 3), (42, .if_icmp .ne 38, 3), (36, .if_icmp .eq 9, 3), (79, .ireturn, 1), (68, .goto 6, 3), (64, .if_icmp .ne 7, 3), (75, .goto 4, 3), (57, .if_icmp .ge 21, 3), (91, .if_icmp .gt 11, 3), (84, .if_icmp .lt 18, 3), (129, .ireturn, 1), (125, .goto 4, 3), (113, .if_icmp .gt 15, 3), (106, .if_icmp .lt 22, 3), (99, .goto 30, 3)])
set_option maxRecDepth 100000 in
theorem m_Mo_codeLength : hx_mok M_Mo_codeLength = true := by decide +kernel
theorem pd_Mo_codeLength : (parseMethodDescriptor M_Mo_codeLength.2.1.desc).map (fun q => q.parameters.length) = some 1 := by decide +kernel
theorem y_Mo_codeLength : hx_okV M_Mo_codeLength := ⟨⟨lw_g (lw_at lw_m10 123 rfl) rfl, lw_g (lw_at lw_m10 122 rfl) rfl, qs158, lw_g (lw_at lw_m1 12 rfl) rfl, rfl, by decide, by decide, by decide⟩, rfl, by decide, plainFor_of_name (by decide)⟩
noncomputable def f_Mo_codeLength (x1 : Int32) (h : hH) : Option Int32 :=
  bP (f_Mo_codeByte x1 h) fun a1 =>
  gd (vp_in (rdI h 192 92) 3) <|
  bP (A := Int32) (
    if (rdI h 221 (Int32.toNatClampNeg (rdI h 192 92))) ≤ (x1 + (1 : Int32)) then (
      some (0 : Int32)
    ) else (
      bP (f_Mo_codeByte (x1 + (1 : Int32)) h) fun a4 =>
      some a4
    )
  ) fun p3 =>
  if (a1 = (64 : Int32) ∨ a1 = (65 : Int32)) then (
    gd (vp_in (rdI h 192 92) 3) <|
    if (rdI h 221 (Int32.toNatClampNeg (rdI h 192 92))) ≤ (x1 + (1 : Int32)) then (
      some (2 : Int32)
    ) else (
      lz (A := Int32) (if a1 = (64 : Int32) then p3 else ((2 : Int32) * p3)) fun p12 =>
      some ((2 : Int32) + p12)
    )
  ) else (
    if (a1 < (176 : Int32) ∨ (183 : Int32) < a1) then (
      if a1 < (184 : Int32) then (
        some (1 : Int32)
      ) else (
        if (191 : Int32) < a1 then (
          some (1 : Int32)
        ) else (
          some ((1 : Int32) + ((2 : Int32) * (a1 - (183 : Int32))))
        )
      )
    ) else (
      some (a1 - (174 : Int32))
    )
  )
set_option maxRecDepth 20000 in
theorem k_Mo_codeLength (x1 : Int32) (h : hH) : hx_kP S0 M_Mo_codeLength 3 NT [(.ref 192), (.int x1)] h (f_Mo_codeLength x1 h) cvI := by
  have hm := m_Mo_codeLength
  show hx_P S0 M_Mo_codeLength 3 0 [(0, (.ref 192)), (1, (.int x1))] [] NT h (f_Mo_codeLength x1 h) (hx_Rp cvI NT h)
  unfold f_Mo_codeLength
  refine hp_cVP (M2 := M_Mo_codeByte) hm (at1 0 rfl) (as := [(.int x1)]) (rest := []) (z := 192) rfl (by exact trivial) (pc' := 2) rfl 0 rfl (lw_g (lw_at lw_m10 8 rfl) rfl) y_Mo_codeByte rfl (d2 := 2) ⟨le_b rfl, pd_Mo_codeByte, le_b rfl⟩ (le_b rfl) og_192 (k_Mo_codeByte x1 h) (fun a1 => ?_)
  refine hp_G hm (at1 1 rfl) (L' := [(2, (.int a1)), (0, (.ref 192)), (1, (.int x1))]) (st' := [(.int (rdI h 221 (Int32.toNatClampNeg (rdI h 192 92)))), (.int (x1 + (1 : Int32)))]) rfl (fun hP => (by exact ⟨⟨og_192, og_192⟩, ⟨og_221, hP⟩⟩)) (pc' := 18) rfl (fun q2 => ?_)
  refine hp_J 32 (fun (p3 : Int32) => [(0, (.ref 192)), (1, (.int x1)), (2, (.int a1))]) (fun (p3 : Int32) => [(.int p3)]) (fun (p3 : Int32) => h) ?_ (fun p3 => ?_)
  · refine hp_ic_ge hm at0 rfl (by exact trivial) (pc' := 18) rfl 3 rfl (tgt := 31) rfl (fun c5 => ?_) (fun c5 => ?_)
    · refine hp_b hm (at1 2 rfl) (L' := [(2, (.int a1)), (0, (.ref 192)), (1, (.int x1))]) (st' := [(.int (0 : Int32))]) rfl (by exact trivial) (pc' := 32) rfl ?_
      exact hp_lf [1, 2, 0] rfl (fun _ e => e)
    · refine hp_cVP (M2 := M_Mo_codeByte) hm (at1 3 rfl) (as := [(.int (x1 + (1 : Int32)))]) (rest := []) (z := 192) rfl (by exact trivial) (pc' := 25) rfl 1 rfl (lw_g (lw_at lw_m10 8 rfl) rfl) y_Mo_codeByte rfl (d2 := 2) ⟨le_b rfl, pd_Mo_codeByte, le_b rfl⟩ (le_b rfl) og_192 (k_Mo_codeByte (x1 + (1 : Int32)) h) (fun a4 => ?_)
      refine hp_goto hm 2 rfl (tgt := 32) rfl ?_
      exact hp_lf [1, 2, 0] rfl (fun _ e => e)
  · refine hp_b hm (at1 4 rfl) (L' := [(3, (.int p3)), (0, (.ref 192)), (1, (.int x1)), (2, (.int a1))]) (st' := [(.int (64 : Int32)), (.int a1)]) rfl (by exact trivial) (pc' := 36) rfl ?_
    refine hp_cI (L0 := [(3, (.int p3)), (0, (.ref 192)), (1, (.int x1)), (2, (.int a1))]) (s0 := []) 45 80 ?_ (fun c10 => ?_) (fun c10 => ?_)
    · refine hp_or ?_
      refine hp_ic_eq hm at0 rfl (by exact trivial) (pc' := 36) rfl 5 rfl (tgt := 45) rfl (fun c7 => ?_) (fun c7 => ?_)
      · exact hp_l0 (fun _ e => e)
      · refine hp_dec ?_
        refine hp_ic_ne hm (at1 5 rfl) rfl (by exact trivial) (pc' := 42) rfl 4 rfl (tgt := 80) rfl (fun c6 => ?_) (fun c6 => ?_)
        · exact hp_l0 (fun _ e => e)
        · exact hp_l0 (fun _ e => e)
    · refine hp_G hm (at1 6 rfl) (L' := [(3, (.int p3)), (0, (.ref 192)), (1, (.int x1)), (2, (.int a1))]) (st' := [(.int (rdI h 221 (Int32.toNatClampNeg (rdI h 192 92)))), (.int (x1 + (1 : Int32)))]) rfl (fun hP => (by exact ⟨⟨og_192, og_192⟩, ⟨og_221, hP⟩⟩)) (pc' := 57) rfl (fun q11 => ?_)
      refine hp_ic_ge hm at0 rfl (by exact trivial) (pc' := 57) rfl 10 rfl (tgt := 78) rfl (fun c14 => ?_) (fun c14 => ?_)
      · refine hp_b hm (at1 7 rfl) (L' := [(3, (.int p3)), (0, (.ref 192)), (1, (.int x1)), (2, (.int a1))]) (st' := [(.int (2 : Int32))]) rfl (by exact trivial) (pc' := 79) rfl ?_
        exact hp_ir hm at0 rfl (by exact trivial) (pc' := 79) rfl 6 rfl rfl (vp_nar_int _) (fun _ e => e)
      · refine hp_JZ 74 (fun (p12 : Int32) => []) (fun (p12 : Int32) => [(.int p12), (.int (2 : Int32))]) (fun (p12 : Int32) => h) ?_ (fun p12 => ?_)
        · refine hp_sv0 ?_
          refine hp_ic_ne hm (at1 8 rfl) rfl (by exact trivial) (pc' := 64) rfl 8 rfl (tgt := 71) rfl (fun c13 => ?_) (fun c13 => ?_)
          · refine hp_b hm (at1 9 rfl) (L' := [(3, (.int p3)), (0, (.ref 192)), (1, (.int x1)), (2, (.int a1))]) (st' := [(.int ((2 : Int32) * p3)), (.int (2 : Int32))]) rfl (by exact trivial) (pc' := 74) rfl ?_
            exact hp_lf [] rfl (fun _ e => e)
          · refine hp_b hm (at1 10 rfl) (L' := [(3, (.int p3)), (0, (.ref 192)), (1, (.int x1)), (2, (.int a1))]) (st' := [(.int p3), (.int (2 : Int32))]) rfl (by exact trivial) (pc' := 68) rfl ?_
            refine hp_goto hm 7 rfl (tgt := 74) rfl ?_
            exact hp_lf [] rfl (fun _ e => e)
        · refine hp_b hm (at1 11 rfl) (L' := []) (st' := [(.int ((2 : Int32) + p12))]) rfl (by exact trivial) (pc' := 75) rfl ?_
          refine hp_goto hm 9 rfl (tgt := 79) rfl ?_
          exact hp_ir hm at0 rfl (by exact trivial) (pc' := 79) rfl 6 rfl rfl (vp_nar_int _) (fun _ e => e)
    · refine hp_cI (L0 := [(3, (.int p3)), (0, (.ref 192)), (1, (.int x1)), (2, (.int a1))]) (s0 := []) 102 94 ?_ (fun c19 => ?_) (fun c19 => ?_)
      · refine hp_or ?_
        refine hp_ic_lt hm (at1 12 rfl) rfl (by exact trivial) (pc' := 84) rfl 12 rfl (tgt := 102) rfl (fun c18 => ?_) (fun c18 => ?_)
        · exact hp_l0 (fun _ e => e)
        · refine hp_dec ?_
          refine hp_ic_gt hm (at1 13 rfl) rfl (by exact trivial) (pc' := 91) rfl 11 rfl (tgt := 102) rfl (fun c17 => ?_) (fun c17 => ?_)
          · exact hp_l0 (fun _ e => e)
          · exact hp_l0 (fun _ e => e)
      · refine hp_ic_lt hm (at1 14 rfl) rfl (by exact trivial) (pc' := 106) rfl 16 rfl (tgt := 128) rfl (fun c21 => ?_) (fun c21 => ?_)
        · refine hp_b hm (at1 15 rfl) (L' := [(3, (.int p3)), (0, (.ref 192)), (1, (.int x1)), (2, (.int a1))]) (st' := [(.int (1 : Int32))]) rfl (by exact trivial) (pc' := 129) rfl ?_
          exact hp_ir hm at0 rfl (by exact trivial) (pc' := 129) rfl 13 rfl rfl (vp_nar_int _) (fun _ e => e)
        · refine hp_ic_gt hm (at1 16 rfl) rfl (by exact trivial) (pc' := 113) rfl 15 rfl (tgt := 128) rfl (fun c20 => ?_) (fun c20 => ?_)
          · refine hp_b hm (at1 15 rfl) (L' := [(3, (.int p3)), (0, (.ref 192)), (1, (.int x1)), (2, (.int a1))]) (st' := [(.int (1 : Int32))]) rfl (by exact trivial) (pc' := 129) rfl ?_
            exact hp_ir hm at0 rfl (by exact trivial) (pc' := 129) rfl 13 rfl rfl (vp_nar_int _) (fun _ e => e)
          · refine hp_b hm (at1 17 rfl) (L' := [(3, (.int p3)), (0, (.ref 192)), (1, (.int x1)), (2, (.int a1))]) (st' := [(.int ((1 : Int32) + ((2 : Int32) * (a1 - (183 : Int32)))))]) rfl (by exact trivial) (pc' := 125) rfl ?_
            refine hp_goto hm 14 rfl (tgt := 129) rfl ?_
            exact hp_ir hm at0 rfl (by exact trivial) (pc' := 129) rfl 13 rfl rfl (vp_nar_int _) (fun _ e => e)
      · refine hp_b hm (at1 18 rfl) (L' := [(3, (.int p3)), (0, (.ref 192)), (1, (.int x1)), (2, (.int a1))]) (st' := [(.int (a1 - (174 : Int32)))]) rfl (by exact trivial) (pc' := 99) rfl ?_
        refine hp_goto hm 17 rfl (tgt := 129) rfl ?_
        exact hp_ir hm at0 rfl (by exact trivial) (pc' := 129) rfl 13 rfl rfl (vp_nar_int _) (fun _ e => e)
/-! HintHouseModel.pass(IIIZ)I -/
def M_Mo_pass : hM := (11, ⟨"HintHouseModel", "pass", "(IIIZ)I"⟩, prog_13_method_49_code, 9, (Option.some Jvm.ClassFile.FieldType.int), [], [(0, [(.iload_n 1, 1, 0, 0, 0, .null), (.istore 5, 2, 0, 0, 0, .null), (.iconst 0, 1, 0, 0, 0, (.int (0 : Int32))), (.istore 6, 2, 0, 0, 0, .null)]), (6, [(.iload 5, 2, 0, 0, 0, .null), (.aload_n 0, 1, 0, 0, 0, .null), (.getfield 97, 3, 11, 90, 4, .null), (.aload_n 0, 1, 0, 0, 0, .null), (.getfield 427, 3, 11, 92, 0, .null), (.iaload, 1, 0, 0, 0, .null)]), (20, [(.aload_n 0, 1, 0, 0, 0, .null), (.iload 5, 2, 0, 0, 0, .null)]), (26, [(.istore 7, 2, 0, 0, 0, .null), (.aload_n 0, 1, 0, 0, 0, .null), (.iload 5, 2, 0, 0, 0, .null)]), (34, [(.istore 8, 2, 0, 0, 0, .null), (.iload 5, 2, 0, 0, 0, .null), (.iload 8, 2, 0, 0, 0, .null), (.iadd, 1, 0, 0, 0, .null), (.aload_n 0, 1, 0, 0, 0, .null), (.getfield 97, 3, 11, 90, 4, .null), (.aload_n 0, 1, 0, 0, 0, .null), (.getfield 427, 3, 11, 92, 0, .null), (.iaload, 1, 0, 0, 0, .null)]), (60, [(.iload 5, 2, 0, 0, 0, .null), (.iload 8, 2, 0, 0, 0, .null), (.iadd, 1, 0, 0, 0, .null), (.istore 5, 2, 0, 0, 0, .null)]), (67, [(.iload 6, 2, 0, 0, 0, .null)]), (72, [(.iload 7, 2, 0, 0, 0, .null), (.iload_n 2, 1, 0, 0, 0, .null)]), (84, [(.iload 5, 2, 0, 0, 0, .null)]), (78, [(.iload 7, 2, 0, 0, 0, .null), (.iload_n 3, 1, 0, 0, 0, .null)]), (87, [(.iload 4, 2, 0, 0, 0, .null)]), (92, [(.iload 7, 2, 0, 0, 0, .null), (.bipush 88, 2, 0, 0, 0, (.int (88 : Int32)))]), (99, [(.iinc 6 1, 3, 0, 0, 0, (.int (1 : Int32)))]), (105, [(.iload 4, 2, 0, 0, 0, .null)]), (110, [(.iload 7, 2, 0, 0, 0, .null), (.bipush 89, 2, 0, 0, 0, (.int (89 : Int32)))]), (117, [(.iinc 6 (-1), 3, 0, 0, 0, (.int (-1 : Int32)))]), (53, [(.aload_n 0, 1, 0, 0, 0, .null), (.iconst 4, 1, 0, 0, 0, (.int (4 : Int32)))]), (58, [(.iconst (-1), 1, 0, 0, 0, (.int (-1 : Int32)))]), (123, [(.aload_n 0, 1, 0, 0, 0, .null), (.iconst 4, 1, 0, 0, 0, (.int (4 : Int32)))]), (128, [(.iconst (-1), 1, 0, 0, 0, (.int (-1 : Int32)))])], [(23, .invokevirtual 430, 3), (31, .invokevirtual 511, 3), (86, .ireturn, 1), (81, .if_icmp .ne 6, 3), (75, .if_icmp .eq 9, 3), (69, .ifCond .ne 18, 3), (96, .if_icmp .ne 9, 3), (89, .ifCond .eq 16, 3), (102, .goto 18, 3), (114, .if_icmp .ne 6, 3), (107, .ifCond .eq 13, 3), (120, .goto (-114), 3), (55, .invokevirtual 421, 3), (59, .ireturn, 1), (50, .if_icmp .le 10, 3), (17, .if_icmp .ge 106, 3), (125, .invokevirtual 421, 3), (129, .ireturn, 1)])
set_option maxRecDepth 100000 in
theorem m_Mo_pass : hx_mok M_Mo_pass = true := by decide +kernel
theorem pd_Mo_pass : (parseMethodDescriptor M_Mo_pass.2.1.desc).map (fun q => q.parameters.length) = some 4 := by decide +kernel
theorem y_Mo_pass : hx_okV M_Mo_pass := ⟨⟨lw_g (lw_at lw_m10 119 rfl) rfl, lw_g (lw_at lw_m10 118 rfl) rfl, qs157, lw_g (lw_at lw_m1 12 rfl) rfl, rfl, by decide, by decide, by decide⟩, rfl, by decide, plainFor_of_name (by decide)⟩
noncomputable def f_Mo_pass (x1 : Int32) (x2 : Int32) (x3 : Int32) (x4 : Int32) (h : hH) : Option (Int32 × hH) :=
  bE (P := Unit) (X := (Int32 × hH)) (
    wh (A := (Int32 × Int32)) (B := (Unit ⊕ (Int32 × hH))) (fun p1 =>
        gd (vp_in (rdI h 192 92) 3) <|
        if (rdI h 221 (Int32.toNatClampNeg (rdI h 192 92))) ≤ p1.1 then (
          some (.inr (.inl ()))
        ) else (
          bP (f_Mo_codeByte p1.1 h) fun a4 =>
          bP (f_Mo_codeLength p1.1 h) fun a5 =>
          gd (vp_in (rdI h 192 92) 3) <|
          if (p1.1 + a5) ≤ (rdI h 221 (Int32.toNatClampNeg (rdI h 192 92))) then (
            lz (A := Int32) (p1.1 + a5) fun v7 =>
            bE (P := Unit) (X := ((Int32 × Int32) ⊕ (Unit ⊕ (Int32 × hH)))) (
              if p1.2 = 0 then (
                if a4 = x2 then (
                  some (.inr (.inr (.inr (v7, h))))
                ) else (
                  if a4 = x3 then (
                    some (.inr (.inr (.inr (v7, h))))
                  ) else (
                    some (.inl ())
                  )
                )
              ) else (
                some (.inl ())
              )
            ) fun p8 =>
            bP (A := Int32) (
              if (¬ (x4 = 0) ∧ a4 = (88 : Int32)) then (
                lz (A := Int32) (p1.2 + (1 : Int32)) fun v18 =>
                some v18
              ) else (
                if (¬ (x4 = 0) ∧ a4 = (89 : Int32)) then (
                  lz (A := Int32) (p1.2 + (-1 : Int32)) fun v24 =>
                  some v24
                ) else (
                  some p1.2
                )
              )
            ) fun p12 =>
            some (.inl (v7, p12))
          ) else (
            bS (f_Mo_fail (4 : Int32) h) fun _ h1 =>
            some (.inr (.inr ((-1 : Int32), h1)))
          )
        )
    ) (x1, (0 : Int32))
  ) fun p2 =>
  bS (f_Mo_fail (4 : Int32) h) fun _ h2 =>
  some ((-1 : Int32), h2)
set_option maxRecDepth 20000 in
theorem k_Mo_pass (x1 : Int32) (x2 : Int32) (x3 : Int32) (x4 : Int32) (h : hH) : hx_kS S0 M_Mo_pass 4 NT [(.ref 192), (.int x1), (.int x2), (.int x3), (.int x4)] h (f_Mo_pass x1 x2 x3 x4 h) cvI := by
  have hm := m_Mo_pass
  show hx_P S0 M_Mo_pass 4 0 [(0, (.ref 192)), (1, (.int x1)), (2, (.int x2)), (3, (.int x3)), (4, (.int x4))] [] NT h (f_Mo_pass x1 x2 x3 x4 h) (hx_Rc cvI NT)
  unfold f_Mo_pass
  refine hp_b hm (at1 0 rfl) (L' := [(6, (.int (0 : Int32))), (5, (.int x1)), (0, (.ref 192)), (1, (.int x1)), (2, (.int x2)), (3, (.int x3)), (4, (.int x4))]) (st' := []) rfl (by exact trivial) (pc' := 6) rfl ?_
  refine hp_E 123 (fun (p2 : Unit) => [(0, (.ref 192))]) (fun (p2 : Unit) => []) (fun (p2 : Unit) => h) ?_ (fun p2 => ?_)
  · refine hp_s [2, 4, 5, 6, 1, 0] rfl (L' := [(0, (.ref 192)), (2, (.int x2)), (3, (.int x3)), (4, (.int x4)), (5, (.int x1)), (6, (.int (0 : Int32)))]) ?_
    refine hp_wh (fun (p1 : (Int32 × Int32)) => [(0, (.ref 192)), (2, (.int x2)), (3, (.int x3)), (4, (.int x4)), (5, (.int p1.1)), (6, (.int p1.2))]) [] (fun (p1 : (Int32 × Int32)) => h) (fun p1 => ?_) (x1, (0 : Int32))
    refine hp_G hm (at1 1 rfl) (L' := [(0, (.ref 192)), (2, (.int x2)), (3, (.int x3)), (4, (.int x4)), (5, (.int p1.1)), (6, (.int p1.2))]) (st' := [(.int (rdI h 221 (Int32.toNatClampNeg (rdI h 192 92)))), (.int p1.1)]) rfl (fun hP => (by exact ⟨⟨og_192, og_192⟩, ⟨og_221, hP⟩⟩)) (pc' := 17) rfl (fun q3 => ?_)
    refine hp_ic_ge hm at0 rfl (by exact trivial) (pc' := 17) rfl 15 rfl (tgt := 123) rfl (fun c26 => ?_) (fun c26 => ?_)
    · exact hp_lf [0] rfl (fun _ e => e)
    · refine hp_cVP (M2 := M_Mo_codeByte) hm (at1 2 rfl) (as := [(.int p1.1)]) (rest := []) (z := 192) rfl (by exact trivial) (pc' := 23) rfl 0 rfl (lw_g (lw_at lw_m10 8 rfl) rfl) y_Mo_codeByte rfl (d2 := 2) ⟨le_b rfl, pd_Mo_codeByte, le_b rfl⟩ (le_b rfl) og_192 (k_Mo_codeByte p1.1 h) (fun a4 => ?_)
      refine hp_b hm (at1 3 rfl) (L' := [(7, (.int a4)), (0, (.ref 192)), (2, (.int x2)), (3, (.int x3)), (4, (.int x4)), (5, (.int p1.1)), (6, (.int p1.2))]) (st' := [(.int p1.1), (.ref 192)]) rfl (by exact trivial) (pc' := 31) rfl ?_
      refine hp_cVP (M2 := M_Mo_codeLength) hm at0 (as := [(.int p1.1)]) (rest := []) (z := 192) rfl (by exact trivial) (pc' := 31) rfl 1 rfl (lw_g (lw_at lw_m10 120 rfl) rfl) y_Mo_codeLength rfl (d2 := 3) ⟨le_b rfl, pd_Mo_codeLength, le_b rfl⟩ (le_b rfl) og_192 (k_Mo_codeLength p1.1 h) (fun a5 => ?_)
      refine hp_G hm (at1 4 rfl) (L' := [(8, (.int a5)), (7, (.int a4)), (0, (.ref 192)), (2, (.int x2)), (3, (.int x3)), (4, (.int x4)), (5, (.int p1.1)), (6, (.int p1.2))]) (st' := [(.int (rdI h 221 (Int32.toNatClampNeg (rdI h 192 92)))), (.int (p1.1 + a5))]) rfl (fun hP => (by exact ⟨⟨og_192, og_192⟩, ⟨og_221, hP⟩⟩)) (pc' := 50) rfl (fun q6 => ?_)
      refine hp_ic_le hm at0 rfl (by exact trivial) (pc' := 50) rfl 14 rfl (tgt := 60) rfl (fun c25 => ?_) (fun c25 => ?_)
      · refine hp_z hm (at1 5 rfl) (fun (v7 : Int32) => [(5, (.int v7)), (8, (.int a5)), (7, (.int a4)), (0, (.ref 192)), (2, (.int x2)), (3, (.int x3)), (4, (.int x4)), (6, (.int p1.2))]) (fun (v7 : Int32) => []) rfl (by exact trivial) (pc' := 67) rfl (fun v7 => ?_)
        refine hp_E 87 (fun (p8 : Unit) => [(0, (.ref 192)), (2, (.int x2)), (3, (.int x3)), (4, (.int x4)), (5, (.int v7)), (6, (.int p1.2)), (7, (.int a4))]) (fun (p8 : Unit) => []) (fun (p8 : Unit) => h) ?_ (fun p8 => ?_)
        · refine hp_if_ne hm (at1 6 rfl) rfl (by exact trivial) (pc' := 69) rfl 5 rfl (tgt := 87) rfl (fun c11 => ?_) (fun c11 => ?_)
          · exact hp_lf [3, 4, 5, 6, 0, 7, 2] rfl (fun _ e => e)
          · refine hp_ic_eq hm (at1 7 rfl) rfl (by exact trivial) (pc' := 75) rfl 4 rfl (tgt := 84) rfl (fun c10 => ?_) (fun c10 => ?_)
            · exact hp_ir hm (at1 8 rfl) rfl (by exact trivial) (pc' := 86) rfl 2 rfl rfl (vp_nar_int _) (fun _ e => e)
            · refine hp_ic_ne hm (at1 9 rfl) rfl (by exact trivial) (pc' := 81) rfl 3 rfl (tgt := 87) rfl (fun c9 => ?_) (fun c9 => ?_)
              · exact hp_lf [3, 4, 5, 6, 0, 7, 2] rfl (fun _ e => e)
              · exact hp_ir hm (at1 8 rfl) rfl (by exact trivial) (pc' := 86) rfl 2 rfl rfl (vp_nar_int _) (fun _ e => e)
        · refine hp_J 120 (fun (p12 : Int32) => [(0, (.ref 192)), (2, (.int x2)), (3, (.int x3)), (4, (.int x4)), (5, (.int v7)), (6, (.int p12))]) (fun (p12 : Int32) => []) (fun (p12 : Int32) => h) ?_ (fun p12 => ?_)
          · refine hp_cI (L0 := [(0, (.ref 192)), (2, (.int x2)), (3, (.int x3)), (4, (.int x4)), (5, (.int v7)), (6, (.int p1.2)), (7, (.int a4))]) (s0 := []) 99 105 ?_ (fun c17 => ?_) (fun c17 => ?_)
            · refine hp_nand ?_
              refine hp_if_eq hm (at1 10 rfl) rfl (by exact trivial) (pc' := 89) rfl 7 rfl (tgt := 105) rfl (fun c14 => ?_) (fun c14 => ?_)
              · exact hp_l0 (fun _ e => e)
              · refine hp_dec ?_
                refine hp_ic_ne hm (at1 11 rfl) rfl (by exact trivial) (pc' := 96) rfl 6 rfl (tgt := 105) rfl (fun c13 => ?_) (fun c13 => ?_)
                · exact hp_l0 (fun _ e => e)
                · exact hp_l0 (fun _ e => e)
            · refine hp_z hm (at1 12 rfl) (fun (v18 : Int32) => [(6, (.int v18)), (0, (.ref 192)), (2, (.int x2)), (3, (.int x3)), (4, (.int x4)), (5, (.int v7)), (7, (.int a4))]) (fun (v18 : Int32) => []) rfl (by exact trivial) (pc' := 102) rfl (fun v18 => ?_)
              refine hp_goto hm 8 rfl (tgt := 120) rfl ?_
              exact hp_lf [1, 2, 3, 4, 5, 0] rfl (fun _ e => e)
            · refine hp_cI (L0 := [(0, (.ref 192)), (2, (.int x2)), (3, (.int x3)), (4, (.int x4)), (5, (.int v7)), (6, (.int p1.2)), (7, (.int a4))]) (s0 := []) 117 120 ?_ (fun c23 => ?_) (fun c23 => ?_)
              · refine hp_nand ?_
                refine hp_if_eq hm (at1 13 rfl) rfl (by exact trivial) (pc' := 107) rfl 10 rfl (tgt := 120) rfl (fun c20 => ?_) (fun c20 => ?_)
                · exact hp_l0 (fun _ e => e)
                · refine hp_dec ?_
                  refine hp_ic_ne hm (at1 14 rfl) rfl (by exact trivial) (pc' := 114) rfl 9 rfl (tgt := 120) rfl (fun c19 => ?_) (fun c19 => ?_)
                  · exact hp_l0 (fun _ e => e)
                  · exact hp_l0 (fun _ e => e)
              · refine hp_z hm (at1 15 rfl) (fun (v24 : Int32) => [(6, (.int v24)), (0, (.ref 192)), (2, (.int x2)), (3, (.int x3)), (4, (.int x4)), (5, (.int v7)), (7, (.int a4))]) (fun (v24 : Int32) => []) rfl (by exact trivial) (pc' := 120) rfl (fun v24 => ?_)
                exact hp_lf [1, 2, 3, 4, 5, 0] rfl (fun _ e => e)
              · exact hp_lf [0, 1, 2, 3, 4, 5] rfl (fun _ e => e)
          · refine hp_goto hm 11 rfl (tgt := 6) rfl ?_
            exact hp_lf [0, 1, 2, 3, 4, 5] rfl (fun _ e => e)
      · refine hp_cVS (M2 := M_Mo_fail) hm (at1 16 rfl) (as := [(.int (4 : Int32))]) (rest := []) (z := 192) rfl (by exact trivial) (pc' := 55) rfl 12 rfl (lw_g (lw_at lw_m10 4 rfl) rfl) y_Mo_fail rfl (d2 := 1) ⟨le_b rfl, pd_Mo_fail, le_b rfl⟩ (le_b rfl) og_192 (k_Mo_fail (4 : Int32) h) (fun _ h1 => ?_)
        exact hp_ir hm (at1 17 rfl) rfl (by exact trivial) (pc' := 59) rfl 13 rfl rfl (vp_nar_int _) (fun _ e => e)
  · refine hp_cVS (M2 := M_Mo_fail) hm (at1 18 rfl) (as := [(.int (4 : Int32))]) (rest := []) (z := 192) rfl (by exact trivial) (pc' := 125) rfl 16 rfl (lw_g (lw_at lw_m10 4 rfl) rfl) y_Mo_fail rfl (d2 := 1) ⟨le_b rfl, pd_Mo_fail, le_b rfl⟩ (le_b rfl) og_192 (k_Mo_fail (4 : Int32) h) (fun _ h2 => ?_)
    exact hp_ir hm (at1 19 rfl) rfl (by exact trivial) (pc' := 129) rfl 17 rfl rfl (vp_nar_int _) (fun _ e => e)
/-! HintHouseModel.jump(J)V -/
def M_Mo_jump : hM := (11, ⟨"HintHouseModel", "jump", "(J)V"⟩, prog_13_method_52_code, 5, (Option.none : Option Jvm.ClassFile.FieldType), [], [(0, [(.aload_n 0, 1, 0, 0, 0, .null), (.getfield 412, 3, 11, 61, 0, .null), (.i2l, 1, 0, 0, 0, .null), (.lload_n 1, 1, 0, 0, 0, .null), (.ladd, 1, 0, 0, 0, .null), (.lstore_n 3, 1, 0, 0, 0, .null)]), (8, [(.lload_n 3, 1, 0, 0, 0, .null), (.lconst 0, 1, 0, 0, 0, (.long (0 : Int64))), (.lcmp, 1, 0, 0, 0, .null)]), (14, [(.lload_n 3, 1, 0, 0, 0, .null), (.aload_n 0, 1, 0, 0, 0, .null), (.getfield 97, 3, 11, 90, 4, .null), (.aload_n 0, 1, 0, 0, 0, .null), (.getfield 427, 3, 11, 92, 0, .null), (.iaload, 1, 0, 0, 0, .null), (.i2l, 1, 0, 0, 0, .null), (.lcmp, 1, 0, 0, 0, .null)]), (29, [(.aload_n 0, 1, 0, 0, 0, .null), (.bipush 8, 2, 0, 0, 0, (.int (8 : Int32)))]), (36, [(.aload_n 0, 1, 0, 0, 0, .null), (.lload_n 3, 1, 0, 0, 0, .null), (.l2i, 1, 0, 0, 0, .null), (.putfield 496, 3, 11, 93, 0, .null)])], [(26, .ifCond .le 10, 3), (11, .ifCond .lt 18, 3), (32, .invokevirtual 421, 3), (35, .return_, 1), (42, .return_, 1)])
set_option maxRecDepth 100000 in
theorem m_Mo_jump : hx_mok M_Mo_jump = true := by decide +kernel
theorem pd_Mo_jump : (parseMethodDescriptor M_Mo_jump.2.1.desc).map (fun q => q.parameters.length) = some 1 := by decide +kernel
theorem y_Mo_jump : hx_okV M_Mo_jump := ⟨⟨lw_g (lw_at lw_m10 127 rfl) rfl, lw_g (lw_at lw_m10 126 rfl) rfl, qs159, lw_g (lw_at lw_m1 12 rfl) rfl, rfl, by decide, by decide, by decide⟩, rfl, by decide, plainFor_of_name (by decide)⟩
noncomputable def f_Mo_jump (x1 : Int64) (h : hH) : Option (Unit × hH) :=
  lz (A := Int64) ((Int32.toInt64 (rdI h 192 61)) + x1) fun v1 =>
  cO (
    if v1 < (0 : Int64) then (
      some true
    ) else (
      gd (vp_in (rdI h 192 92) 3) <|
      if v1 ≤ (Int32.toInt64 (rdI h 221 (Int32.toNatClampNeg (rdI h 192 92)))) then (
        some false
      ) else (
        some true
      )
    )
  ) (
    bS (f_Mo_fail (8 : Int32) h) fun _ h1 =>
    some ((), h1)
  ) (
    lz (wrI h 192 93 (Int64.toInt32 v1)) fun h2 =>
    some ((), h2)
  )
set_option maxRecDepth 20000 in
theorem k_Mo_jump (x1 : Int64) (h : hH) : hx_kS S0 M_Mo_jump 2 NT [(.ref 192), (.long x1)] h (f_Mo_jump x1 h) cvU := by
  have hm := m_Mo_jump
  show hx_P S0 M_Mo_jump 2 0 [(0, (.ref 192)), (1, (.long x1))] [] NT h (f_Mo_jump x1 h) (hx_Rc cvU NT)
  unfold f_Mo_jump
  refine hp_z hm (at1 0 rfl) (fun (v1 : Int64) => [(3, (.long v1)), (0, (.ref 192)), (1, (.long x1))]) (fun (v1 : Int64) => []) rfl (by exact og_192) (pc' := 8) rfl (fun v1 => ?_)
  refine hp_cO (L0 := [(3, (.long v1)), (0, (.ref 192)), (1, (.long x1))]) (s0 := []) 29 36 ?_ ?_ ?_
  · refine hp_lc_lt hm (at1 1 rfl) rfl (by exact trivial) (pc' := 11) rfl 1 rfl (tgt := 29) rfl (fun c4 => ?_) (fun c4 => ?_)
    · exact hp_l0 (fun _ e => e)
    · refine hp_G hm (at1 2 rfl) (L' := [(3, (.long v1)), (0, (.ref 192)), (1, (.long x1))]) (st' := [(.int (lg_cmp v1 (Int32.toInt64 (rdI h 221 (Int32.toNatClampNeg (rdI h 192 92))))))]) rfl (fun hP => (by exact ⟨⟨og_192, og_192⟩, ⟨og_221, hP⟩⟩)) (pc' := 26) rfl (fun q2 => ?_)
      refine hp_lc_le hm at0 rfl (by exact trivial) (pc' := 26) rfl 0 rfl (tgt := 36) rfl (fun c3 => ?_) (fun c3 => ?_)
      · exact hp_l0 (fun _ e => e)
      · exact hp_l0 (fun _ e => e)
  · refine hp_cVS (M2 := M_Mo_fail) hm (at1 3 rfl) (as := [(.int (8 : Int32))]) (rest := []) (z := 192) rfl (by exact trivial) (pc' := 32) rfl 2 rfl (lw_g (lw_at lw_m10 4 rfl) rfl) y_Mo_fail rfl (d2 := 1) ⟨le_b rfl, pd_Mo_fail, le_b rfl⟩ (le_b rfl) og_192 (k_Mo_fail (8 : Int32) h) (fun _ h1 => ?_)
    exact hp_vr hm 3 rfl rfl (fun _ e => e)
  · refine hp_w hm (at1 4 rfl) (L' := [(3, (.long v1)), (0, (.ref 192)), (1, (.long x1))]) rfl (by exact og_192) (pc' := 42) rfl (fun h2 => ?_)
    exact hp_vr hm 4 rfl rfl (fun _ e => e)
/-! HintHouseModel.call(III)V -/
def M_Mo_call : hM := (11, ⟨"HintHouseModel", "call", "(III)V"⟩, prog_13_method_50_code, 4, (Option.none : Option Jvm.ClassFile.FieldType), [], [(0, [(.aload_n 0, 1, 0, 0, 0, .null), (.getfield 499, 3, 11, 99, 0, .null), (.bipush 32, 2, 0, 0, 0, (.int (32 : Int32)))]), (16, [(.aload_n 0, 1, 0, 0, 0, .null), (.getfield 112, 3, 11, 100, 4, .null), (.aload_n 0, 1, 0, 0, 0, .null), (.getfield 499, 3, 11, 99, 0, .null), (.aload_n 0, 1, 0, 0, 0, .null), (.getfield 427, 3, 11, 92, 0, .null), (.iastore, 1, 0, 0, 0, .null)]), (29, [(.aload_n 0, 1, 0, 0, 0, .null), (.getfield 115, 3, 11, 101, 4, .null), (.aload_n 0, 1, 0, 0, 0, .null), (.getfield 499, 3, 11, 99, 0, .null), (.aload_n 0, 1, 0, 0, 0, .null), (.getfield 496, 3, 11, 93, 0, .null), (.iastore, 1, 0, 0, 0, .null)]), (42, [(.aload_n 0, 1, 0, 0, 0, .null), (.getfield 118, 3, 11, 102, 4, .null), (.aload_n 0, 1, 0, 0, 0, .null), (.getfield 499, 3, 11, 99, 0, .null), (.iload_n 1, 1, 0, 0, 0, .null), (.iastore, 1, 0, 0, 0, .null)]), (52, [(.aload_n 0, 1, 0, 0, 0, .null), (.getfield 121, 3, 11, 103, 4, .null), (.aload_n 0, 1, 0, 0, 0, .null), (.getfield 499, 3, 11, 99, 0, .null), (.iload_n 2, 1, 0, 0, 0, .null), (.iastore, 1, 0, 0, 0, .null)]), (62, [(.aload_n 0, 1, 0, 0, 0, .null), (.getfield 124, 3, 11, 104, 4, .null), (.aload_n 0, 1, 0, 0, 0, .null), (.getfield 499, 3, 11, 99, 0, .null), (.iload_n 3, 1, 0, 0, 0, .null), (.iconst 1, 1, 0, 0, 0, (.int (1 : Int32))), (.isub, 1, 0, 0, 0, .null), (.iastore, 1, 0, 0, 0, .null)]), (74, [(.aload_n 0, 1, 0, 0, 0, .null), (.dup, 1, 0, 0, 0, .null), (.getfield 499, 3, 11, 99, 0, .null), (.iconst 1, 1, 0, 0, 0, (.int (1 : Int32))), (.iadd, 1, 0, 0, 0, .null), (.putfield 499, 3, 11, 99, 0, .null)]), (84, [(.aload_n 0, 1, 0, 0, 0, .null), (.iload_n 1, 1, 0, 0, 0, .null), (.putfield 427, 3, 11, 92, 0, .null)]), (89, [(.aload_n 0, 1, 0, 0, 0, .null), (.iload_n 2, 1, 0, 0, 0, .null), (.putfield 496, 3, 11, 93, 0, .null)]), (9, [(.aload_n 0, 1, 0, 0, 0, .null), (.bipush 9, 2, 0, 0, 0, (.int (9 : Int32)))])], [(94, .return_, 1), (12, .invokevirtual 421, 3), (15, .return_, 1), (6, .if_icmp .ne 10, 3)])
set_option maxRecDepth 100000 in
theorem m_Mo_call : hx_mok M_Mo_call = true := by decide +kernel
theorem pd_Mo_call : (parseMethodDescriptor M_Mo_call.2.1.desc).map (fun q => q.parameters.length) = some 3 := by decide +kernel
theorem y_Mo_call : hx_okV M_Mo_call := ⟨⟨lw_g (lw_at lw_m10 139 rfl) rfl, lw_g (lw_at lw_m10 138 rfl) rfl, qs162, lw_g (lw_at lw_m1 12 rfl) rfl, rfl, by decide, by decide, by decide⟩, rfl, by decide, plainFor_of_name (by decide)⟩
noncomputable def f_Mo_call (x1 : Int32) (x2 : Int32) (x3 : Int32) (h : hH) : Option (Unit × hH) :=
  if (rdI h 192 99) = (32 : Int32) then (
    bS (f_Mo_fail (9 : Int32) h) fun _ h9 =>
    some ((), h9)
  ) else (
    gd (vp_in (rdI h 192 99) 32) <|
    lz (wrI h 226 (Int32.toNatClampNeg (rdI h 192 99)) (rdI h 192 92)) fun h1 =>
    gd (vp_in (rdI h1 192 99) 32) <|
    lz (wrI h1 227 (Int32.toNatClampNeg (rdI h1 192 99)) (rdI h1 192 93)) fun h2 =>
    gd (vp_in (rdI h2 192 99) 32) <|
    lz (wrI h2 228 (Int32.toNatClampNeg (rdI h2 192 99)) x1) fun h3 =>
    gd (vp_in (rdI h3 192 99) 32) <|
    lz (wrI h3 229 (Int32.toNatClampNeg (rdI h3 192 99)) x2) fun h4 =>
    gd (vp_in (rdI h4 192 99) 32) <|
    lz (wrI h4 230 (Int32.toNatClampNeg (rdI h4 192 99)) (x3 - (1 : Int32))) fun h5 =>
    lz (wrI h5 192 99 ((rdI h5 192 99) + (1 : Int32))) fun h6 =>
    lz (wrI h6 192 92 x1) fun h7 =>
    lz (wrI h7 192 93 x2) fun h8 =>
    some ((), h8)
  )
set_option maxRecDepth 20000 in
theorem k_Mo_call (x1 : Int32) (x2 : Int32) (x3 : Int32) (h : hH) : hx_kS S0 M_Mo_call 2 NT [(.ref 192), (.int x1), (.int x2), (.int x3)] h (f_Mo_call x1 x2 x3 h) cvU := by
  have hm := m_Mo_call
  show hx_P S0 M_Mo_call 2 0 [(0, (.ref 192)), (1, (.int x1)), (2, (.int x2)), (3, (.int x3))] [] NT h (f_Mo_call x1 x2 x3 h) (hx_Rc cvU NT)
  unfold f_Mo_call
  refine hp_ic_ne hm (at1 0 rfl) rfl (by exact og_192) (pc' := 6) rfl 3 rfl (tgt := 16) rfl (fun c6 => ?_) (fun c6 => ?_)
  · refine hp_GW hm (at1 1 rfl) (L' := [(0, (.ref 192)), (1, (.int x1)), (2, (.int x2)), (3, (.int x3))]) rfl (fun hP => (by exact ⟨⟨⟨og_192, og_192⟩, og_192⟩, ⟨og_226, hP⟩⟩)) (pc' := 29) rfl (fun q1 h1 => ?_)
    refine hp_GW hm (at1 2 rfl) (L' := [(0, (.ref 192)), (1, (.int x1)), (2, (.int x2)), (3, (.int x3))]) rfl (fun hP => (by exact ⟨⟨⟨og_192, og_192⟩, og_192⟩, ⟨og_227, hP⟩⟩)) (pc' := 42) rfl (fun q2 h2 => ?_)
    refine hp_GW hm (at1 3 rfl) (L' := [(0, (.ref 192)), (1, (.int x1)), (2, (.int x2)), (3, (.int x3))]) rfl (fun hP => (by exact ⟨⟨og_192, og_192⟩, ⟨og_228, hP⟩⟩)) (pc' := 52) rfl (fun q3 h3 => ?_)
    refine hp_GW hm (at1 4 rfl) (L' := [(0, (.ref 192)), (1, (.int x1)), (2, (.int x2)), (3, (.int x3))]) rfl (fun hP => (by exact ⟨⟨og_192, og_192⟩, ⟨og_229, hP⟩⟩)) (pc' := 62) rfl (fun q4 h4 => ?_)
    refine hp_GW hm (at1 5 rfl) (L' := [(0, (.ref 192)), (1, (.int x1)), (2, (.int x2)), (3, (.int x3))]) rfl (fun hP => (by exact ⟨⟨og_192, og_192⟩, ⟨og_230, hP⟩⟩)) (pc' := 74) rfl (fun q5 h5 => ?_)
    refine hp_w hm (at1 6 rfl) (L' := [(0, (.ref 192)), (1, (.int x1)), (2, (.int x2)), (3, (.int x3))]) rfl (by exact ⟨og_192, og_192⟩) (pc' := 84) rfl (fun h6 => ?_)
    refine hp_w hm (at1 7 rfl) (L' := [(0, (.ref 192)), (1, (.int x1)), (2, (.int x2)), (3, (.int x3))]) rfl (by exact og_192) (pc' := 89) rfl (fun h7 => ?_)
    refine hp_w hm (at1 8 rfl) (L' := [(0, (.ref 192)), (1, (.int x1)), (2, (.int x2)), (3, (.int x3))]) rfl (by exact og_192) (pc' := 94) rfl (fun h8 => ?_)
    exact hp_vr hm 0 rfl rfl (fun _ e => e)
  · refine hp_cVS (M2 := M_Mo_fail) hm (at1 9 rfl) (as := [(.int (9 : Int32))]) (rest := []) (z := 192) rfl (by exact trivial) (pc' := 12) rfl 1 rfl (lw_g (lw_at lw_m10 4 rfl) rfl) y_Mo_fail rfl (d2 := 1) ⟨le_b rfl, pd_Mo_fail, le_b rfl⟩ (le_b rfl) og_192 (k_Mo_fail (9 : Int32) h) (fun _ h9 => ?_)
    exact hp_vr hm 2 rfl rfl (fun _ e => e)
/-! HintHouseModel.callFunction(Z)V -/
def M_Mo_callFunction : hM := (11, ⟨"HintHouseModel", "callFunction", "(Z)V"⟩, prog_13_method_74_code, 4, (Option.none : Option Jvm.ClassFile.FieldType), [], [(0, [(.aload_n 0, 1, 0, 0, 0, .null), (.iload_n 1, 1, 0, 0, 0, .null)]), (9, [(.iconst 1, 1, 0, 0, 0, (.int (1 : Int32)))]), (5, [(.iconst 2, 1, 0, 0, 0, (.int (2 : Int32)))]), (17, [(.aload_n 0, 1, 0, 0, 0, .null)]), (21, [(.istore_n 2, 1, 0, 0, 0, .null), (.iload_n 1, 1, 0, 0, 0, .null)]), (33, [(.iconst 1, 1, 0, 0, 0, (.int (1 : Int32)))]), (26, [(.aload_n 0, 1, 0, 0, 0, .null)]), (34, [(.istore_n 3, 1, 0, 0, 0, .null), (.iload_n 2, 1, 0, 0, 0, .null)]), (39, [(.iload_n 2, 1, 0, 0, 0, .null), (.aload_n 0, 1, 0, 0, 0, .null), (.getfield 322, 3, 11, 16, 0, .null)]), (47, [(.aload_n 0, 1, 0, 0, 0, .null), (.getfield 100, 3, 11, 94, 4, .null), (.iload_n 2, 1, 0, 0, 0, .null), (.iaload, 1, 0, 0, 0, .null)]), (56, [(.aload_n 0, 1, 0, 0, 0, .null), (.bipush 6, 2, 0, 0, 0, (.int (6 : Int32)))]), (65, [(.iload_n 3, 1, 0, 0, 0, .null)]), (69, [(.aload_n 0, 1, 0, 0, 0, .null), (.aload_n 0, 1, 0, 0, 0, .null), (.getfield 103, 3, 11, 95, 4, .null), (.iload_n 2, 1, 0, 0, 0, .null), (.iaload, 1, 0, 0, 0, .null), (.aload_n 0, 1, 0, 0, 0, .null), (.getfield 100, 3, 11, 94, 4, .null), (.iload_n 2, 1, 0, 0, 0, .null), (.iaload, 1, 0, 0, 0, .null), (.iload_n 3, 1, 0, 0, 0, .null)])], [(6, .goto 4, 3), (2, .ifCond .eq 7, 3), (10, .invokevirtual 576, 3), (18, .invokevirtual 579, 3), (27, .invokevirtual 579, 3), (30, .goto 4, 3), (23, .ifCond .eq 10, 3), (53, .ifCond .ge 12, 3), (44, .if_icmp .ge 12, 3), (36, .ifCond .lt 20, 3), (59, .invokevirtual 421, 3), (86, .return_, 1), (62, .goto 24, 3), (83, .invokevirtual 568, 3), (66, .ifCond .le 20, 3), (16, .return_, 1), (13, .ifCond .ne 4, 3)])
set_option maxRecDepth 100000 in
theorem m_Mo_callFunction : hx_mok M_Mo_callFunction = true := by decide +kernel
theorem pd_Mo_callFunction : (parseMethodDescriptor M_Mo_callFunction.2.1.desc).map (fun q => q.parameters.length) = some 1 := by decide +kernel
theorem y_Mo_callFunction : hx_okV M_Mo_callFunction := ⟨⟨lw_g (lw_at lw_m10 135 rfl) rfl, lw_g (lw_at lw_m10 134 rfl) rfl, qs161, lw_g (lw_at lw_m1 12 rfl) rfl, rfl, by decide, by decide, by decide⟩, rfl, by decide, plainFor_of_name (by decide)⟩
noncomputable def f_Mo_callFunction (x1 : Int32) (h : hH) : Option (Unit × hH) :=
  lz (A := Int32) (if x1 = 0 then (1 : Int32) else (2 : Int32)) fun p1 =>
  bS (f_Mo_has p1 h) fun a3 h1 =>
  if a3 = 0 then (
    some ((), h1)
  ) else (
    bS (f_Mo_pop h1) fun a4 h2 =>
    bP (A := (Int32 × hH)) (
      if x1 = 0 then (
        some ((1 : Int32), h2)
      ) else (
        bS (f_Mo_pop h2) fun a6 h3 =>
        some (a6, h3)
      )
    ) fun p5 =>
    cO (
      if a4 < 0 then (
        some true
      ) else (
        cO (
          if (rdI p5.2 192 16) ≤ a4 then (
            some true
          ) else (
            gd (vp_in a4 64) <|
            if 0 ≤ (rdI p5.2 222 (Int32.toNatClampNeg a4)) then (
              some false
            ) else (
              some true
            )
          )
        ) (
          some true
        ) (
          some false
        )
      )
    ) (
      bS (f_Mo_fail (6 : Int32) p5.2) fun _ h4 =>
      some ((), h4)
    ) (
      if p5.1 ≤ 0 then (
        some ((), p5.2)
      ) else (
        gd (vp_in a4 64) <|
        bS (f_Mo_call (rdI p5.2 223 (Int32.toNatClampNeg a4)) (rdI p5.2 222 (Int32.toNatClampNeg a4)) p5.1 p5.2) fun _ h5 =>
        some ((), h5)
      )
    )
  )
set_option maxRecDepth 20000 in
theorem k_Mo_callFunction (x1 : Int32) (h : hH) : hx_kS S0 M_Mo_callFunction 3 NT [(.ref 192), (.int x1)] h (f_Mo_callFunction x1 h) cvU := by
  have hm := m_Mo_callFunction
  show hx_P S0 M_Mo_callFunction 3 0 [(0, (.ref 192)), (1, (.int x1))] [] NT h (f_Mo_callFunction x1 h) (hx_Rc cvU NT)
  unfold f_Mo_callFunction
  refine hp_JZ 10 (fun (p1 : Int32) => [(0, (.ref 192)), (1, (.int x1))]) (fun (p1 : Int32) => [(.int p1), (.ref 192)]) (fun (p1 : Int32) => h) ?_ (fun p1 => ?_)
  · refine hp_sv0 ?_
    refine hp_if_eq hm (at1 0 rfl) rfl (by exact trivial) (pc' := 2) rfl 1 rfl (tgt := 9) rfl (fun c2 => ?_) (fun c2 => ?_)
    · refine hp_b hm (at1 1 rfl) (L' := [(0, (.ref 192)), (1, (.int x1))]) (st' := [(.int (1 : Int32)), (.ref 192)]) rfl (by exact trivial) (pc' := 10) rfl ?_
      exact hp_lf [0, 1] rfl (fun _ e => e)
    · refine hp_b hm (at1 2 rfl) (L' := [(0, (.ref 192)), (1, (.int x1))]) (st' := [(.int (2 : Int32)), (.ref 192)]) rfl (by exact trivial) (pc' := 6) rfl ?_
      refine hp_goto hm 0 rfl (tgt := 10) rfl ?_
      exact hp_lf [0, 1] rfl (fun _ e => e)
  · refine hp_cVS (M2 := M_Mo_has) hm at0 (as := [(.int p1)]) (rest := []) (z := 192) rfl (by exact trivial) (pc' := 10) rfl 2 rfl (lw_g (lw_at lw_m10 20 rfl) rfl) y_Mo_has rfl (d2 := 2) ⟨le_b rfl, pd_Mo_has, le_b rfl⟩ (le_b rfl) og_192 (k_Mo_has p1 h) (fun a3 h1 => ?_)
    refine hp_if_ne hm at0 rfl (by exact trivial) (pc' := 13) rfl 16 rfl (tgt := 17) rfl (fun c24 => ?_) (fun c24 => ?_)
    · refine hp_cVS (M2 := M_Mo_pop) hm (at1 3 rfl) (as := []) (rest := []) (z := 192) rfl (by exact trivial) (pc' := 18) rfl 3 rfl (lw_g (lw_at lw_m10 24 rfl) rfl) y_Mo_pop rfl (d2 := 1) ⟨le_b rfl, pd_Mo_pop, le_b rfl⟩ (le_b rfl) og_192 (k_Mo_pop h1) (fun a4 h2 => ?_)
      refine hp_b hm (at1 4 rfl) (L' := [(2, (.int a4)), (0, (.ref 192)), (1, (.int x1))]) (st' := [(.int x1)]) rfl (by exact trivial) (pc' := 23) rfl ?_
      refine hp_J 34 (fun (p5 : (Int32 × hH)) => [(0, (.ref 192)), (2, (.int a4))]) (fun (p5 : (Int32 × hH)) => [(.int p5.1)]) (fun (p5 : (Int32 × hH)) => p5.2) ?_ (fun p5 => ?_)
      · refine hp_if_eq hm at0 rfl (by exact trivial) (pc' := 23) rfl 6 rfl (tgt := 33) rfl (fun c7 => ?_) (fun c7 => ?_)
        · refine hp_b hm (at1 5 rfl) (L' := [(2, (.int a4)), (0, (.ref 192)), (1, (.int x1))]) (st' := [(.int (1 : Int32))]) rfl (by exact trivial) (pc' := 34) rfl ?_
          exact hp_lf [1, 0] rfl (fun _ e => e)
        · refine hp_cVS (M2 := M_Mo_pop) hm (at1 6 rfl) (as := []) (rest := []) (z := 192) rfl (by exact trivial) (pc' := 27) rfl 4 rfl (lw_g (lw_at lw_m10 24 rfl) rfl) y_Mo_pop rfl (d2 := 1) ⟨le_b rfl, pd_Mo_pop, le_b rfl⟩ (le_b rfl) og_192 (k_Mo_pop h2) (fun a6 h3 => ?_)
          refine hp_goto hm 5 rfl (tgt := 34) rfl ?_
          exact hp_lf [1, 0] rfl (fun _ e => e)
      · refine hp_b hm (at1 7 rfl) (L' := [(3, (.int p5.1)), (0, (.ref 192)), (2, (.int a4))]) (st' := [(.int a4)]) rfl (by exact trivial) (pc' := 36) rfl ?_
        refine hp_cO (L0 := [(3, (.int p5.1)), (0, (.ref 192)), (2, (.int a4))]) (s0 := []) 56 65 ?_ ?_ ?_
        · refine hp_if_lt hm at0 rfl (by exact trivial) (pc' := 36) rfl 9 rfl (tgt := 56) rfl (fun c14 => ?_) (fun c14 => ?_)
          · exact hp_l0 (fun _ e => e)
          · refine hp_cO (L0 := [(3, (.int p5.1)), (0, (.ref 192)), (2, (.int a4))]) (s0 := []) 56 65 ?_ ?_ ?_
            · refine hp_ic_ge hm (at1 8 rfl) rfl (by exact og_192) (pc' := 44) rfl 8 rfl (tgt := 56) rfl (fun c10 => ?_) (fun c10 => ?_)
              · exact hp_l0 (fun _ e => e)
              · refine hp_G hm (at1 9 rfl) (L' := [(3, (.int p5.1)), (0, (.ref 192)), (2, (.int a4))]) (st' := [(.int (rdI p5.2 222 (Int32.toNatClampNeg a4)))]) rfl (fun hP => (by exact ⟨og_192, ⟨og_222, hP⟩⟩)) (pc' := 53) rfl (fun q8 => ?_)
                refine hp_if_ge hm at0 rfl (by exact trivial) (pc' := 53) rfl 7 rfl (tgt := 65) rfl (fun c9 => ?_) (fun c9 => ?_)
                · exact hp_l0 (fun _ e => e)
                · exact hp_l0 (fun _ e => e)
            · exact hp_l0 (fun _ e => e)
            · exact hp_l0 (fun _ e => e)
        · refine hp_cVS (M2 := M_Mo_fail) hm (at1 10 rfl) (as := [(.int (6 : Int32))]) (rest := []) (z := 192) rfl (by exact trivial) (pc' := 59) rfl 10 rfl (lw_g (lw_at lw_m10 4 rfl) rfl) y_Mo_fail rfl (d2 := 1) ⟨le_b rfl, pd_Mo_fail, le_b rfl⟩ (le_b rfl) og_192 (k_Mo_fail (6 : Int32) p5.2) (fun _ h4 => ?_)
          refine hp_goto hm 12 rfl (tgt := 86) rfl ?_
          exact hp_vr hm 11 rfl rfl (fun _ e => e)
        · refine hp_if_le hm (at1 11 rfl) rfl (by exact trivial) (pc' := 66) rfl 14 rfl (tgt := 86) rfl (fun c23 => ?_) (fun c23 => ?_)
          · exact hp_vr hm 11 rfl rfl (fun _ e => e)
          · refine hp_G hm (at1 12 rfl) (L' := [(3, (.int p5.1)), (0, (.ref 192)), (2, (.int a4))]) (st' := [(.int p5.1), (.int (rdI p5.2 222 (Int32.toNatClampNeg a4))), (.int (rdI p5.2 223 (Int32.toNatClampNeg a4))), (.ref 192)]) rfl (fun hP => (by exact ⟨⟨⟨og_192, ⟨og_223, hP⟩⟩, og_192⟩, ⟨og_222, hP⟩⟩)) (pc' := 83) rfl (fun q22 => ?_)
            refine hp_cVS (M2 := M_Mo_call) hm at0 (as := [(.int (rdI p5.2 223 (Int32.toNatClampNeg a4))), (.int (rdI p5.2 222 (Int32.toNatClampNeg a4))), (.int p5.1)]) (rest := []) (z := 192) rfl (by exact trivial) (pc' := 83) rfl 13 rfl (lw_g (lw_at lw_m10 136 rfl) rfl) y_Mo_call rfl (d2 := 2) ⟨le_b rfl, pd_Mo_call, le_b rfl⟩ (le_b rfl) og_192 (k_Mo_call (rdI p5.2 223 (Int32.toNatClampNeg a4)) (rdI p5.2 222 (Int32.toNatClampNeg a4)) p5.1 p5.2) (fun _ h5 => ?_)
            exact hp_vr hm 11 rfl rfl (fun _ e => e)
    · exact hp_vr hm 15 rfl rfl (fun _ e => e)
/-! HintHouseModel.defineFunction()V -/
def M_Mo_defineFunction : hM := (11, ⟨"HintHouseModel", "defineFunction", "()V"⟩, prog_13_method_75_code, 4, (Option.none : Option Jvm.ClassFile.FieldType), [], [(0, [(.aload_n 0, 1, 0, 0, 0, .null), (.iconst 1, 1, 0, 0, 0, (.int (1 : Int32)))]), (9, [(.aload_n 0, 1, 0, 0, 0, .null)]), (13, [(.istore_n 1, 1, 0, 0, 0, .null), (.aload_n 0, 1, 0, 0, 0, .null), (.getfield 493, 3, 11, 91, 0, .null), (.iconst 2, 1, 0, 0, 0, (.int (2 : Int32)))]), (28, [(.iload_n 1, 1, 0, 0, 0, .null)]), (32, [(.iload_n 1, 1, 0, 0, 0, .null), (.aload_n 0, 1, 0, 0, 0, .null), (.getfield 322, 3, 11, 16, 0, .null)]), (40, [(.aload_n 0, 1, 0, 0, 0, .null), (.bipush 6, 2, 0, 0, 0, (.int (6 : Int32)))]), (47, [(.aload_n 0, 1, 0, 0, 0, .null), (.getfield 496, 3, 11, 93, 0, .null), (.istore_n 2, 1, 0, 0, 0, .null)]), (52, [(.aload_n 0, 1, 0, 0, 0, .null), (.getfield 427, 3, 11, 92, 0, .null), (.istore_n 3, 1, 0, 0, 0, .null)]), (57, [(.aload_n 0, 1, 0, 0, 0, .null), (.aload_n 0, 1, 0, 0, 0, .null), (.aload_n 0, 1, 0, 0, 0, .null), (.getfield 496, 3, 11, 93, 0, .null), (.bipush 45, 2, 0, 0, 0, (.int (45 : Int32))), (.bipush 45, 2, 0, 0, 0, (.int (45 : Int32))), (.iconst 0, 1, 0, 0, 0, (.int (0 : Int32)))]), (71, [(.putfield 496, 3, 11, 93, 0, .null)]), (74, [(.aload_n 0, 1, 0, 0, 0, .null), (.getfield 409, 3, 11, 59, 0, .null)]), (81, [(.aload_n 0, 1, 0, 0, 0, .null), (.getfield 100, 3, 11, 94, 4, .null), (.iload_n 1, 1, 0, 0, 0, .null), (.iload_n 2, 1, 0, 0, 0, .null), (.iastore, 1, 0, 0, 0, .null)]), (88, [(.aload_n 0, 1, 0, 0, 0, .null), (.getfield 103, 3, 11, 95, 4, .null), (.iload_n 1, 1, 0, 0, 0, .null), (.iload_n 3, 1, 0, 0, 0, .null), (.iastore, 1, 0, 0, 0, .null)]), (22, [(.aload_n 0, 1, 0, 0, 0, .null), (.iconst 3, 1, 0, 0, 0, (.int (3 : Int32)))])], [(2, .invokevirtual 576, 3), (10, .invokevirtual 579, 3), (37, .if_icmp .lt 10, 3), (29, .ifCond .lt 11, 3), (43, .invokevirtual 421, 3), (46, .return_, 1), (68, .invokevirtual 598, 3), (95, .return_, 1), (78, .ifCond .ne 17, 3), (24, .invokevirtual 421, 3), (27, .return_, 1), (19, .if_icmp .ne 9, 3), (8, .return_, 1), (5, .ifCond .ne 4, 3)])
set_option maxRecDepth 100000 in
theorem m_Mo_defineFunction : hx_mok M_Mo_defineFunction = true := by decide +kernel
theorem pd_Mo_defineFunction : (parseMethodDescriptor M_Mo_defineFunction.2.1.desc).map (fun q => q.parameters.length) = some 0 := by decide +kernel
theorem y_Mo_defineFunction : hx_okV M_Mo_defineFunction := ⟨⟨lw_g (lw_at lw_m10 143 rfl) rfl, lw_g (lw_at lw_m10 142 rfl) rfl, qs163, lw_g (lw_at lw_m1 12 rfl) rfl, rfl, by decide, by decide, by decide⟩, rfl, by decide, plainFor_of_name (by decide)⟩
noncomputable def f_Mo_defineFunction (h : hH) : Option (Unit × hH) :=
  bS (f_Mo_has (1 : Int32) h) fun a1 h1 =>
  if a1 = 0 then (
    some ((), h1)
  ) else (
    bS (f_Mo_pop h1) fun a2 h2 =>
    if (rdI h2 192 91) = (2 : Int32) then (
      bS (f_Mo_fail (3 : Int32) h2) fun _ h8 =>
      some ((), h8)
    ) else (
      if (a2 < 0 ∨ ¬ (a2 < (rdI h2 192 16))) then (
        bS (f_Mo_fail (6 : Int32) h2) fun _ h3 =>
        some ((), h3)
      ) else (
        lz (A := Int32) (rdI h2 192 93) fun v8 =>
        lz (A := Int32) (rdI h2 192 92) fun v9 =>
        bS (f_Mo_pass (rdI h2 192 93) (45 : Int32) (45 : Int32) (0 : Int32) h2) fun a10 h4 =>
        lz (wrI h4 192 93 a10) fun h5 =>
        if (rdI h5 192 59) = 0 then (
          gd (vp_in a2 64) <|
          lz (wrI h5 222 (Int32.toNatClampNeg a2) v8) fun h6 =>
          gd (vp_in a2 64) <|
          lz (wrI h6 223 (Int32.toNatClampNeg a2) v9) fun h7 =>
          some ((), h7)
        ) else (
          some ((), h5)
        )
      )
    )
  )
set_option maxRecDepth 20000 in
theorem k_Mo_defineFunction (h : hH) : hx_kS S0 M_Mo_defineFunction 5 NT [(.ref 192)] h (f_Mo_defineFunction h) cvU := by
  have hm := m_Mo_defineFunction
  show hx_P S0 M_Mo_defineFunction 5 0 [(0, (.ref 192))] [] NT h (f_Mo_defineFunction h) (hx_Rc cvU NT)
  unfold f_Mo_defineFunction
  refine hp_cVS (M2 := M_Mo_has) hm (at1 0 rfl) (as := [(.int (1 : Int32))]) (rest := []) (z := 192) rfl (by exact trivial) (pc' := 2) rfl 0 rfl (lw_g (lw_at lw_m10 20 rfl) rfl) y_Mo_has rfl (d2 := 2) ⟨le_b rfl, pd_Mo_has, le_b rfl⟩ (le_b rfl) og_192 (k_Mo_has (1 : Int32) h) (fun a1 h1 => ?_)
  refine hp_if_ne hm at0 rfl (by exact trivial) (pc' := 5) rfl 13 rfl (tgt := 9) rfl (fun c15 => ?_) (fun c15 => ?_)
  · refine hp_cVS (M2 := M_Mo_pop) hm (at1 1 rfl) (as := []) (rest := []) (z := 192) rfl (by exact trivial) (pc' := 10) rfl 1 rfl (lw_g (lw_at lw_m10 24 rfl) rfl) y_Mo_pop rfl (d2 := 1) ⟨le_b rfl, pd_Mo_pop, le_b rfl⟩ (le_b rfl) og_192 (k_Mo_pop h1) (fun a2 h2 => ?_)
    refine hp_b hm (at1 2 rfl) (L' := [(1, (.int a2)), (0, (.ref 192))]) (st' := [(.int (2 : Int32)), (.int (rdI h2 192 91))]) rfl (by exact og_192) (pc' := 19) rfl ?_
    refine hp_ic_ne hm at0 rfl (by exact trivial) (pc' := 19) rfl 11 rfl (tgt := 28) rfl (fun c14 => ?_) (fun c14 => ?_)
    · refine hp_cI (L0 := [(1, (.int a2)), (0, (.ref 192))]) (s0 := []) 40 47 ?_ (fun c7 => ?_) (fun c7 => ?_)
      · refine hp_or ?_
        refine hp_if_lt hm (at1 3 rfl) rfl (by exact trivial) (pc' := 29) rfl 3 rfl (tgt := 40) rfl (fun c4 => ?_) (fun c4 => ?_)
        · exact hp_l0 (fun _ e => e)
        · refine hp_decn ?_
          refine hp_ic_lt hm (at1 4 rfl) rfl (by exact og_192) (pc' := 37) rfl 2 rfl (tgt := 47) rfl (fun c3 => ?_) (fun c3 => ?_)
          · exact hp_l0 (fun _ e => e)
          · exact hp_l0 (fun _ e => e)
      · refine hp_cVS (M2 := M_Mo_fail) hm (at1 5 rfl) (as := [(.int (6 : Int32))]) (rest := []) (z := 192) rfl (by exact trivial) (pc' := 43) rfl 4 rfl (lw_g (lw_at lw_m10 4 rfl) rfl) y_Mo_fail rfl (d2 := 1) ⟨le_b rfl, pd_Mo_fail, le_b rfl⟩ (le_b rfl) og_192 (k_Mo_fail (6 : Int32) h2) (fun _ h3 => ?_)
        exact hp_vr hm 5 rfl rfl (fun _ e => e)
      · refine hp_z hm (at1 6 rfl) (fun (v8 : Int32) => [(2, (.int v8)), (1, (.int a2)), (0, (.ref 192))]) (fun (v8 : Int32) => []) rfl (by exact og_192) (pc' := 52) rfl (fun v8 => ?_)
        refine hp_z hm (at1 7 rfl) (fun (v9 : Int32) => [(3, (.int v9)), (2, (.int v8)), (1, (.int a2)), (0, (.ref 192))]) (fun (v9 : Int32) => []) rfl (by exact og_192) (pc' := 57) rfl (fun v9 => ?_)
        refine hp_cVS (M2 := M_Mo_pass) hm (at1 8 rfl) (as := [(.int (rdI h2 192 93)), (.int (45 : Int32)), (.int (45 : Int32)), (.int (0 : Int32))]) (rest := [(.ref 192)]) (z := 192) rfl (by exact og_192) (pc' := 68) rfl 6 rfl (lw_g (lw_at lw_m10 116 rfl) rfl) y_Mo_pass rfl (d2 := 4) ⟨le_b rfl, pd_Mo_pass, le_b rfl⟩ (le_b rfl) og_192 (k_Mo_pass (rdI h2 192 93) (45 : Int32) (45 : Int32) (0 : Int32) h2) (fun a10 h4 => ?_)
        refine hp_w hm (at1 9 rfl) (L' := [(3, (.int v9)), (2, (.int v8)), (1, (.int a2)), (0, (.ref 192))]) rfl (by exact og_192) (pc' := 74) rfl (fun h5 => ?_)
        refine hp_if_ne hm (at1 10 rfl) rfl (by exact og_192) (pc' := 78) rfl 8 rfl (tgt := 95) rfl (fun c13 => ?_) (fun c13 => ?_)
        · exact hp_vr hm 7 rfl rfl (fun _ e => e)
        · refine hp_GW hm (at1 11 rfl) (L' := [(3, (.int v9)), (2, (.int v8)), (1, (.int a2)), (0, (.ref 192))]) rfl (fun hP => (by exact ⟨og_192, ⟨og_222, hP⟩⟩)) (pc' := 88) rfl (fun q11 h6 => ?_)
          refine hp_GW hm (at1 12 rfl) (L' := [(3, (.int v9)), (2, (.int v8)), (1, (.int a2)), (0, (.ref 192))]) rfl (fun hP => (by exact ⟨og_192, ⟨og_223, hP⟩⟩)) (pc' := 95) rfl (fun q12 h7 => ?_)
          exact hp_vr hm 7 rfl rfl (fun _ e => e)
    · refine hp_cVS (M2 := M_Mo_fail) hm (at1 13 rfl) (as := [(.int (3 : Int32))]) (rest := []) (z := 192) rfl (by exact trivial) (pc' := 24) rfl 9 rfl (lw_g (lw_at lw_m10 4 rfl) rfl) y_Mo_fail rfl (d2 := 1) ⟨le_b rfl, pd_Mo_fail, le_b rfl⟩ (le_b rfl) og_192 (k_Mo_fail (3 : Int32) h2) (fun _ h8 => ?_)
      exact hp_vr hm 10 rfl rfl (fun _ e => e)
  · exact hp_vr hm 12 rfl rfl (fun _ e => e)
/-! HintHouseModel.endFunction()V -/
def M_Mo_endFunction : hM := (11, ⟨"HintHouseModel", "endFunction", "()V"⟩, prog_13_method_51_code, 2, (Option.none : Option Jvm.ClassFile.FieldType), [], [(0, [(.aload_n 0, 1, 0, 0, 0, .null), (.getfield 499, 3, 11, 99, 0, .null)]), (13, [(.aload_n 0, 1, 0, 0, 0, .null), (.getfield 499, 3, 11, 99, 0, .null), (.iconst 1, 1, 0, 0, 0, (.int (1 : Int32))), (.isub, 1, 0, 0, 0, .null), (.istore_n 1, 1, 0, 0, 0, .null)]), (20, [(.aload_n 0, 1, 0, 0, 0, .null), (.getfield 124, 3, 11, 104, 4, .null), (.iload_n 1, 1, 0, 0, 0, .null), (.iaload, 1, 0, 0, 0, .null)]), (60, [(.aload_n 0, 1, 0, 0, 0, .null), (.dup, 1, 0, 0, 0, .null), (.getfield 499, 3, 11, 99, 0, .null), (.iconst 1, 1, 0, 0, 0, (.int (1 : Int32))), (.isub, 1, 0, 0, 0, .null), (.putfield 499, 3, 11, 99, 0, .null)]), (70, [(.aload_n 0, 1, 0, 0, 0, .null), (.aload_n 0, 1, 0, 0, 0, .null), (.getfield 112, 3, 11, 100, 4, .null), (.iload_n 1, 1, 0, 0, 0, .null), (.iaload, 1, 0, 0, 0, .null), (.putfield 427, 3, 11, 92, 0, .null)]), (80, [(.aload_n 0, 1, 0, 0, 0, .null), (.aload_n 0, 1, 0, 0, 0, .null), (.getfield 115, 3, 11, 101, 4, .null), (.iload_n 1, 1, 0, 0, 0, .null), (.iaload, 1, 0, 0, 0, .null), (.putfield 496, 3, 11, 93, 0, .null)]), (29, [(.aload_n 0, 1, 0, 0, 0, .null), (.getfield 124, 3, 11, 104, 4, .null), (.iload_n 1, 1, 0, 0, 0, .null), (.dup2, 1, 0, 0, 0, .null), (.iaload, 1, 0, 0, 0, .null), (.iconst 1, 1, 0, 0, 0, (.int (1 : Int32))), (.isub, 1, 0, 0, 0, .null), (.iastore, 1, 0, 0, 0, .null)]), (39, [(.aload_n 0, 1, 0, 0, 0, .null), (.aload_n 0, 1, 0, 0, 0, .null), (.getfield 118, 3, 11, 102, 4, .null), (.iload_n 1, 1, 0, 0, 0, .null), (.iaload, 1, 0, 0, 0, .null), (.putfield 427, 3, 11, 92, 0, .null)]), (49, [(.aload_n 0, 1, 0, 0, 0, .null), (.aload_n 0, 1, 0, 0, 0, .null), (.getfield 121, 3, 11, 103, 4, .null), (.iload_n 1, 1, 0, 0, 0, .null), (.iaload, 1, 0, 0, 0, .null), (.putfield 496, 3, 11, 93, 0, .null)]), (7, [(.aload_n 0, 1, 0, 0, 0, .null), (.iconst 4, 1, 0, 0, 0, (.int (4 : Int32)))])], [(90, .return_, 1), (59, .return_, 1), (26, .ifCond .le 34, 3), (9, .invokevirtual 421, 3), (12, .return_, 1), (4, .ifCond .ne 9, 3)])
set_option maxRecDepth 100000 in
theorem m_Mo_endFunction : hx_mok M_Mo_endFunction = true := by decide +kernel
theorem pd_Mo_endFunction : (parseMethodDescriptor M_Mo_endFunction.2.1.desc).map (fun q => q.parameters.length) = some 0 := by decide +kernel
theorem y_Mo_endFunction : hx_okV M_Mo_endFunction := ⟨⟨lw_g (lw_at lw_m10 147 rfl) rfl, lw_g (lw_at lw_m10 146 rfl) rfl, qs164, lw_g (lw_at lw_m1 12 rfl) rfl, rfl, by decide, by decide, by decide⟩, rfl, by decide, plainFor_of_name (by decide)⟩
noncomputable def f_Mo_endFunction (h : hH) : Option (Unit × hH) :=
  if (rdI h 192 99) = 0 then (
    bS (f_Mo_fail (4 : Int32) h) fun _ h7 =>
    some ((), h7)
  ) else (
    lz (A := Int32) ((rdI h 192 99) - (1 : Int32)) fun v1 =>
    gd (vp_in v1 32) <|
    if (rdI h 230 (Int32.toNatClampNeg v1)) ≤ 0 then (
      lz (wrI h 192 99 ((rdI h 192 99) - (1 : Int32))) fun h1 =>
      gd (vp_in v1 32) <|
      lz (wrI h1 192 92 (rdI h1 226 (Int32.toNatClampNeg v1))) fun h2 =>
      gd (vp_in v1 32) <|
      lz (wrI h2 192 93 (rdI h2 227 (Int32.toNatClampNeg v1))) fun h3 =>
      some ((), h3)
    ) else (
      gd (vp_in v1 32) <|
      lz (wrI h 230 (Int32.toNatClampNeg v1) ((rdI h 230 (Int32.toNatClampNeg v1)) - (1 : Int32))) fun h4 =>
      gd (vp_in v1 32) <|
      lz (wrI h4 192 92 (rdI h4 228 (Int32.toNatClampNeg v1))) fun h5 =>
      gd (vp_in v1 32) <|
      lz (wrI h5 192 93 (rdI h5 229 (Int32.toNatClampNeg v1))) fun h6 =>
      some ((), h6)
    )
  )
set_option maxRecDepth 20000 in
theorem k_Mo_endFunction (h : hH) : hx_kS S0 M_Mo_endFunction 2 NT [(.ref 192)] h (f_Mo_endFunction h) cvU := by
  have hm := m_Mo_endFunction
  show hx_P S0 M_Mo_endFunction 2 0 [(0, (.ref 192))] [] NT h (f_Mo_endFunction h) (hx_Rc cvU NT)
  unfold f_Mo_endFunction
  refine hp_if_ne hm (at1 0 rfl) rfl (by exact og_192) (pc' := 4) rfl 5 rfl (tgt := 13) rfl (fun c9 => ?_) (fun c9 => ?_)
  · refine hp_z hm (at1 1 rfl) (fun (v1 : Int32) => [(1, (.int v1)), (0, (.ref 192))]) (fun (v1 : Int32) => []) rfl (by exact og_192) (pc' := 20) rfl (fun v1 => ?_)
    refine hp_G hm (at1 2 rfl) (L' := [(1, (.int v1)), (0, (.ref 192))]) (st' := [(.int (rdI h 230 (Int32.toNatClampNeg v1)))]) rfl (fun hP => (by exact ⟨og_192, ⟨og_230, hP⟩⟩)) (pc' := 26) rfl (fun q2 => ?_)
    refine hp_if_le hm at0 rfl (by exact trivial) (pc' := 26) rfl 2 rfl (tgt := 60) rfl (fun c8 => ?_) (fun c8 => ?_)
    · refine hp_w hm (at1 3 rfl) (L' := [(1, (.int v1)), (0, (.ref 192))]) rfl (by exact ⟨og_192, og_192⟩) (pc' := 70) rfl (fun h1 => ?_)
      refine hp_GW hm (at1 4 rfl) (L' := [(1, (.int v1)), (0, (.ref 192))]) rfl (fun hP => (by exact ⟨⟨og_192, ⟨og_226, hP⟩⟩, og_192⟩)) (pc' := 80) rfl (fun q3 h2 => ?_)
      refine hp_GW hm (at1 5 rfl) (L' := [(1, (.int v1)), (0, (.ref 192))]) rfl (fun hP => (by exact ⟨⟨og_192, ⟨og_227, hP⟩⟩, og_192⟩)) (pc' := 90) rfl (fun q4 h3 => ?_)
      exact hp_vr hm 0 rfl rfl (fun _ e => e)
    · refine hp_GW hm (at1 6 rfl) (L' := [(1, (.int v1)), (0, (.ref 192))]) rfl (fun hP => (by exact ⟨⟨og_192, ⟨og_230, hP⟩⟩, ⟨og_230, hP⟩⟩)) (pc' := 39) rfl (fun q5 h4 => ?_)
      refine hp_GW hm (at1 7 rfl) (L' := [(1, (.int v1)), (0, (.ref 192))]) rfl (fun hP => (by exact ⟨⟨og_192, ⟨og_228, hP⟩⟩, og_192⟩)) (pc' := 49) rfl (fun q6 h5 => ?_)
      refine hp_GW hm (at1 8 rfl) (L' := [(1, (.int v1)), (0, (.ref 192))]) rfl (fun hP => (by exact ⟨⟨og_192, ⟨og_229, hP⟩⟩, og_192⟩)) (pc' := 59) rfl (fun q7 h6 => ?_)
      exact hp_vr hm 1 rfl rfl (fun _ e => e)
  · refine hp_cVS (M2 := M_Mo_fail) hm (at1 9 rfl) (as := [(.int (4 : Int32))]) (rest := []) (z := 192) rfl (by exact trivial) (pc' := 9) rfl 3 rfl (lw_g (lw_at lw_m10 4 rfl) rfl) y_Mo_fail rfl (d2 := 1) ⟨le_b rfl, pd_Mo_fail, le_b rfl⟩ (le_b rfl) og_192 (k_Mo_fail (4 : Int32) h) (fun _ h7 => ?_)
    exact hp_vr hm 4 rfl rfl (fun _ e => e)
/-! HintHouseModel.longOf(I)I -/
def M_Mo_longOf : hM := (11, ⟨"HintHouseModel", "longOf", "(I)I"⟩, prog_13_method_55_code, 2, (Option.some Jvm.ClassFile.FieldType.int), [], [(0, [(.aload_n 0, 1, 0, 0, 0, .null), (.getfield 76, 3, 11, 48, 4, .null), (.iload_n 1, 1, 0, 0, 0, .null), (.iaload, 1, 0, 0, 0, .null), (.aload_n 0, 1, 0, 0, 0, .null), (.getfield 79, 3, 11, 49, 4, .null), (.iload_n 1, 1, 0, 0, 0, .null), (.iaload, 1, 0, 0, 0, .null), (.aload_n 0, 1, 0, 0, 0, .null), (.getfield 439, 3, 11, 65, 0, .null), (.aload_n 0, 1, 0, 0, 0, .null), (.getfield 442, 3, 11, 66, 0, .null)])], [(20, .invokestatic 520, 3), (23, .ireturn, 1)])
set_option maxRecDepth 100000 in
theorem m_Mo_longOf : hx_mok M_Mo_longOf = true := by decide +kernel
theorem pd_Mo_longOf : (parseMethodDescriptor M_Mo_longOf.2.1.desc).map (fun q => q.parameters.length) = some 1 := by decide +kernel
theorem y_Mo_longOf : hx_okV M_Mo_longOf := ⟨⟨lw_g (lw_at lw_m10 151 rfl) rfl, lw_g (lw_at lw_m10 150 rfl) rfl, qs165, lw_g (lw_at lw_m1 12 rfl) rfl, rfl, by decide, by decide, by decide⟩, rfl, by decide, plainFor_of_name (by decide)⟩
noncomputable def f_Mo_longOf (x1 : Int32) (h : hH) : Option Int32 :=
  gd (vp_in x1 204) <|
  bP (f_Mo_by (rdI h 214 (Int32.toNatClampNeg x1)) (rdI h 215 (Int32.toNatClampNeg x1)) (rdI h 192 65) (rdI h 192 66)) fun a2 =>
  some a2
set_option maxRecDepth 20000 in
theorem k_Mo_longOf (x1 : Int32) (h : hH) : hx_kP S0 M_Mo_longOf 5 NT [(.ref 192), (.int x1)] h (f_Mo_longOf x1 h) cvI := by
  have hm := m_Mo_longOf
  show hx_P S0 M_Mo_longOf 5 0 [(0, (.ref 192)), (1, (.int x1))] [] NT h (f_Mo_longOf x1 h) (hx_Rp cvI NT h)
  unfold f_Mo_longOf
  refine hp_G hm (at1 0 rfl) (L' := [(0, (.ref 192)), (1, (.int x1))]) (st' := [(.int (rdI h 192 66)), (.int (rdI h 192 65)), (.int (rdI h 215 (Int32.toNatClampNeg x1))), (.int (rdI h 214 (Int32.toNatClampNeg x1)))]) rfl (fun hP => (by exact ⟨⟨⟨⟨⟨og_192, ⟨og_214, hP⟩⟩, og_192⟩, ⟨og_215, hP⟩⟩, og_192⟩, og_192⟩)) (pc' := 20) rfl (fun q1 => ?_)
  refine hp_cSP (M2 := M_Mo_by) hm at0 (as := [(.int (rdI h 214 (Int32.toNatClampNeg x1))), (.int (rdI h 215 (Int32.toNatClampNeg x1))), (.int (rdI h 192 65)), (.int (rdI h 192 66))]) (rest := []) rfl (by exact trivial) (pc' := 20) rfl 0 rfl (lw_g (lw_at lw_m10 36 rfl) rfl) y_Mo_by rfl (d2 := 4) ⟨le_b rfl, pd_Mo_by, le_b rfl⟩ (le_b rfl) (k_Mo_by (rdI h 214 (Int32.toNatClampNeg x1)) (rdI h 215 (Int32.toNatClampNeg x1)) (rdI h 192 65) (rdI h 192 66) h) (fun a2 => ?_)
  exact hp_ir hm at0 rfl (by exact trivial) (pc' := 23) rfl 1 rfl rfl (vp_nar_int _) (fun _ e => e)
/-! HintHouseModel.unknown(I)V -/
def M_Mo_unknown : hM := (11, ⟨"HintHouseModel", "unknown", "(I)V"⟩, prog_13_method_68_code, 2, (Option.none : Option Jvm.ClassFile.FieldType), [], [(0, [(.aload_n 0, 1, 0, 0, 0, .null), (.getfield 106, 3, 11, 96, 4, .null), (.iload_n 1, 1, 0, 0, 0, .null), (.iaload, 1, 0, 0, 0, .null)]), (17, [(.aload_n 0, 1, 0, 0, 0, .null), (.aload_n 0, 1, 0, 0, 0, .null), (.getfield 109, 3, 11, 97, 4, .null), (.iload_n 1, 1, 0, 0, 0, .null), (.iaload, 1, 0, 0, 0, .null), (.aload_n 0, 1, 0, 0, 0, .null), (.getfield 106, 3, 11, 96, 4, .null), (.iload_n 1, 1, 0, 0, 0, .null), (.iaload, 1, 0, 0, 0, .null), (.iconst 1, 1, 0, 0, 0, (.int (1 : Int32)))]), (9, [(.aload_n 0, 1, 0, 0, 0, .null), (.iconst 3, 1, 0, 0, 0, (.int (3 : Int32)))])], [(31, .invokevirtual 568, 3), (34, .return_, 1), (11, .invokevirtual 421, 3), (14, .goto 20, 3), (6, .ifCond .ge 11, 3)])
set_option maxRecDepth 100000 in
theorem m_Mo_unknown : hx_mok M_Mo_unknown = true := by decide +kernel
theorem pd_Mo_unknown : (parseMethodDescriptor M_Mo_unknown.2.1.desc).map (fun q => q.parameters.length) = some 1 := by decide +kernel
theorem y_Mo_unknown : hx_okV M_Mo_unknown := ⟨⟨lw_g (lw_at lw_m10 155 rfl) rfl, lw_g (lw_at lw_m10 154 rfl) rfl, qs166, lw_g (lw_at lw_m1 12 rfl) rfl, rfl, by decide, by decide, by decide⟩, rfl, by decide, plainFor_of_name (by decide)⟩
noncomputable def f_Mo_unknown (x1 : Int32) (h : hH) : Option (Unit × hH) :=
  gd (vp_in x1 256) <|
  if 0 ≤ (rdI h 224 (Int32.toNatClampNeg x1)) then (
    gd (vp_in x1 256) <|
    bS (f_Mo_call (rdI h 225 (Int32.toNatClampNeg x1)) (rdI h 224 (Int32.toNatClampNeg x1)) (1 : Int32) h) fun _ h1 =>
    some ((), h1)
  ) else (
    bS (f_Mo_fail (3 : Int32) h) fun _ h2 =>
    some ((), h2)
  )
set_option maxRecDepth 20000 in
theorem k_Mo_unknown (x1 : Int32) (h : hH) : hx_kS S0 M_Mo_unknown 3 NT [(.ref 192), (.int x1)] h (f_Mo_unknown x1 h) cvU := by
  have hm := m_Mo_unknown
  show hx_P S0 M_Mo_unknown 3 0 [(0, (.ref 192)), (1, (.int x1))] [] NT h (f_Mo_unknown x1 h) (hx_Rc cvU NT)
  unfold f_Mo_unknown
  refine hp_G hm (at1 0 rfl) (L' := [(0, (.ref 192)), (1, (.int x1))]) (st' := [(.int (rdI h 224 (Int32.toNatClampNeg x1)))]) rfl (fun hP => (by exact ⟨og_192, ⟨og_224, hP⟩⟩)) (pc' := 6) rfl (fun q1 => ?_)
  refine hp_if_ge hm at0 rfl (by exact trivial) (pc' := 6) rfl 4 rfl (tgt := 17) rfl (fun c3 => ?_) (fun c3 => ?_)
  · refine hp_G hm (at1 1 rfl) (L' := [(0, (.ref 192)), (1, (.int x1))]) (st' := [(.int (1 : Int32)), (.int (rdI h 224 (Int32.toNatClampNeg x1))), (.int (rdI h 225 (Int32.toNatClampNeg x1))), (.ref 192)]) rfl (fun hP => (by exact ⟨⟨⟨og_192, ⟨og_225, hP⟩⟩, og_192⟩, ⟨og_224, hP⟩⟩)) (pc' := 31) rfl (fun q2 => ?_)
    refine hp_cVS (M2 := M_Mo_call) hm at0 (as := [(.int (rdI h 225 (Int32.toNatClampNeg x1))), (.int (rdI h 224 (Int32.toNatClampNeg x1))), (.int (1 : Int32))]) (rest := []) (z := 192) rfl (by exact trivial) (pc' := 31) rfl 0 rfl (lw_g (lw_at lw_m10 136 rfl) rfl) y_Mo_call rfl (d2 := 2) ⟨le_b rfl, pd_Mo_call, le_b rfl⟩ (le_b rfl) og_192 (k_Mo_call (rdI h 225 (Int32.toNatClampNeg x1)) (rdI h 224 (Int32.toNatClampNeg x1)) (1 : Int32) h) (fun _ h1 => ?_)
    exact hp_vr hm 1 rfl rfl (fun _ e => e)
  · refine hp_cVS (M2 := M_Mo_fail) hm (at1 2 rfl) (as := [(.int (3 : Int32))]) (rest := []) (z := 192) rfl (by exact trivial) (pc' := 11) rfl 2 rfl (lw_g (lw_at lw_m10 4 rfl) rfl) y_Mo_fail rfl (d2 := 1) ⟨le_b rfl, pd_Mo_fail, le_b rfl⟩ (le_b rfl) og_192 (k_Mo_fail (3 : Int32) h) (fun _ h2 => ?_)
    refine hp_goto hm 3 rfl (tgt := 34) rfl ?_
    exact hp_vr hm 1 rfl rfl (fun _ e => e)
/-! HintHouseModel.stacks(I)V -/
def M_Mo_stacks : hM := (11, ⟨"HintHouseModel", "stacks", "(I)V"⟩, prog_13_method_73_code, 5, (Option.none : Option Jvm.ClassFile.FieldType), [], [(0, [(.iload_n 1, 1, 0, 0, 0, .null)]), (80, [(.aload_n 0, 1, 0, 0, 0, .null), (.iconst 1, 1, 0, 0, 0, (.int (1 : Int32)))]), (88, [(.aload_n 0, 1, 0, 0, 0, .null), (.aload_n 0, 1, 0, 0, 0, .null), (.getfield 91, 3, 11, 55, 4, .null), (.aload_n 0, 1, 0, 0, 0, .null), (.getfield 418, 3, 11, 56, 0, .null), (.iconst 1, 1, 0, 0, 0, (.int (1 : Int32))), (.isub, 1, 0, 0, 0, .null), (.iaload, 1, 0, 0, 0, .null), (.i2l, 1, 0, 0, 0, .null)]), (105, [(.aload_n 0, 1, 0, 0, 0, .null), (.dup, 1, 0, 0, 0, .null), (.getfield 418, 3, 11, 56, 0, .null), (.aload_n 0, 1, 0, 0, 0, .null), (.iconst 1, 1, 0, 0, 0, (.int (1 : Int32)))]), (122, [(.iconst 0, 1, 0, 0, 0, (.int (0 : Int32)))]), (118, [(.iconst 1, 1, 0, 0, 0, (.int (1 : Int32)))]), (123, [(.isub, 1, 0, 0, 0, .null), (.putfield 418, 3, 11, 56, 0, .null)]), (128, [(.aload_n 0, 1, 0, 0, 0, .null), (.iconst 0, 1, 0, 0, 0, (.int (0 : Int32))), (.putfield 418, 3, 11, 56, 0, .null)]), (134, [(.aload_n 0, 1, 0, 0, 0, .null), (.iconst 2, 1, 0, 0, 0, (.int (2 : Int32)))]), (142, [(.aload_n 0, 1, 0, 0, 0, .null), (.getfield 91, 3, 11, 55, 4, .null), (.aload_n 0, 1, 0, 0, 0, .null), (.getfield 418, 3, 11, 56, 0, .null), (.iconst 1, 1, 0, 0, 0, (.int (1 : Int32))), (.isub, 1, 0, 0, 0, .null), (.iaload, 1, 0, 0, 0, .null), (.istore_n 2, 1, 0, 0, 0, .null)]), (154, [(.aload_n 0, 1, 0, 0, 0, .null), (.getfield 91, 3, 11, 55, 4, .null), (.aload_n 0, 1, 0, 0, 0, .null), (.getfield 418, 3, 11, 56, 0, .null), (.iconst 1, 1, 0, 0, 0, (.int (1 : Int32))), (.isub, 1, 0, 0, 0, .null), (.aload_n 0, 1, 0, 0, 0, .null), (.getfield 91, 3, 11, 55, 4, .null), (.aload_n 0, 1, 0, 0, 0, .null), (.getfield 418, 3, 11, 56, 0, .null), (.iconst 2, 1, 0, 0, 0, (.int (2 : Int32))), (.isub, 1, 0, 0, 0, .null), (.iaload, 1, 0, 0, 0, .null), (.iastore, 1, 0, 0, 0, .null)]), (176, [(.aload_n 0, 1, 0, 0, 0, .null), (.getfield 91, 3, 11, 55, 4, .null), (.aload_n 0, 1, 0, 0, 0, .null), (.getfield 418, 3, 11, 56, 0, .null), (.iconst 2, 1, 0, 0, 0, (.int (2 : Int32))), (.isub, 1, 0, 0, 0, .null), (.iload_n 2, 1, 0, 0, 0, .null), (.iastore, 1, 0, 0, 0, .null)]), (189, [(.aload_n 0, 1, 0, 0, 0, .null), (.aload_n 0, 1, 0, 0, 0, .null), (.getfield 418, 3, 11, 56, 0, .null), (.i2l, 1, 0, 0, 0, .null)]), (307, [(.aload_n 0, 1, 0, 0, 0, .null), (.iconst 2, 1, 0, 0, 0, (.int (2 : Int32)))]), (315, [(.aload_n 0, 1, 0, 0, 0, .null), (.aload_n 0, 1, 0, 0, 0, .null), (.getfield 460, 3, 11, 72, 0, .null), (.aload_n 0, 1, 0, 0, 0, .null)]), (327, [(.istore_n 2, 1, 0, 0, 0, .null), (.aload_n 0, 1, 0, 0, 0, .null), (.aload_n 0, 1, 0, 0, 0, .null), (.getfield 463, 3, 11, 73, 0, .null), (.aload_n 0, 1, 0, 0, 0, .null)]), (340, [(.istore_n 3, 1, 0, 0, 0, .null), (.aload_n 0, 1, 0, 0, 0, .null), (.getfield 409, 3, 11, 59, 0, .null)]), (348, [(.aload_n 0, 1, 0, 0, 0, .null), (.iload_n 2, 1, 0, 0, 0, .null), (.iload_n 3, 1, 0, 0, 0, .null)]), (354, [(.iconst 2, 1, 0, 0, 0, (.int (2 : Int32))), (.idiv, 1, 0, 0, 0, .null), (.istore 4, 2, 0, 0, 0, .null)]), (358, [(.aload_n 0, 1, 0, 0, 0, .null), (.iload_n 3, 1, 0, 0, 0, .null), (.iload 4, 2, 0, 0, 0, .null), (.i2l, 1, 0, 0, 0, .null)]), (366, [(.aload_n 0, 1, 0, 0, 0, .null), (.iload_n 2, 1, 0, 0, 0, .null), (.iload 4, 2, 0, 0, 0, .null), (.i2l, 1, 0, 0, 0, .null), (.lneg, 1, 0, 0, 0, .null)]), (376, [(.aload_n 0, 1, 0, 0, 0, .null), (.iconst 1, 1, 0, 0, 0, (.int (1 : Int32)))]), (384, [(.aload_n 0, 1, 0, 0, 0, .null), (.aload_n 0, 1, 0, 0, 0, .null), (.getfield 460, 3, 11, 72, 0, .null), (.aload_n 0, 1, 0, 0, 0, .null)]), (396, [(.istore_n 2, 1, 0, 0, 0, .null), (.aload_n 0, 1, 0, 0, 0, .null), (.getfield 409, 3, 11, 59, 0, .null)]), (404, [(.aload_n 0, 1, 0, 0, 0, .null), (.getfield 82, 3, 11, 50, 4, .null), (.iload_n 2, 1, 0, 0, 0, .null), (.aload_n 0, 1, 0, 0, 0, .null), (.getfield 82, 3, 11, 50, 4, .null), (.iload_n 2, 1, 0, 0, 0, .null), (.iaload, 1, 0, 0, 0, .null), (.aload_n 0, 1, 0, 0, 0, .null), (.getfield 433, 3, 11, 63, 0, .null)]), (426, [(.iconst 0, 1, 0, 0, 0, (.int (0 : Int32)))]), (422, [(.iconst 1, 1, 0, 0, 0, (.int (1 : Int32)))]), (427, [(.aload_n 0, 1, 0, 0, 0, .null), (.getfield 436, 3, 11, 64, 0, .null)]), (438, [(.iconst 0, 1, 0, 0, 0, (.int (0 : Int32)))]), (434, [(.iconst 2, 1, 0, 0, 0, (.int (2 : Int32)))]), (439, [(.ior, 1, 0, 0, 0, .null), (.iconst (-1), 1, 0, 0, 0, (.int (-1 : Int32))), (.ixor, 1, 0, 0, 0, .null), (.iand, 1, 0, 0, 0, .null), (.iastore, 1, 0, 0, 0, .null)]), (461, [(.aload_n 0, 1, 0, 0, 0, .null)]), (466, [(.aload_n 0, 1, 0, 0, 0, .null)]), (471, [(.aload_n 0, 1, 0, 0, 0, .null), (.iconst 1, 1, 0, 0, 0, (.int (1 : Int32)))]), (479, [(.aload_n 0, 1, 0, 0, 0, .null)]), (483, [(.istore_n 2, 1, 0, 0, 0, .null), (.aload_n 0, 1, 0, 0, 0, .null), (.aload_n 0, 1, 0, 0, 0, .null), (.getfield 460, 3, 11, 72, 0, .null), (.iload_n 2, 1, 0, 0, 0, .null)]), (493, [(.istore_n 3, 1, 0, 0, 0, .null), (.aload_n 0, 1, 0, 0, 0, .null), (.getfield 409, 3, 11, 59, 0, .null)]), (501, [(.aload_n 0, 1, 0, 0, 0, .null), (.iload_n 3, 1, 0, 0, 0, .null)]), (506, [(.istore 4, 2, 0, 0, 0, .null), (.aload_n 0, 1, 0, 0, 0, .null), (.iload_n 3, 1, 0, 0, 0, .null), (.iload_n 1, 1, 0, 0, 0, .null), (.bipush 47, 2, 0, 0, 0, (.int (47 : Int32)))]), (530, [(.lconst 0, 1, 0, 0, 0, (.long (0 : Int64)))]), (516, [(.aload_n 0, 1, 0, 0, 0, .null), (.iload 4, 2, 0, 0, 0, .null), (.i2l, 1, 0, 0, 0, .null)]), (523, [(.iload 4, 2, 0, 0, 0, .null), (.i2l, 1, 0, 0, 0, .null), (.lsub, 1, 0, 0, 0, .null)]), (534, [(.aload_n 0, 1, 0, 0, 0, .null), (.iload_n 2, 1, 0, 0, 0, .null), (.putfield 451, 3, 11, 69, 0, .null)]), (539, [(.aload_n 0, 1, 0, 0, 0, .null), (.iload_n 2, 1, 0, 0, 0, .null), (.putfield 454, 3, 11, 70, 0, .null)]), (445, [(.aload_n 0, 1, 0, 0, 0, .null), (.iload_n 1, 1, 0, 0, 0, .null), (.bipush 42, 2, 0, 0, 0, (.int (42 : Int32)))]), (456, [(.iconst 0, 1, 0, 0, 0, (.int (0 : Int32)))]), (452, [(.iconst 1, 1, 0, 0, 0, (.int (1 : Int32)))]), (545, [(.aload_n 0, 1, 0, 0, 0, .null), (.iload_n 1, 1, 0, 0, 0, .null)]), (199, [(.aload_n 0, 1, 0, 0, 0, .null), (.iconst 1, 1, 0, 0, 0, (.int (1 : Int32)))]), (207, [(.aload_n 0, 1, 0, 0, 0, .null)]), (211, [(.istore_n 2, 1, 0, 0, 0, .null), (.iload_n 2, 1, 0, 0, 0, .null), (.iconst 1, 1, 0, 0, 0, (.int (1 : Int32)))]), (217, [(.iload_n 2, 1, 0, 0, 0, .null), (.aload_n 0, 1, 0, 0, 0, .null), (.getfield 418, 3, 11, 56, 0, .null)]), (225, [(.aload_n 0, 1, 0, 0, 0, .null), (.iconst 1, 1, 0, 0, 0, (.int (1 : Int32)))]), (231, [(.aload_n 0, 1, 0, 0, 0, .null), (.getfield 91, 3, 11, 55, 4, .null), (.aload_n 0, 1, 0, 0, 0, .null), (.getfield 418, 3, 11, 56, 0, .null), (.iload_n 2, 1, 0, 0, 0, .null), (.isub, 1, 0, 0, 0, .null), (.iaload, 1, 0, 0, 0, .null), (.istore_n 3, 1, 0, 0, 0, .null)]), (243, [(.iload_n 1, 1, 0, 0, 0, .null), (.bipush 38, 2, 0, 0, 0, (.int (38 : Int32)))]), (249, [(.aload_n 0, 1, 0, 0, 0, .null), (.getfield 418, 3, 11, 56, 0, .null), (.iload_n 2, 1, 0, 0, 0, .null), (.isub, 1, 0, 0, 0, .null), (.istore 4, 2, 0, 0, 0, .null)]), (257, [(.iload 4, 2, 0, 0, 0, .null), (.aload_n 0, 1, 0, 0, 0, .null), (.getfield 418, 3, 11, 56, 0, .null), (.iconst 1, 1, 0, 0, 0, (.int (1 : Int32))), (.isub, 1, 0, 0, 0, .null)]), (268, [(.aload_n 0, 1, 0, 0, 0, .null), (.getfield 91, 3, 11, 55, 4, .null), (.iload 4, 2, 0, 0, 0, .null), (.aload_n 0, 1, 0, 0, 0, .null), (.getfield 91, 3, 11, 55, 4, .null), (.iload 4, 2, 0, 0, 0, .null), (.iconst 1, 1, 0, 0, 0, (.int (1 : Int32))), (.iadd, 1, 0, 0, 0, .null), (.iaload, 1, 0, 0, 0, .null), (.iastore, 1, 0, 0, 0, .null)]), (284, [(.iinc 4 1, 3, 0, 0, 0, (.int (1 : Int32)))]), (290, [(.aload_n 0, 1, 0, 0, 0, .null), (.dup, 1, 0, 0, 0, .null), (.getfield 418, 3, 11, 56, 0, .null), (.iconst 1, 1, 0, 0, 0, (.int (1 : Int32))), (.isub, 1, 0, 0, 0, .null), (.putfield 418, 3, 11, 56, 0, .null)]), (300, [(.aload_n 0, 1, 0, 0, 0, .null), (.iload_n 3, 1, 0, 0, 0, .null), (.i2l, 1, 0, 0, 0, .null)])], [(1, .tableswitch 544 32 47 #[79, 104, 127, 133, 188, 198, 198, 306, 544, 375, 444, 444, 460, 465, 470, 470], 79), (82, .invokevirtual 576, 3), (104, .return_, 1), (101, .invokevirtual 564, 3), (85, .ifCond .eq 19, 3), (112, .invokevirtual 576, 3), (119, .goto 4, 3), (115, .ifCond .eq 7, 3), (127, .return_, 1), (133, .return_, 1), (136, .invokevirtual 576, 3), (188, .return_, 1), (139, .ifCond .eq 49, 3), (195, .invokevirtual 564, 3), (198, .return_, 1), (309, .invokevirtual 576, 3), (375, .return_, 1), (321, .invokevirtual 579, 3), (324, .invokevirtual 582, 3), (334, .invokevirtual 579, 3), (337, .invokevirtual 582, 3), (351, .invokevirtual 627, 3), (363, .invokevirtual 630, 3), (372, .invokevirtual 630, 3), (345, .ifCond .ne 30, 3), (312, .ifCond .eq 63, 3), (378, .invokevirtual 576, 3), (444, .return_, 1), (390, .invokevirtual 579, 3), (393, .invokevirtual 582, 3), (423, .goto 4, 3), (419, .ifCond .eq 7, 3), (435, .goto 4, 3), (431, .ifCond .eq 7, 3), (401, .ifCond .ne 43, 3), (381, .ifCond .eq 63, 3), (462, .invokevirtual 638, 3), (465, .return_, 1), (467, .invokevirtual 641, 3), (470, .return_, 1), (473, .invokevirtual 576, 3), (544, .return_, 1), (480, .invokevirtual 579, 3), (490, .invokevirtual 582, 3), (503, .invokevirtual 644, 3), (520, .invokevirtual 647, 3), (527, .goto 4, 3), (513, .if_icmp .ne 17, 3), (531, .invokevirtual 630, 3), (498, .ifCond .ne 46, 3), (476, .ifCond .eq 68, 3), (453, .goto 4, 3), (449, .if_icmp .ne 7, 3), (457, .invokevirtual 634, 3), (460, .return_, 1), (547, .invokevirtual 650, 3), (550, .return_, 1), (201, .invokevirtual 576, 3), (306, .return_, 1), (208, .invokevirtual 579, 3), (222, .if_icmp .le 9, 3), (214, .if_icmp .lt 11, 3), (227, .invokevirtual 421, 3), (230, .return_, 1), (287, .goto (-30), 3), (265, .if_icmp .ge 25, 3), (246, .if_icmp .ne 54, 3), (303, .invokevirtual 564, 3), (204, .ifCond .eq 102, 3)])
set_option maxRecDepth 100000 in
theorem m_Mo_stacks : hx_mok M_Mo_stacks = true := by decide +kernel
theorem pd_Mo_stacks : (parseMethodDescriptor M_Mo_stacks.2.1.desc).map (fun q => q.parameters.length) = some 1 := by decide +kernel
theorem y_Mo_stacks : hx_okV M_Mo_stacks := ⟨⟨lw_g (lw_at lw_m10 131 rfl) rfl, lw_g (lw_at lw_m10 130 rfl) rfl, qs160, lw_g (lw_at lw_m1 12 rfl) rfl, rfl, by decide, by decide, by decide⟩, rfl, by decide, plainFor_of_name (by decide)⟩
noncomputable def f_Mo_stacks (x1 : Int32) (h : hH) : Option (Unit × hH) :=
  bE (P := Unit) (X := (Unit × hH)) (
    bE (P := Unit) (X := (Unit ⊕ (Unit × hH))) (
      bE (P := Unit) (X := (Unit ⊕ (Unit ⊕ (Unit × hH)))) (
        bE (P := Unit) (X := (Unit ⊕ (Unit ⊕ (Unit ⊕ (Unit × hH))))) (
          if x1 = (32 : Int32) then (
            bS (f_Mo_has (1 : Int32) h) fun a5 h1 =>
            if a5 = 0 then (
              some (.inr (.inr (.inr (.inr ((), h1)))))
            ) else (
              gd (vp_in ((rdI h1 192 56) - (1 : Int32)) 256) <|
              bS (f_Mo_push (Int32.toInt64 (rdI h1 219 (Int32.toNatClampNeg ((rdI h1 192 56) - (1 : Int32))))) h1) fun _ h2 =>
              some (.inr (.inr (.inr (.inr ((), h2)))))
            )
          ) else (
            if x1 = (33 : Int32) then (
              bS (f_Mo_has (1 : Int32) h) fun a9 h3 =>
              lz (A := Int32) (if a9 = 0 then (0 : Int32) else (1 : Int32)) fun p10 =>
              lz (wrI h3 192 56 ((rdI h 192 56) - p10)) fun h4 =>
              some (.inr (.inr (.inr (.inr ((), h4)))))
            ) else (
              if x1 = (34 : Int32) then (
                lz (wrI h 192 56 (0 : Int32)) fun h5 =>
                some (.inr (.inr (.inr (.inr ((), h5)))))
              ) else (
                if x1 = (35 : Int32) then (
                  bS (f_Mo_has (2 : Int32) h) fun a14 h6 =>
                  if a14 = 0 then (
                    some (.inr (.inr (.inr (.inr ((), h6)))))
                  ) else (
                    gd (vp_in ((rdI h6 192 56) - (1 : Int32)) 256) <|
                    lz (A := Int32) (rdI h6 219 (Int32.toNatClampNeg ((rdI h6 192 56) - (1 : Int32)))) fun v15 =>
                    gd (vp_in ((rdI h6 192 56) - (2 : Int32)) 256 ∧ vp_in ((rdI h6 192 56) - (1 : Int32)) 256) <|
                    lz (wrI h6 219 (Int32.toNatClampNeg ((rdI h6 192 56) - (1 : Int32))) (rdI h6 219 (Int32.toNatClampNeg ((rdI h6 192 56) - (2 : Int32))))) fun h7 =>
                    gd (vp_in ((rdI h7 192 56) - (2 : Int32)) 256) <|
                    lz (wrI h7 219 (Int32.toNatClampNeg ((rdI h7 192 56) - (2 : Int32))) v15) fun h8 =>
                    some (.inr (.inr (.inr (.inr ((), h8)))))
                  )
                ) else (
                  if x1 = (36 : Int32) then (
                    bS (f_Mo_push (Int32.toInt64 (rdI h 192 56)) h) fun _ h9 =>
                    some (.inr (.inr (.inr (.inr ((), h9)))))
                  ) else (
                    if x1 = (37 : Int32) ∨ x1 = (38 : Int32) then (
                      some (.inr (.inr (.inr (.inl ()))))
                    ) else (
                      if x1 = (39 : Int32) then (
                        bS (f_Mo_has (2 : Int32) h) fun a23 h10 =>
                        if a23 = 0 then (
                          some (.inr (.inr (.inr (.inr ((), h10)))))
                        ) else (
                          bS (f_Mo_pop h10) fun a24 h11 =>
                          bS (f_Mo_pointOf (rdI h10 192 72) a24 h11) fun a25 h12 =>
                          bS (f_Mo_pop h12) fun a26 h13 =>
                          bS (f_Mo_pointOf (rdI h12 192 73) a26 h13) fun a27 h14 =>
                          if (rdI h14 192 59) = 0 then (
                            bP (f_Mo_between a25 a27 h14) fun a28 =>
                            lz (A := Int32) (a28 / (2 : Int32)) fun v29 =>
                            bS (f_Mo_move a27 (Int32.toInt64 v29) h14) fun _ h15 =>
                            bS (f_Mo_move a25 (-(Int32.toInt64 v29)) h15) fun _ h16 =>
                            some (.inr (.inr (.inr (.inr ((), h16)))))
                          ) else (
                            some (.inr (.inr (.inr (.inr ((), h14)))))
                          )
                        )
                      ) else (
                        if x1 = (41 : Int32) then (
                          bS (f_Mo_has (1 : Int32) h) fun a33 h17 =>
                          if a33 = 0 then (
                            some (.inr (.inr (.inr (.inr ((), h17)))))
                          ) else (
                            bS (f_Mo_pop h17) fun a34 h18 =>
                            bS (f_Mo_pointOf (rdI h17 192 72) a34 h18) fun a35 h19 =>
                            if (rdI h19 192 59) = 0 then (
                              gd (vp_in a35 204) <|
                              lz (A := Int32) (if (rdI h19 192 63) = 0 then (0 : Int32) else (1 : Int32)) fun p37 =>
                              lz (A := Int32) (if (rdI h19 192 64) = 0 then (0 : Int32) else (2 : Int32)) fun p39 =>
                              gd (vp_in a35 204) <|
                              lz (wrI h19 216 (Int32.toNatClampNeg a35) ((rdI h19 216 (Int32.toNatClampNeg a35)) &&& ((p37 ||| p39) ^^^ (-1 : Int32)))) fun h20 =>
                              some (.inr (.inr (.inr (.inr ((), h20)))))
                            ) else (
                              some (.inr (.inr (.inr (.inr ((), h19)))))
                            )
                          )
                        ) else (
                          if x1 = (42 : Int32) ∨ x1 = (43 : Int32) then (
                            some (.inr (.inl ()))
                          ) else (
                            if x1 = (44 : Int32) then (
                              bS (f_Mo_defineFunction h) fun _ h21 =>
                              some (.inr (.inr (.inr (.inr ((), h21)))))
                            ) else (
                              if x1 = (45 : Int32) then (
                                bS (f_Mo_endFunction h) fun _ h22 =>
                                some (.inr (.inr (.inr (.inr ((), h22)))))
                              ) else (
                                if x1 = (46 : Int32) ∨ x1 = (47 : Int32) then (
                                  some (.inl ())
                                ) else (
                                  some (.inr (.inr (.inl ())))
                                )
                              )
                            )
                          )
                        )
                      )
                    )
                  )
                )
              )
            )
          )
        ) fun p4 =>
        bS (f_Mo_has (1 : Int32) h) fun a49 h23 =>
        if a49 = 0 then (
          some (.inr (.inr (.inr ((), h23))))
        ) else (
          bS (f_Mo_pop h23) fun a50 h24 =>
          bS (f_Mo_pointOf (rdI h24 192 72) a50 h24) fun a51 h25 =>
          if (rdI h25 192 59) = 0 then (
            bP (f_Mo_longOf a51 h25) fun a52 =>
            bP (A := Int64) (
              if x1 = (47 : Int32) then (
                bP (f_Mo_rounded (Int32.toInt64 a52) h25) fun a54 =>
                some (a54 - (Int32.toInt64 a52))
              ) else (
                some (0 : Int64)
              )
            ) fun p53 =>
            bS (f_Mo_move a51 p53 h25) fun _ h26 =>
            lz (wrI h26 192 69 a50) fun h27 =>
            lz (wrI h27 192 70 a50) fun h28 =>
            some (.inr (.inr (.inr ((), h28))))
          ) else (
            some (.inr (.inr (.inr ((), h25))))
          )
        )
      ) fun p3 =>
      lz (A := Int32) (if x1 = (42 : Int32) then (1 : Int32) else (0 : Int32)) fun p58 =>
      bS (f_Mo_callFunction p58 h) fun _ h29 =>
      some (.inr (.inr ((), h29)))
    ) fun p2 =>
    bS (f_Mo_unknown x1 h) fun _ h30 =>
    some (.inr ((), h30))
  ) fun p1 =>
  bS (f_Mo_has (1 : Int32) h) fun a60 h31 =>
  if a60 = 0 then (
    some ((), h31)
  ) else (
    bS (f_Mo_pop h31) fun a61 h32 =>
    if (a61 < (1 : Int32) ∨ ¬ (a61 ≤ (rdI h32 192 56))) then (
      bS (f_Mo_fail (1 : Int32) h32) fun _ h33 =>
      some ((), h33)
    ) else (
      gd (vp_in ((rdI h32 192 56) - a61) 256) <|
      lz (A := Int32) (rdI h32 219 (Int32.toNatClampNeg ((rdI h32 192 56) - a61))) fun v67 =>
      bP (A := hH) (
        if x1 = (38 : Int32) then (
          lz (A := Int32) ((rdI h32 192 56) - a61) fun v70 =>
          bP (A := hH) (
            wh (A := (Int32 × hH)) (B := hH) (fun p71 =>
                if ((rdI p71.2 192 56) - (1 : Int32)) ≤ p71.1 then (
                  some (.inr p71.2)
                ) else (
                  gd (vp_in (p71.1 + (1 : Int32)) 256 ∧ vp_in p71.1 256) <|
                  lz (wrI p71.2 219 (Int32.toNatClampNeg p71.1) (rdI p71.2 219 (Int32.toNatClampNeg (p71.1 + (1 : Int32))))) fun h34 =>
                  lz (A := Int32) (p71.1 + (1 : Int32)) fun v74 =>
                  some (.inl (v74, h34))
                )
            ) (v70, h32)
          ) fun p72 =>
          lz (wrI p72 192 56 ((rdI p72 192 56) - (1 : Int32))) fun h35 =>
          some h35
        ) else (
          some h32
        )
      ) fun p69 =>
      bS (f_Mo_push (Int32.toInt64 v67) p69) fun _ h36 =>
      some ((), h36)
    )
  )
set_option maxRecDepth 20000 in
theorem k_Mo_stacks (x1 : Int32) (h : hH) : hx_kS S0 M_Mo_stacks 6 NT [(.ref 192), (.int x1)] h (f_Mo_stacks x1 h) cvU := by
  have hm := m_Mo_stacks
  show hx_P S0 M_Mo_stacks 6 0 [(0, (.ref 192)), (1, (.int x1))] [] NT h (f_Mo_stacks x1 h) (hx_Rc cvU NT)
  unfold f_Mo_stacks
  refine hp_E 199 (fun (p1 : Unit) => [(0, (.ref 192)), (1, (.int x1))]) (fun (p1 : Unit) => []) (fun (p1 : Unit) => h) ?_ (fun p1 => ?_)
  · refine hp_E 545 (fun (p2 : Unit) => [(0, (.ref 192)), (1, (.int x1))]) (fun (p2 : Unit) => []) (fun (p2 : Unit) => h) ?_ (fun p2 => ?_)
    · refine hp_E 445 (fun (p3 : Unit) => [(0, (.ref 192)), (1, (.int x1))]) (fun (p3 : Unit) => []) (fun (p3 : Unit) => h) ?_ (fun p3 => ?_)
      · refine hp_E 471 (fun (p4 : Unit) => [(0, (.ref 192)), (1, (.int x1))]) (fun (p4 : Unit) => []) (fun (p4 : Unit) => h) ?_ (fun p4 => ?_)
        · refine hp_b hm (at1 0 rfl) (L' := [(0, (.ref 192)), (1, (.int x1))]) (st' := [(.int x1)]) rfl (by exact trivial) (pc' := 1) rfl ?_
          refine hp_sw hm 0 rfl (cs := [32]) (off := 79) (by decide) (tgt := 80) rfl (sw1 _ _) ?_ (fun c8 => ?_)
          · refine hp_cVS (M2 := M_Mo_has) hm (at1 1 rfl) (as := [(.int (1 : Int32))]) (rest := []) (z := 192) rfl (by exact trivial) (pc' := 82) rfl 1 rfl (lw_g (lw_at lw_m10 20 rfl) rfl) y_Mo_has rfl (d2 := 2) ⟨le_b rfl, pd_Mo_has, le_b rfl⟩ (le_b rfl) og_192 (k_Mo_has (1 : Int32) h) (fun a5 h1 => ?_)
            refine hp_if_eq hm at0 rfl (by exact trivial) (pc' := 85) rfl 4 rfl (tgt := 104) rfl (fun c7 => ?_) (fun c7 => ?_)
            · exact hp_vr hm 2 rfl rfl (fun _ e => e)
            · refine hp_G hm (at1 2 rfl) (L' := [(0, (.ref 192)), (1, (.int x1))]) (st' := [(.long (Int32.toInt64 (rdI h1 219 (Int32.toNatClampNeg ((rdI h1 192 56) - (1 : Int32)))))), (.ref 192)]) rfl (fun hP => (by exact ⟨⟨og_192, og_192⟩, ⟨og_219, hP⟩⟩)) (pc' := 101) rfl (fun q6 => ?_)
              refine hp_cVS (M2 := M_Mo_push) hm at0 (as := [(.long (Int32.toInt64 (rdI h1 219 (Int32.toNatClampNeg ((rdI h1 192 56) - (1 : Int32))))))]) (rest := []) (z := 192) rfl (by exact trivial) (pc' := 101) rfl 3 rfl (lw_g (lw_at lw_m10 86 rfl) rfl) y_Mo_push rfl (d2 := 2) ⟨le_b rfl, pd_Mo_push, le_b rfl⟩ (le_b rfl) og_192 (k_Mo_push (Int32.toInt64 (rdI h1 219 (Int32.toNatClampNeg ((rdI h1 192 56) - (1 : Int32))))) h1) (fun _ h2 => ?_)
              exact hp_vr hm 2 rfl rfl (fun _ e => e)
          · refine hp_sw hm 0 rfl (cs := [33]) (off := 104) (by decide) (tgt := 105) rfl (sw1 _ _) ?_ (fun c12 => ?_)
            · refine hp_cVS (M2 := M_Mo_has) hm (at1 3 rfl) (as := [(.int (1 : Int32))]) (rest := [(.int (rdI h 192 56)), (.ref 192)]) (z := 192) rfl (by exact og_192) (pc' := 112) rfl 5 rfl (lw_g (lw_at lw_m10 20 rfl) rfl) y_Mo_has rfl (d2 := 2) ⟨le_b rfl, pd_Mo_has, le_b rfl⟩ (le_b rfl) og_192 (k_Mo_has (1 : Int32) h) (fun a9 h3 => ?_)
              refine hp_JZ 123 (fun (p10 : Int32) => []) (fun (p10 : Int32) => [(.int p10), (.int (rdI h 192 56)), (.ref 192)]) (fun (p10 : Int32) => h3) ?_ (fun p10 => ?_)
              · refine hp_sv0 ?_
                refine hp_if_eq hm at0 rfl (by exact trivial) (pc' := 115) rfl 7 rfl (tgt := 122) rfl (fun c11 => ?_) (fun c11 => ?_)
                · refine hp_b hm (at1 4 rfl) (L' := [(0, (.ref 192)), (1, (.int x1))]) (st' := [(.int (0 : Int32)), (.int (rdI h 192 56)), (.ref 192)]) rfl (by exact trivial) (pc' := 123) rfl ?_
                  exact hp_lf [] rfl (fun _ e => e)
                · refine hp_b hm (at1 5 rfl) (L' := [(0, (.ref 192)), (1, (.int x1))]) (st' := [(.int (1 : Int32)), (.int (rdI h 192 56)), (.ref 192)]) rfl (by exact trivial) (pc' := 119) rfl ?_
                  refine hp_goto hm 6 rfl (tgt := 123) rfl ?_
                  exact hp_lf [] rfl (fun _ e => e)
              · refine hp_w hm (at1 6 rfl) (L' := []) rfl (by exact og_192) (pc' := 127) rfl (fun h4 => ?_)
                exact hp_vr hm 8 rfl rfl (fun _ e => e)
            · refine hp_sw hm 0 rfl (cs := [34]) (off := 127) (by decide) (tgt := 128) rfl (sw1 _ _) ?_ (fun c13 => ?_)
              · refine hp_w hm (at1 7 rfl) (L' := [(0, (.ref 192)), (1, (.int x1))]) rfl (by exact og_192) (pc' := 133) rfl (fun h5 => ?_)
                exact hp_vr hm 9 rfl rfl (fun _ e => e)
              · refine hp_sw hm 0 rfl (cs := [35]) (off := 133) (by decide) (tgt := 134) rfl (sw1 _ _) ?_ (fun c20 => ?_)
                · refine hp_cVS (M2 := M_Mo_has) hm (at1 8 rfl) (as := [(.int (2 : Int32))]) (rest := []) (z := 192) rfl (by exact trivial) (pc' := 136) rfl 10 rfl (lw_g (lw_at lw_m10 20 rfl) rfl) y_Mo_has rfl (d2 := 2) ⟨le_b rfl, pd_Mo_has, le_b rfl⟩ (le_b rfl) og_192 (k_Mo_has (2 : Int32) h) (fun a14 h6 => ?_)
                  refine hp_if_eq hm at0 rfl (by exact trivial) (pc' := 139) rfl 12 rfl (tgt := 188) rfl (fun c19 => ?_) (fun c19 => ?_)
                  · exact hp_vr hm 11 rfl rfl (fun _ e => e)
                  · refine hp_GZ hm (at1 9 rfl) (fun (v15 : Int32) => [(2, (.int v15)), (0, (.ref 192)), (1, (.int x1))]) (fun (v15 : Int32) => []) rfl (fun hP => (by exact ⟨⟨og_192, og_192⟩, ⟨og_219, hP⟩⟩)) (pc' := 154) rfl (fun q16 v15 => ?_)
                    refine hp_GW hm (at1 10 rfl) (L' := [(2, (.int v15)), (0, (.ref 192)), (1, (.int x1))]) rfl (fun hP => (by exact ⟨⟨⟨⟨⟨og_192, og_192⟩, og_192⟩, og_192⟩, ⟨og_219, hP.1⟩⟩, ⟨og_219, hP.2⟩⟩)) (pc' := 176) rfl (fun q17 h7 => ?_)
                    refine hp_GW hm (at1 11 rfl) (L' := [(2, (.int v15)), (0, (.ref 192)), (1, (.int x1))]) rfl (fun hP => (by exact ⟨⟨og_192, og_192⟩, ⟨og_219, hP⟩⟩)) (pc' := 188) rfl (fun q18 h8 => ?_)
                    exact hp_vr hm 11 rfl rfl (fun _ e => e)
                · refine hp_sw hm 0 rfl (cs := [36]) (off := 188) (by decide) (tgt := 189) rfl (sw1 _ _) ?_ (fun c21 => ?_)
                  · refine hp_cVS (M2 := M_Mo_push) hm (at1 12 rfl) (as := [(.long (Int32.toInt64 (rdI h 192 56)))]) (rest := []) (z := 192) rfl (by exact og_192) (pc' := 195) rfl 13 rfl (lw_g (lw_at lw_m10 86 rfl) rfl) y_Mo_push rfl (d2 := 2) ⟨le_b rfl, pd_Mo_push, le_b rfl⟩ (le_b rfl) og_192 (k_Mo_push (Int32.toInt64 (rdI h 192 56)) h) (fun _ h9 => ?_)
                    exact hp_vr hm 14 rfl rfl (fun _ e => e)
                  · refine hp_sw hm 0 rfl (cs := [37, 38]) (off := 198) (by decide) (tgt := 199) rfl (sw2 _ _ _) ?_ (fun c22 => ?_)
                    · exact hp_lf [0, 1] rfl (fun _ e => e)
                    · refine hp_sw hm 0 rfl (cs := [39]) (off := 306) (by decide) (tgt := 307) rfl (sw1 _ _) ?_ (fun c32 => ?_)
                      · refine hp_cVS (M2 := M_Mo_has) hm (at1 13 rfl) (as := [(.int (2 : Int32))]) (rest := []) (z := 192) rfl (by exact trivial) (pc' := 309) rfl 15 rfl (lw_g (lw_at lw_m10 20 rfl) rfl) y_Mo_has rfl (d2 := 2) ⟨le_b rfl, pd_Mo_has, le_b rfl⟩ (le_b rfl) og_192 (k_Mo_has (2 : Int32) h) (fun a23 h10 => ?_)
                        refine hp_if_eq hm at0 rfl (by exact trivial) (pc' := 312) rfl 25 rfl (tgt := 375) rfl (fun c31 => ?_) (fun c31 => ?_)
                        · exact hp_vr hm 16 rfl rfl (fun _ e => e)
                        · refine hp_cVS (M2 := M_Mo_pop) hm (at1 14 rfl) (as := []) (rest := [(.int (rdI h10 192 72)), (.ref 192)]) (z := 192) rfl (by exact og_192) (pc' := 321) rfl 17 rfl (lw_g (lw_at lw_m10 24 rfl) rfl) y_Mo_pop rfl (d2 := 1) ⟨le_b rfl, pd_Mo_pop, le_b rfl⟩ (le_b rfl) og_192 (k_Mo_pop h10) (fun a24 h11 => ?_)
                          refine hp_cVS (M2 := M_Mo_pointOf) hm at0 (as := [(.int (rdI h10 192 72)), (.int a24)]) (rest := []) (z := 192) rfl (by exact trivial) (pc' := 324) rfl 18 rfl (lw_g (lw_at lw_m10 28 rfl) rfl) y_Mo_pointOf rfl (d2 := 2) ⟨le_b rfl, pd_Mo_pointOf, le_b rfl⟩ (le_b rfl) og_192 (k_Mo_pointOf (rdI h10 192 72) a24 h11) (fun a25 h12 => ?_)
                          refine hp_b hm (at1 15 rfl) (L' := [(2, (.int a25)), (0, (.ref 192)), (1, (.int x1))]) (st' := [(.ref 192), (.int (rdI h12 192 73)), (.ref 192)]) rfl (by exact og_192) (pc' := 334) rfl ?_
                          refine hp_cVS (M2 := M_Mo_pop) hm at0 (as := []) (rest := [(.int (rdI h12 192 73)), (.ref 192)]) (z := 192) rfl (by exact trivial) (pc' := 334) rfl 19 rfl (lw_g (lw_at lw_m10 24 rfl) rfl) y_Mo_pop rfl (d2 := 1) ⟨le_b rfl, pd_Mo_pop, le_b rfl⟩ (le_b rfl) og_192 (k_Mo_pop h12) (fun a26 h13 => ?_)
                          refine hp_cVS (M2 := M_Mo_pointOf) hm at0 (as := [(.int (rdI h12 192 73)), (.int a26)]) (rest := []) (z := 192) rfl (by exact trivial) (pc' := 337) rfl 20 rfl (lw_g (lw_at lw_m10 28 rfl) rfl) y_Mo_pointOf rfl (d2 := 2) ⟨le_b rfl, pd_Mo_pointOf, le_b rfl⟩ (le_b rfl) og_192 (k_Mo_pointOf (rdI h12 192 73) a26 h13) (fun a27 h14 => ?_)
                          refine hp_b hm (at1 16 rfl) (L' := [(3, (.int a27)), (2, (.int a25)), (0, (.ref 192)), (1, (.int x1))]) (st' := [(.int (rdI h14 192 59))]) rfl (by exact og_192) (pc' := 345) rfl ?_
                          refine hp_if_ne hm at0 rfl (by exact trivial) (pc' := 345) rfl 24 rfl (tgt := 375) rfl (fun c30 => ?_) (fun c30 => ?_)
                          · exact hp_vr hm 16 rfl rfl (fun _ e => e)
                          · refine hp_cVP (M2 := M_Mo_between) hm (at1 17 rfl) (as := [(.int a25), (.int a27)]) (rest := []) (z := 192) rfl (by exact trivial) (pc' := 351) rfl 21 rfl (lw_g (lw_at lw_m10 57 rfl) rfl) y_Mo_between rfl (d2 := 5) ⟨le_b rfl, pd_Mo_between, le_b rfl⟩ (le_b rfl) og_192 (k_Mo_between a25 a27 h14) (fun a28 => ?_)
                            refine hp_z hm (at1 18 rfl) (fun (v29 : Int32) => [(4, (.int v29)), (3, (.int a27)), (2, (.int a25)), (0, (.ref 192)), (1, (.int x1))]) (fun (v29 : Int32) => []) rfl (by exact (show ¬ (2 : Int32) = 0 by decide)) (pc' := 358) rfl (fun v29 => ?_)
                            refine hp_cVS (M2 := M_Mo_move) hm (at1 19 rfl) (as := [(.int a27), (.long (Int32.toInt64 v29))]) (rest := []) (z := 192) rfl (by exact trivial) (pc' := 363) rfl 22 rfl (lw_g (lw_at lw_m10 61 rfl) rfl) y_Mo_move rfl (d2 := 5) ⟨le_b rfl, pd_Mo_move, le_b rfl⟩ (le_b rfl) og_192 (k_Mo_move a27 (Int32.toInt64 v29) h14) (fun _ h15 => ?_)
                            refine hp_cVS (M2 := M_Mo_move) hm (at1 20 rfl) (as := [(.int a25), (.long (-(Int32.toInt64 v29)))]) (rest := []) (z := 192) rfl (by exact trivial) (pc' := 372) rfl 23 rfl (lw_g (lw_at lw_m10 61 rfl) rfl) y_Mo_move rfl (d2 := 5) ⟨le_b rfl, pd_Mo_move, le_b rfl⟩ (le_b rfl) og_192 (k_Mo_move a25 (-(Int32.toInt64 v29)) h15) (fun _ h16 => ?_)
                            exact hp_vr hm 16 rfl rfl (fun _ e => e)
                      · refine hp_sw hm 0 rfl (cs := [41]) (off := 375) (by decide) (tgt := 376) rfl (sw1 _ _) ?_ (fun c44 => ?_)
                        · refine hp_cVS (M2 := M_Mo_has) hm (at1 21 rfl) (as := [(.int (1 : Int32))]) (rest := []) (z := 192) rfl (by exact trivial) (pc' := 378) rfl 26 rfl (lw_g (lw_at lw_m10 20 rfl) rfl) y_Mo_has rfl (d2 := 2) ⟨le_b rfl, pd_Mo_has, le_b rfl⟩ (le_b rfl) og_192 (k_Mo_has (1 : Int32) h) (fun a33 h17 => ?_)
                          refine hp_if_eq hm at0 rfl (by exact trivial) (pc' := 381) rfl 35 rfl (tgt := 444) rfl (fun c43 => ?_) (fun c43 => ?_)
                          · exact hp_vr hm 27 rfl rfl (fun _ e => e)
                          · refine hp_cVS (M2 := M_Mo_pop) hm (at1 22 rfl) (as := []) (rest := [(.int (rdI h17 192 72)), (.ref 192)]) (z := 192) rfl (by exact og_192) (pc' := 390) rfl 28 rfl (lw_g (lw_at lw_m10 24 rfl) rfl) y_Mo_pop rfl (d2 := 1) ⟨le_b rfl, pd_Mo_pop, le_b rfl⟩ (le_b rfl) og_192 (k_Mo_pop h17) (fun a34 h18 => ?_)
                            refine hp_cVS (M2 := M_Mo_pointOf) hm at0 (as := [(.int (rdI h17 192 72)), (.int a34)]) (rest := []) (z := 192) rfl (by exact trivial) (pc' := 393) rfl 29 rfl (lw_g (lw_at lw_m10 28 rfl) rfl) y_Mo_pointOf rfl (d2 := 2) ⟨le_b rfl, pd_Mo_pointOf, le_b rfl⟩ (le_b rfl) og_192 (k_Mo_pointOf (rdI h17 192 72) a34 h18) (fun a35 h19 => ?_)
                            refine hp_b hm (at1 23 rfl) (L' := [(2, (.int a35)), (0, (.ref 192)), (1, (.int x1))]) (st' := [(.int (rdI h19 192 59))]) rfl (by exact og_192) (pc' := 401) rfl ?_
                            refine hp_if_ne hm at0 rfl (by exact trivial) (pc' := 401) rfl 34 rfl (tgt := 444) rfl (fun c42 => ?_) (fun c42 => ?_)
                            · exact hp_vr hm 27 rfl rfl (fun _ e => e)
                            · refine hp_G hm (at1 24 rfl) (L' := [(2, (.int a35)), (0, (.ref 192)), (1, (.int x1))]) (st' := [(.int (rdI h19 192 63)), (.int (rdI h19 216 (Int32.toNatClampNeg a35))), (.int a35), (.ref 216)]) rfl (fun hP => (by exact ⟨⟨⟨og_192, og_192⟩, ⟨og_216, hP⟩⟩, og_192⟩)) (pc' := 419) rfl (fun q36 => ?_)
                              refine hp_JZ 427 (fun (p37 : Int32) => [(0, (.ref 192))]) (fun (p37 : Int32) => [(.int p37), (.int (rdI h19 216 (Int32.toNatClampNeg a35))), (.int a35), (.ref 216)]) (fun (p37 : Int32) => h19) ?_ (fun p37 => ?_)
                              · refine hp_sv0 ?_
                                refine hp_if_eq hm at0 rfl (by exact trivial) (pc' := 419) rfl 31 rfl (tgt := 426) rfl (fun c38 => ?_) (fun c38 => ?_)
                                · refine hp_b hm (at1 25 rfl) (L' := [(2, (.int a35)), (0, (.ref 192)), (1, (.int x1))]) (st' := [(.int (0 : Int32)), (.int (rdI h19 216 (Int32.toNatClampNeg a35))), (.int a35), (.ref 216)]) rfl (by exact trivial) (pc' := 427) rfl ?_
                                  exact hp_lf [1] rfl (fun _ e => e)
                                · refine hp_b hm (at1 26 rfl) (L' := [(2, (.int a35)), (0, (.ref 192)), (1, (.int x1))]) (st' := [(.int (1 : Int32)), (.int (rdI h19 216 (Int32.toNatClampNeg a35))), (.int a35), (.ref 216)]) rfl (by exact trivial) (pc' := 423) rfl ?_
                                  refine hp_goto hm 30 rfl (tgt := 427) rfl ?_
                                  exact hp_lf [1] rfl (fun _ e => e)
                              · refine hp_JZ 439 (fun (p39 : Int32) => []) (fun (p39 : Int32) => [(.int p39), (.int p37), (.int (rdI h19 216 (Int32.toNatClampNeg a35))), (.int a35), (.ref 216)]) (fun (p39 : Int32) => h19) ?_ (fun p39 => ?_)
                                · refine hp_sv0 ?_
                                  refine hp_if_eq hm (at1 27 rfl) rfl (by exact og_192) (pc' := 431) rfl 33 rfl (tgt := 438) rfl (fun c40 => ?_) (fun c40 => ?_)
                                  · refine hp_b hm (at1 28 rfl) (L' := [(0, (.ref 192))]) (st' := [(.int (0 : Int32)), (.int p37), (.int (rdI h19 216 (Int32.toNatClampNeg a35))), (.int a35), (.ref 216)]) rfl (by exact trivial) (pc' := 439) rfl ?_
                                    exact hp_lf [] rfl (fun _ e => e)
                                  · refine hp_b hm (at1 29 rfl) (L' := [(0, (.ref 192))]) (st' := [(.int (2 : Int32)), (.int p37), (.int (rdI h19 216 (Int32.toNatClampNeg a35))), (.int a35), (.ref 216)]) rfl (by exact trivial) (pc' := 435) rfl ?_
                                    refine hp_goto hm 32 rfl (tgt := 439) rfl ?_
                                    exact hp_lf [] rfl (fun _ e => e)
                                · refine hp_GW hm (at1 30 rfl) (L' := []) rfl (fun hP => (by exact ⟨og_216, hP⟩)) (pc' := 444) rfl (fun q41 h20 => ?_)
                                  exact hp_vr hm 27 rfl rfl (fun _ e => e)
                        · refine hp_sw hm 0 rfl (cs := [42, 43]) (off := 444) (by decide) (tgt := 445) rfl (sw2 _ _ _) ?_ (fun c45 => ?_)
                          · exact hp_lf [0, 1] rfl (fun _ e => e)
                          · refine hp_sw hm 0 rfl (cs := [44]) (off := 460) (by decide) (tgt := 461) rfl (sw1 _ _) ?_ (fun c46 => ?_)
                            · refine hp_cVS (M2 := M_Mo_defineFunction) hm (at1 31 rfl) (as := []) (rest := []) (z := 192) rfl (by exact trivial) (pc' := 462) rfl 36 rfl (lw_g (lw_at lw_m10 140 rfl) rfl) y_Mo_defineFunction rfl (d2 := 5) ⟨le_b rfl, pd_Mo_defineFunction, le_b rfl⟩ (le_b rfl) og_192 (k_Mo_defineFunction h) (fun _ h21 => ?_)
                              exact hp_vr hm 37 rfl rfl (fun _ e => e)
                            · refine hp_sw hm 0 rfl (cs := [45]) (off := 465) (by decide) (tgt := 466) rfl (sw1 _ _) ?_ (fun c47 => ?_)
                              · refine hp_cVS (M2 := M_Mo_endFunction) hm (at1 32 rfl) (as := []) (rest := []) (z := 192) rfl (by exact trivial) (pc' := 467) rfl 38 rfl (lw_g (lw_at lw_m10 144 rfl) rfl) y_Mo_endFunction rfl (d2 := 2) ⟨le_b rfl, pd_Mo_endFunction, le_b rfl⟩ (le_b rfl) og_192 (k_Mo_endFunction h) (fun _ h22 => ?_)
                                exact hp_vr hm 39 rfl rfl (fun _ e => e)
                              · refine hp_sw hm 0 rfl (cs := [46, 47]) (off := 470) (by decide) (tgt := 471) rfl (sw2 _ _ _) ?_ (fun c48 => ?_)
                                · exact hp_lf [0, 1] rfl (fun _ e => e)
                                · refine hp_sd2 hm 0 rfl (css := [[32], [33], [34], [35], [36], [37, 38], [39], [41], [42, 43], [44], [45], [46, 47]]) (by decide) (by decide) (List.forall_mem_cons.mpr ⟨c8, (List.forall_mem_cons.mpr ⟨c12, (List.forall_mem_cons.mpr ⟨c13, (List.forall_mem_cons.mpr ⟨c20, (List.forall_mem_cons.mpr ⟨c21, (List.forall_mem_cons.mpr ⟨c22, (List.forall_mem_cons.mpr ⟨c32, (List.forall_mem_cons.mpr ⟨c44, (List.forall_mem_cons.mpr ⟨c45, (List.forall_mem_cons.mpr ⟨c46, (List.forall_mem_cons.mpr ⟨c47, (List.forall_mem_cons.mpr ⟨c48, (fun _ h => absurd h List.not_mem_nil)⟩)⟩)⟩)⟩)⟩)⟩)⟩)⟩)⟩)⟩)⟩)⟩) (tgt := 545) rfl ?_
                                  exact hp_lf [0, 1] rfl (fun _ e => e)
        · refine hp_cVS (M2 := M_Mo_has) hm (at1 33 rfl) (as := [(.int (1 : Int32))]) (rest := []) (z := 192) rfl (by exact trivial) (pc' := 473) rfl 40 rfl (lw_g (lw_at lw_m10 20 rfl) rfl) y_Mo_has rfl (d2 := 2) ⟨le_b rfl, pd_Mo_has, le_b rfl⟩ (le_b rfl) og_192 (k_Mo_has (1 : Int32) h) (fun a49 h23 => ?_)
          refine hp_if_eq hm at0 rfl (by exact trivial) (pc' := 476) rfl 50 rfl (tgt := 544) rfl (fun c57 => ?_) (fun c57 => ?_)
          · exact hp_vr hm 41 rfl rfl (fun _ e => e)
          · refine hp_cVS (M2 := M_Mo_pop) hm (at1 34 rfl) (as := []) (rest := []) (z := 192) rfl (by exact trivial) (pc' := 480) rfl 42 rfl (lw_g (lw_at lw_m10 24 rfl) rfl) y_Mo_pop rfl (d2 := 1) ⟨le_b rfl, pd_Mo_pop, le_b rfl⟩ (le_b rfl) og_192 (k_Mo_pop h23) (fun a50 h24 => ?_)
            refine hp_b hm (at1 35 rfl) (L' := [(2, (.int a50)), (0, (.ref 192)), (1, (.int x1))]) (st' := [(.int a50), (.int (rdI h24 192 72)), (.ref 192)]) rfl (by exact og_192) (pc' := 490) rfl ?_
            refine hp_cVS (M2 := M_Mo_pointOf) hm at0 (as := [(.int (rdI h24 192 72)), (.int a50)]) (rest := []) (z := 192) rfl (by exact trivial) (pc' := 490) rfl 43 rfl (lw_g (lw_at lw_m10 28 rfl) rfl) y_Mo_pointOf rfl (d2 := 2) ⟨le_b rfl, pd_Mo_pointOf, le_b rfl⟩ (le_b rfl) og_192 (k_Mo_pointOf (rdI h24 192 72) a50 h24) (fun a51 h25 => ?_)
            refine hp_b hm (at1 36 rfl) (L' := [(3, (.int a51)), (2, (.int a50)), (0, (.ref 192)), (1, (.int x1))]) (st' := [(.int (rdI h25 192 59))]) rfl (by exact og_192) (pc' := 498) rfl ?_
            refine hp_if_ne hm at0 rfl (by exact trivial) (pc' := 498) rfl 49 rfl (tgt := 544) rfl (fun c56 => ?_) (fun c56 => ?_)
            · exact hp_vr hm 41 rfl rfl (fun _ e => e)
            · refine hp_cVP (M2 := M_Mo_longOf) hm (at1 37 rfl) (as := [(.int a51)]) (rest := []) (z := 192) rfl (by exact trivial) (pc' := 503) rfl 44 rfl (lw_g (lw_at lw_m10 148 rfl) rfl) y_Mo_longOf rfl (d2 := 5) ⟨le_b rfl, pd_Mo_longOf, le_b rfl⟩ (le_b rfl) og_192 (k_Mo_longOf a51 h25) (fun a52 => ?_)
              refine hp_b hm (at1 38 rfl) (L' := [(4, (.int a52)), (3, (.int a51)), (2, (.int a50)), (0, (.ref 192)), (1, (.int x1))]) (st' := [(.int (47 : Int32)), (.int x1), (.int a51), (.ref 192)]) rfl (by exact trivial) (pc' := 513) rfl ?_
              refine hp_J 531 (fun (p53 : Int64) => [(0, (.ref 192)), (2, (.int a50))]) (fun (p53 : Int64) => [(.long p53), (.int a51), (.ref 192)]) (fun (p53 : Int64) => h25) ?_ (fun p53 => ?_)
              · refine hp_ic_ne hm at0 rfl (by exact trivial) (pc' := 513) rfl 47 rfl (tgt := 530) rfl (fun c55 => ?_) (fun c55 => ?_)
                · refine hp_b hm (at1 39 rfl) (L' := [(4, (.int a52)), (3, (.int a51)), (2, (.int a50)), (0, (.ref 192)), (1, (.int x1))]) (st' := [(.long (0 : Int64)), (.int a51), (.ref 192)]) rfl (by exact trivial) (pc' := 531) rfl ?_
                  exact hp_lf [3, 2] rfl (fun _ e => e)
                · refine hp_cVP (M2 := M_Mo_rounded) hm (at1 40 rfl) (as := [(.long (Int32.toInt64 a52))]) (rest := [(.int a51), (.ref 192)]) (z := 192) rfl (by exact trivial) (pc' := 520) rfl 45 rfl (lw_g (lw_at lw_m10 44 rfl) rfl) y_Mo_rounded rfl (d2 := 2) ⟨le_b rfl, pd_Mo_rounded, le_b rfl⟩ (le_b rfl) og_192 (k_Mo_rounded (Int32.toInt64 a52) h25) (fun a54 => ?_)
                  refine hp_b hm (at1 41 rfl) (L' := [(4, (.int a52)), (3, (.int a51)), (2, (.int a50)), (0, (.ref 192)), (1, (.int x1))]) (st' := [(.long (a54 - (Int32.toInt64 a52))), (.int a51), (.ref 192)]) rfl (by exact trivial) (pc' := 527) rfl ?_
                  refine hp_goto hm 46 rfl (tgt := 531) rfl ?_
                  exact hp_lf [3, 2] rfl (fun _ e => e)
              · refine hp_cVS (M2 := M_Mo_move) hm at0 (as := [(.int a51), (.long p53)]) (rest := []) (z := 192) rfl (by exact trivial) (pc' := 531) rfl 48 rfl (lw_g (lw_at lw_m10 61 rfl) rfl) y_Mo_move rfl (d2 := 5) ⟨le_b rfl, pd_Mo_move, le_b rfl⟩ (le_b rfl) og_192 (k_Mo_move a51 p53 h25) (fun _ h26 => ?_)
                refine hp_w hm (at1 42 rfl) (L' := [(0, (.ref 192)), (2, (.int a50))]) rfl (by exact og_192) (pc' := 539) rfl (fun h27 => ?_)
                refine hp_w hm (at1 43 rfl) (L' := [(0, (.ref 192)), (2, (.int a50))]) rfl (by exact og_192) (pc' := 544) rfl (fun h28 => ?_)
                exact hp_vr hm 41 rfl rfl (fun _ e => e)
      · refine hp_JZ 457 (fun (p58 : Int32) => []) (fun (p58 : Int32) => [(.int p58), (.ref 192)]) (fun (p58 : Int32) => h) ?_ (fun p58 => ?_)
        · refine hp_sv0 ?_
          refine hp_ic_ne hm (at1 44 rfl) rfl (by exact trivial) (pc' := 449) rfl 52 rfl (tgt := 456) rfl (fun c59 => ?_) (fun c59 => ?_)
          · refine hp_b hm (at1 45 rfl) (L' := [(0, (.ref 192)), (1, (.int x1))]) (st' := [(.int (0 : Int32)), (.ref 192)]) rfl (by exact trivial) (pc' := 457) rfl ?_
            exact hp_lf [] rfl (fun _ e => e)
          · refine hp_b hm (at1 46 rfl) (L' := [(0, (.ref 192)), (1, (.int x1))]) (st' := [(.int (1 : Int32)), (.ref 192)]) rfl (by exact trivial) (pc' := 453) rfl ?_
            refine hp_goto hm 51 rfl (tgt := 457) rfl ?_
            exact hp_lf [] rfl (fun _ e => e)
        · refine hp_cVS (M2 := M_Mo_callFunction) hm at0 (as := [(.int p58)]) (rest := []) (z := 192) rfl (by exact trivial) (pc' := 457) rfl 53 rfl (lw_g (lw_at lw_m10 132 rfl) rfl) y_Mo_callFunction rfl (d2 := 3) ⟨le_b rfl, pd_Mo_callFunction, le_b rfl⟩ (le_b rfl) og_192 (k_Mo_callFunction p58 h) (fun _ h29 => ?_)
          exact hp_vr hm 54 rfl rfl (fun _ e => e)
    · refine hp_cVS (M2 := M_Mo_unknown) hm (at1 47 rfl) (as := [(.int x1)]) (rest := []) (z := 192) rfl (by exact trivial) (pc' := 547) rfl 55 rfl (lw_g (lw_at lw_m10 152 rfl) rfl) y_Mo_unknown rfl (d2 := 3) ⟨le_b rfl, pd_Mo_unknown, le_b rfl⟩ (le_b rfl) og_192 (k_Mo_unknown x1 h) (fun _ h30 => ?_)
      exact hp_vr hm 56 rfl rfl (fun _ e => e)
  · refine hp_cVS (M2 := M_Mo_has) hm (at1 48 rfl) (as := [(.int (1 : Int32))]) (rest := []) (z := 192) rfl (by exact trivial) (pc' := 201) rfl 57 rfl (lw_g (lw_at lw_m10 20 rfl) rfl) y_Mo_has rfl (d2 := 2) ⟨le_b rfl, pd_Mo_has, le_b rfl⟩ (le_b rfl) og_192 (k_Mo_has (1 : Int32) h) (fun a60 h31 => ?_)
    refine hp_if_eq hm at0 rfl (by exact trivial) (pc' := 204) rfl 68 rfl (tgt := 306) rfl (fun c77 => ?_) (fun c77 => ?_)
    · exact hp_vr hm 58 rfl rfl (fun _ e => e)
    · refine hp_cVS (M2 := M_Mo_pop) hm (at1 49 rfl) (as := []) (rest := []) (z := 192) rfl (by exact trivial) (pc' := 208) rfl 59 rfl (lw_g (lw_at lw_m10 24 rfl) rfl) y_Mo_pop rfl (d2 := 1) ⟨le_b rfl, pd_Mo_pop, le_b rfl⟩ (le_b rfl) og_192 (k_Mo_pop h31) (fun a61 h32 => ?_)
      refine hp_b hm (at1 50 rfl) (L' := [(2, (.int a61)), (0, (.ref 192)), (1, (.int x1))]) (st' := [(.int (1 : Int32)), (.int a61)]) rfl (by exact trivial) (pc' := 214) rfl ?_
      refine hp_cI (L0 := [(2, (.int a61)), (0, (.ref 192)), (1, (.int x1))]) (s0 := []) 225 231 ?_ (fun c66 => ?_) (fun c66 => ?_)
      · refine hp_or ?_
        refine hp_ic_lt hm at0 rfl (by exact trivial) (pc' := 214) rfl 61 rfl (tgt := 225) rfl (fun c63 => ?_) (fun c63 => ?_)
        · exact hp_l0 (fun _ e => e)
        · refine hp_decn ?_
          refine hp_ic_le hm (at1 51 rfl) rfl (by exact og_192) (pc' := 222) rfl 60 rfl (tgt := 231) rfl (fun c62 => ?_) (fun c62 => ?_)
          · exact hp_l0 (fun _ e => e)
          · exact hp_l0 (fun _ e => e)
      · refine hp_cVS (M2 := M_Mo_fail) hm (at1 52 rfl) (as := [(.int (1 : Int32))]) (rest := []) (z := 192) rfl (by exact trivial) (pc' := 227) rfl 62 rfl (lw_g (lw_at lw_m10 4 rfl) rfl) y_Mo_fail rfl (d2 := 1) ⟨le_b rfl, pd_Mo_fail, le_b rfl⟩ (le_b rfl) og_192 (k_Mo_fail (1 : Int32) h32) (fun _ h33 => ?_)
        exact hp_vr hm 63 rfl rfl (fun _ e => e)
      · refine hp_GZ hm (at1 53 rfl) (fun (v67 : Int32) => [(3, (.int v67)), (2, (.int a61)), (0, (.ref 192)), (1, (.int x1))]) (fun (v67 : Int32) => []) rfl (fun hP => (by exact ⟨⟨og_192, og_192⟩, ⟨og_219, hP⟩⟩)) (pc' := 243) rfl (fun q68 v67 => ?_)
        refine hp_J 300 (fun (p69 : hH) => [(0, (.ref 192)), (3, (.int v67))]) (fun (p69 : hH) => []) (fun (p69 : hH) => p69) ?_ (fun p69 => ?_)
        · refine hp_ic_ne hm (at1 54 rfl) rfl (by exact trivial) (pc' := 246) rfl 66 rfl (tgt := 300) rfl (fun c76 => ?_) (fun c76 => ?_)
          · exact hp_lf [2, 0] rfl (fun _ e => e)
          · refine hp_z hm (at1 55 rfl) (fun (v70 : Int32) => [(4, (.int v70)), (3, (.int v67)), (2, (.int a61)), (0, (.ref 192)), (1, (.int x1))]) (fun (v70 : Int32) => []) rfl (by exact og_192) (pc' := 257) rfl (fun v70 => ?_)
            refine hp_J 290 (fun (p72 : hH) => [(0, (.ref 192)), (3, (.int v67))]) (fun (p72 : hH) => []) (fun (p72 : hH) => p72) ?_ (fun p72 => ?_)
            · refine hp_s [3, 1, 0] rfl (L' := [(0, (.ref 192)), (3, (.int v67)), (4, (.int v70))]) ?_
              refine hp_wh (fun (p71 : (Int32 × hH)) => [(0, (.ref 192)), (3, (.int v67)), (4, (.int p71.1))]) [] (fun (p71 : (Int32 × hH)) => p71.2) (fun p71 => ?_) (v70, h32)
              refine hp_ic_ge hm (at1 56 rfl) rfl (by exact og_192) (pc' := 265) rfl 65 rfl (tgt := 290) rfl (fun c75 => ?_) (fun c75 => ?_)
              · exact hp_lf [0, 1] rfl (fun _ e => e)
              · refine hp_GW hm (at1 57 rfl) (L' := [(0, (.ref 192)), (3, (.int v67)), (4, (.int p71.1))]) rfl (fun hP => (by exact ⟨⟨⟨og_192, og_192⟩, ⟨og_219, hP.1⟩⟩, ⟨og_219, hP.2⟩⟩)) (pc' := 284) rfl (fun q73 h34 => ?_)
                refine hp_z hm (at1 58 rfl) (fun (v74 : Int32) => [(4, (.int v74)), (0, (.ref 192)), (3, (.int v67))]) (fun (v74 : Int32) => []) rfl (by exact trivial) (pc' := 287) rfl (fun v74 => ?_)
                refine hp_goto hm 64 rfl (tgt := 257) rfl ?_
                exact hp_lf [1, 2, 0] rfl (fun _ e => e)
            · refine hp_w hm (at1 59 rfl) (L' := [(0, (.ref 192)), (3, (.int v67))]) rfl (by exact ⟨og_192, og_192⟩) (pc' := 300) rfl (fun h35 => ?_)
              exact hp_lf [0, 1] rfl (fun _ e => e)
        · refine hp_cVS (M2 := M_Mo_push) hm (at1 60 rfl) (as := [(.long (Int32.toInt64 v67))]) (rest := []) (z := 192) rfl (by exact trivial) (pc' := 303) rfl 67 rfl (lw_g (lw_at lw_m10 86 rfl) rfl) y_Mo_push rfl (d2 := 2) ⟨le_b rfl, pd_Mo_push, le_b rfl⟩ (le_b rfl) og_192 (k_Mo_push (Int32.toInt64 v67) p69) (fun _ h36 => ?_)
          exact hp_vr hm 58 rfl rfl (fun _ e => e)
