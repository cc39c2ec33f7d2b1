/-! LAYER 2b: methods (printed by gen/dec.py): Ma_begin Ma_axes Ma_rounding Ma_want Ma_byteAt Ma_need Ma_pop Ma_zone Ma_point Ma_single Ma_give Ma_along Ma_oldDistance JM_floorDiv Ma_rounded Ma_distance Ma_touch Ma_move Ma_relative Ma_wordAt JM_max_2 Ma_push Ma_pushBytes Ma_setVectors Ma_share Ma_direct Ma_ownOf Ma_call Ma_unknown Ma_vectors Ma_pointers Ma_lengthAt Ma_passIf Ma_jump Ma_kept Ma_settings -/
/-! HintHouse$Machine.begin(I)V -/
def M_Ma_begin : hM := (4, ⟨"HintHouse$Machine", "begin", "(I)V"⟩, prog_6_method_3_code, 3, (Option.none : Option Jvm.ClassFile.FieldType), [], [(0, [(.aload_n 0, 1, 0, 0, 0, .null), (.iload_n 1, 1, 0, 0, 0, .null), (.putfield 84, 3, 4, 4, 0, .null)]), (5, [(.aload_n 0, 1, 0, 0, 0, .null), (.iconst 0, 1, 0, 0, 0, (.int (0 : Int32))), (.putfield 87, 3, 4, 5, 0, .null)]), (10, [(.aload_n 0, 1, 0, 0, 0, .null), (.iconst 0, 1, 0, 0, 0, (.int (0 : Int32))), (.putfield 90, 3, 4, 24, 0, .null)]), (15, [(.iconst 0, 1, 0, 0, 0, (.int (0 : Int32))), (.istore_n 2, 1, 0, 0, 0, .null)]), (17, [(.iload_n 2, 1, 0, 0, 0, .null), (.bipush 64, 2, 0, 0, 0, (.int (64 : Int32)))]), (23, [(.aload_n 0, 1, 0, 0, 0, .null), (.getfield 52, 3, 4, 22, 4, .null), (.iload_n 2, 1, 0, 0, 0, .null), (.iconst (-1), 1, 0, 0, 0, (.int (-1 : Int32))), (.iastore, 1, 0, 0, 0, .null)]), (30, [(.aload_n 0, 1, 0, 0, 0, .null), (.getfield 12, 3, 4, 1, 4, .null), (.getfield 93, 3, 5, 2, 4, .null), (.iload_n 2, 1, 0, 0, 0, .null), (.iconst 0, 1, 0, 0, 0, (.int (0 : Int32))), (.iastore, 1, 0, 0, 0, .null)]), (40, [(.iinc 2 1, 3, 0, 0, 0, (.int (1 : Int32)))]), (46, [(.aload_n 0, 1, 0, 0, 0, .null), (.getfield 12, 3, 4, 1, 4, .null), (.aload_n 0, 1, 0, 0, 0, .null), (.getfield 73, 3, 4, 0, 4, .null), (.getfield 96, 3, 2, 11, 0, .null), (.putfield 100, 3, 5, 3, 0, .null)]), (60, [(.aload_n 0, 1, 0, 0, 0, .null), (.getfield 12, 3, 4, 1, 4, .null), (.aload_n 0, 1, 0, 0, 0, .null), (.getfield 73, 3, 4, 0, 4, .null), (.getfield 103, 3, 2, 26, 0, .null), (.putfield 106, 3, 5, 1, 0, .null)]), (74, [(.iconst 0, 1, 0, 0, 0, (.int (0 : Int32))), (.istore_n 2, 1, 0, 0, 0, .null)]), (76, [(.iload_n 2, 1, 0, 0, 0, .null), (.aload_n 0, 1, 0, 0, 0, .null), (.getfield 12, 3, 4, 1, 4, .null), (.getfield 106, 3, 5, 1, 0, .null)]), (87, [(.aload_n 0, 1, 0, 0, 0, .null), (.getfield 12, 3, 4, 1, 4, .null), (.getfield 107, 3, 5, 0, 4, .null), (.iload_n 2, 1, 0, 0, 0, .null), (.aload_n 0, 1, 0, 0, 0, .null), (.aload_n 0, 1, 0, 0, 0, .null), (.getfield 73, 3, 4, 0, 4, .null), (.getfield 110, 3, 2, 0, 4, .null), (.aload_n 0, 1, 0, 0, 0, .null), (.getfield 73, 3, 4, 0, 4, .null), (.getfield 114, 3, 2, 25, 0, .null), (.iconst 2, 1, 0, 0, 0, (.int (2 : Int32))), (.iload_n 2, 1, 0, 0, 0, .null), (.imul, 1, 0, 0, 0, .null), (.iadd, 1, 0, 0, 0, .null)]), (117, [(.i2l, 1, 0, 0, 0, .null)]), (121, [(.iastore, 1, 0, 0, 0, .null)]), (122, [(.iinc 2 1, 3, 0, 0, 0, (.int (1 : Int32)))]), (128, [(.aload_n 0, 1, 0, 0, 0, .null), (.getfield 12, 3, 4, 1, 4, .null), (.getfield 126, 3, 5, 4, 4, .null), (.aload_n 0, 1, 0, 0, 0, .null), (.getfield 73, 3, 4, 0, 4, .null), (.getfield 129, 3, 2, 10, 0, .null)]), (145, [(.aload_n 0, 1, 0, 0, 0, .null), (.getfield 12, 3, 4, 1, 4, .null), (.getfield 134, 3, 5, 5, 4, .null)]), (155, [(.aload_n 0, 1, 0, 0, 0, .null), (.getfield 23, 3, 4, 2, 4, .null), (.iconst 0, 1, 0, 0, 0, (.int (0 : Int32))), (.putfield 142, 3, 6, 6, 0, .null)]), (163, [(.aload_n 0, 1, 0, 0, 0, .null), (.aconst_null, 1, 0, 0, 0, .null), (.putfield 145, 3, 4, 3, 3, .null)])], [(43, .goto (-26), 3), (20, .if_icmp .ge 26, 3), (114, .invokevirtual 116, 3), (118, .invokevirtual 122, 3), (125, .goto (-49), 3), (84, .if_icmp .ge 44, 3), (142, .invokevirtual 131, 3), (152, .invokevirtual 138, 3), (168, .return_, 1)])
set_option maxRecDepth 100000 in
theorem m_Ma_begin : hx_mok M_Ma_begin = true := by decide +kernel
theorem pd_Ma_begin : (parseMethodDescriptor M_Ma_begin.2.1.desc).map (fun q => q.parameters.length) = some 1 := by decide +kernel
theorem y_Ma_begin : hx_okV M_Ma_begin := ⟨⟨lw_g (lw_at lw_m5 101 rfl) rfl, lw_g (lw_at lw_m5 99 rfl) rfl, lw_g (lw_at lw_m5 100 rfl) rfl, lw_g (lw_at lw_m1 5 rfl) rfl, rfl, by decide, by decide, by decide⟩, rfl, by decide, plainFor_of_name (by decide)⟩
noncomputable def f_Ma_begin (x1 : Int32) (h : hH) : Option (Unit × hH) :=
  lz (wrI h 22 4 x1) fun h1 =>
  lz (wrI h1 22 5 (0 : Int32)) fun h2 =>
  lz (wrI h2 22 24 (0 : Int32)) fun h3 =>
  bP (A := hH) (
    wh (A := (Int32 × hH)) (B := hH) (fun p1 =>
        if (64 : Int32) ≤ p1.1 then (
          some (.inr p1.2)
        ) else (
          gd (vp_in p1.1 64) <|
          lz (wrI p1.2 49 (Int32.toNatClampNeg p1.1) (-1 : Int32)) fun h4 =>
          gd (vp_in p1.1 64) <|
          lz (wrI h4 25 (Int32.toNatClampNeg p1.1) (0 : Int32)) fun h5 =>
          lz (A := Int32) (p1.1 + (1 : Int32)) fun v5 =>
          some (.inl (v5, h5))
        )
    ) ((0 : Int32), h3)
  ) fun p2 =>
  lz (wrI p2 23 3 (rdI p2 4 11)) fun h6 =>
  lz (wrI h6 23 1 (rdI h6 4 26)) fun h7 =>
  bP (A := hH) (
    wh (A := (Int32 × hH)) (B := hH) (fun p7 =>
        if (rdI p7.2 23 1) ≤ p7.1 then (
          some (.inr p7.2)
        ) else (
          bP (f_By_s2 5 ((rdI p7.2 4 25) + ((2 : Int32) * p7.1)) p7.2) fun a9 =>
          bP (f_Ma_scaled (Int32.toInt64 a9) p7.2) fun a10 =>
          gd (vp_in p7.1 256) <|
          lz (wrI p7.2 24 (Int32.toNatClampNeg p7.1) a10) fun h8 =>
          lz (A := Int32) (p7.1 + (1 : Int32)) fun v12 =>
          some (.inl (v12, h8))
        )
    ) ((0 : Int32), h7)
  ) fun p8 =>
  bS (f_Zo_clear 26 (rdI p8 4 10) p8) fun _ h9 =>
  bS (f_Se_clear 33 h9) fun _ h10 =>
  lz (wrI h10 34 6 (0 : Int32)) fun h11 =>
  lz (wrP h11 22 3 0) fun h12 =>
  some ((), h12)
set_option maxRecDepth 20000 in
theorem k_Ma_begin (x1 : Int32) (h : hH) : hx_kS S0 M_Ma_begin 4 NT [(.ref 22), (.int x1)] h (f_Ma_begin x1 h) cvU := by
  have hm := m_Ma_begin
  show hx_P S0 M_Ma_begin 4 0 [(0, (.ref 22)), (1, (.int x1))] [] NT h (f_Ma_begin x1 h) (hx_Rc cvU NT)
  unfold f_Ma_begin
  refine hp_w hm (at1 0 rfl) (L' := [(0, (.ref 22)), (1, (.int x1))]) rfl (by exact og_22) (pc' := 5) rfl (fun h1 => ?_)
  refine hp_w hm (at1 1 rfl) (L' := [(0, (.ref 22)), (1, (.int x1))]) rfl (by exact og_22) (pc' := 10) rfl (fun h2 => ?_)
  refine hp_w hm (at1 2 rfl) (L' := [(0, (.ref 22)), (1, (.int x1))]) rfl (by exact og_22) (pc' := 15) rfl (fun h3 => ?_)
  refine hp_b hm (at1 3 rfl) (L' := [(2, (.int (0 : Int32))), (0, (.ref 22)), (1, (.int x1))]) (st' := []) rfl (by exact trivial) (pc' := 17) rfl ?_
  refine hp_J 46 (fun (p2 : hH) => [(0, (.ref 22))]) (fun (p2 : hH) => []) (fun (p2 : hH) => p2) ?_ (fun p2 => ?_)
  · refine hp_s [1, 0] rfl (L' := [(0, (.ref 22)), (2, (.int (0 : Int32)))]) ?_
    refine hp_wh (fun (p1 : (Int32 × hH)) => [(0, (.ref 22)), (2, (.int p1.1))]) [] (fun (p1 : (Int32 × hH)) => p1.2) (fun p1 => ?_) ((0 : Int32), h3)
    refine hp_ic_ge hm (at1 4 rfl) rfl (by exact trivial) (pc' := 20) rfl 1 rfl (tgt := 46) rfl (fun c6 => ?_) (fun c6 => ?_)
    · exact hp_lf [0] rfl (fun _ e => e)
    · refine hp_GW hm (at1 5 rfl) (L' := [(0, (.ref 22)), (2, (.int p1.1))]) rfl (fun hP => (by exact ⟨og_22, ⟨og_49, hP⟩⟩)) (pc' := 30) rfl (fun q3 h4 => ?_)
      refine hp_GW hm (at1 6 rfl) (L' := [(0, (.ref 22)), (2, (.int p1.1))]) rfl (fun hP => (by exact ⟨⟨og_22, og_23⟩, ⟨og_25, hP⟩⟩)) (pc' := 40) rfl (fun q4 h5 => ?_)
      refine hp_z hm (at1 7 rfl) (fun (v5 : Int32) => [(2, (.int v5)), (0, (.ref 22))]) (fun (v5 : Int32) => []) rfl (by exact trivial) (pc' := 43) rfl (fun v5 => ?_)
      refine hp_goto hm 0 rfl (tgt := 17) rfl ?_
      exact hp_lf [1, 0] rfl (fun _ e => e)
  · refine hp_w hm (at1 8 rfl) (L' := [(0, (.ref 22))]) rfl (by exact ⟨⟨⟨og_22, og_22⟩, og_4⟩, og_23⟩) (pc' := 60) rfl (fun h6 => ?_)
    refine hp_w hm (at1 9 rfl) (L' := [(0, (.ref 22))]) rfl (by exact ⟨⟨⟨og_22, og_22⟩, og_4⟩, og_23⟩) (pc' := 74) rfl (fun h7 => ?_)
    refine hp_b hm (at1 10 rfl) (L' := [(2, (.int (0 : Int32))), (0, (.ref 22))]) (st' := []) rfl (by exact trivial) (pc' := 76) rfl ?_
    refine hp_J 128 (fun (p8 : hH) => [(0, (.ref 22))]) (fun (p8 : hH) => []) (fun (p8 : hH) => p8) ?_ (fun p8 => ?_)
    · refine hp_s [1, 0] rfl (L' := [(0, (.ref 22)), (2, (.int (0 : Int32)))]) ?_
      refine hp_wh (fun (p7 : (Int32 × hH)) => [(0, (.ref 22)), (2, (.int p7.1))]) [] (fun (p7 : (Int32 × hH)) => p7.2) (fun p7 => ?_) ((0 : Int32), h7)
      refine hp_ic_ge hm (at1 11 rfl) rfl (by exact ⟨og_22, og_23⟩) (pc' := 84) rfl 5 rfl (tgt := 128) rfl (fun c13 => ?_) (fun c13 => ?_)
      · exact hp_lf [0] rfl (fun _ e => e)
      · refine hp_cVP (M2 := M_By_s2) hm (at1 12 rfl) (as := [(.int ((rdI p7.2 4 25) + ((2 : Int32) * p7.1)))]) (rest := [(.ref 22), (.int p7.1), (.ref 24)]) (z := 5) rfl (by exact ⟨⟨⟨⟨⟨og_22, og_23⟩, og_22⟩, og_4⟩, og_22⟩, og_4⟩) (pc' := 114) rfl 2 rfl (lw_g (lw_at lw_m5 102 rfl) rfl) y_By_s2 rfl (d2 := 3) ⟨le_b rfl, pd_By_s2, le_b rfl⟩ (le_b rfl) og_5 (k_By_s2 5 ((rdI p7.2 4 25) + ((2 : Int32) * p7.1)) p7.2 og_5) (fun a9 => ?_)
        refine hp_cVP (M2 := M_Ma_scaled) hm (at1 13 rfl) (as := [(.long (Int32.toInt64 a9))]) (rest := [(.int p7.1), (.ref 24)]) (z := 22) rfl (by exact trivial) (pc' := 118) rfl 3 rfl (lw_g (lw_at lw_m5 103 rfl) rfl) y_Ma_scaled rfl (d2 := 3) ⟨le_b rfl, pd_Ma_scaled, le_b rfl⟩ (le_b rfl) og_22 (k_Ma_scaled (Int32.toInt64 a9) p7.2) (fun a10 => ?_)
        refine hp_GW hm (at1 14 rfl) (L' := [(0, (.ref 22)), (2, (.int p7.1))]) rfl (fun hP => (by exact ⟨og_24, hP⟩)) (pc' := 122) rfl (fun q11 h8 => ?_)
        refine hp_z hm (at1 15 rfl) (fun (v12 : Int32) => [(2, (.int v12)), (0, (.ref 22))]) (fun (v12 : Int32) => []) rfl (by exact trivial) (pc' := 125) rfl (fun v12 => ?_)
        refine hp_goto hm 4 rfl (tgt := 76) rfl ?_
        exact hp_lf [1, 0] rfl (fun _ e => e)
    · refine hp_cVS (M2 := M_Zo_clear) hm (at1 16 rfl) (as := [(.int (rdI p8 4 10))]) (rest := []) (z := 26) rfl (by exact ⟨⟨⟨og_22, og_23⟩, og_22⟩, og_4⟩) (pc' := 142) rfl 6 rfl (lw_g (lw_at lw_m5 115 rfl) rfl) y_Zo_clear rfl (d2 := 2) ⟨le_b rfl, pd_Zo_clear, le_b rfl⟩ (le_b rfl) og_26 (k_Zo_clear 26 (rdI p8 4 10) p8 og_26) (fun _ h9 => ?_)
      refine hp_cVS (M2 := M_Se_clear) hm (at1 17 rfl) (as := []) (rest := []) (z := 33) rfl (by exact ⟨og_22, og_23⟩) (pc' := 152) rfl 7 rfl (lw_g (lw_at lw_m5 123 rfl) rfl) y_Se_clear rfl (d2 := 1) ⟨le_b rfl, pd_Se_clear, le_b rfl⟩ (le_b rfl) og_33 (k_Se_clear 33 h9 og_33) (fun _ h10 => ?_)
      refine hp_w hm (at1 18 rfl) (L' := [(0, (.ref 22))]) rfl (by exact ⟨og_22, og_34⟩) (pc' := 163) rfl (fun h11 => ?_)
      refine hp_w hm (at1 19 rfl) (L' := [(0, (.ref 22))]) rfl (by exact og_22) (pc' := 168) rfl (fun h12 => ?_)
      exact hp_vr hm 8 rfl rfl (fun _ e => e)
/-! HintHouse$Machine.axes(II)V -/
def M_Ma_axes : hM := (4, ⟨"HintHouse$Machine", "axes", "(II)V"⟩, prog_6_method_8_code, 3, (Option.none : Option Jvm.ClassFile.FieldType), [], [(0, [(.aload_n 0, 1, 0, 0, 0, .null), (.iload_n 1, 1, 0, 0, 0, .null), (.putfield 200, 3, 4, 28, 0, .null)]), (5, [(.aload_n 0, 1, 0, 0, 0, .null), (.iload_n 2, 1, 0, 0, 0, .null), (.putfield 203, 3, 4, 29, 0, .null)]), (10, [(.aload_n 0, 1, 0, 0, 0, .null), (.iload_n 1, 1, 0, 0, 0, .null), (.putfield 206, 3, 4, 30, 0, .null)]), (15, [(.aload_n 0, 1, 0, 0, 0, .null), (.iload_n 2, 1, 0, 0, 0, .null), (.putfield 209, 3, 4, 31, 0, .null)]), (20, [(.aload_n 0, 1, 0, 0, 0, .null), (.iload_n 1, 1, 0, 0, 0, .null), (.putfield 212, 3, 4, 32, 0, .null)]), (25, [(.aload_n 0, 1, 0, 0, 0, .null), (.iload_n 2, 1, 0, 0, 0, .null), (.putfield 215, 3, 4, 33, 0, .null)])], [(30, .return_, 1)])
set_option maxRecDepth 100000 in
theorem m_Ma_axes : hx_mok M_Ma_axes = true := by decide +kernel
theorem pd_Ma_axes : (parseMethodDescriptor M_Ma_axes.2.1.desc).map (fun q => q.parameters.length) = some 2 := by decide +kernel
theorem y_Ma_axes : hx_okV M_Ma_axes := ⟨⟨lw_g (lw_at lw_m5 134 rfl) rfl, lw_g (lw_at lw_m5 133 rfl) rfl, qs36, lw_g (lw_at lw_m1 5 rfl) rfl, rfl, by decide, by decide, by decide⟩, rfl, by decide, plainFor_of_name (by decide)⟩
noncomputable def f_Ma_axes (x1 : Int32) (x2 : Int32) (h : hH) : Option (Unit × hH) :=
  lz (wrI h 22 28 x1) fun h1 =>
  lz (wrI h1 22 29 x2) fun h2 =>
  lz (wrI h2 22 30 x1) fun h3 =>
  lz (wrI h3 22 31 x2) fun h4 =>
  lz (wrI h4 22 32 x1) fun h5 =>
  lz (wrI h5 22 33 x2) fun h6 =>
  some ((), h6)
set_option maxRecDepth 20000 in
theorem k_Ma_axes (x1 : Int32) (x2 : Int32) (h : hH) : hx_kS S0 M_Ma_axes 1 NT [(.ref 22), (.int x1), (.int x2)] h (f_Ma_axes x1 x2 h) cvU := by
  have hm := m_Ma_axes
  show hx_P S0 M_Ma_axes 1 0 [(0, (.ref 22)), (1, (.int x1)), (2, (.int x2))] [] NT h (f_Ma_axes x1 x2 h) (hx_Rc cvU NT)
  unfold f_Ma_axes
  refine hp_w hm (at1 0 rfl) (L' := [(0, (.ref 22)), (1, (.int x1)), (2, (.int x2))]) rfl (by exact og_22) (pc' := 5) rfl (fun h1 => ?_)
  refine hp_w hm (at1 1 rfl) (L' := [(0, (.ref 22)), (1, (.int x1)), (2, (.int x2))]) rfl (by exact og_22) (pc' := 10) rfl (fun h2 => ?_)
  refine hp_w hm (at1 2 rfl) (L' := [(0, (.ref 22)), (1, (.int x1)), (2, (.int x2))]) rfl (by exact og_22) (pc' := 15) rfl (fun h3 => ?_)
  refine hp_w hm (at1 3 rfl) (L' := [(0, (.ref 22)), (1, (.int x1)), (2, (.int x2))]) rfl (by exact og_22) (pc' := 20) rfl (fun h4 => ?_)
  refine hp_w hm (at1 4 rfl) (L' := [(0, (.ref 22)), (1, (.int x1)), (2, (.int x2))]) rfl (by exact og_22) (pc' := 25) rfl (fun h5 => ?_)
  refine hp_w hm (at1 5 rfl) (L' := [(0, (.ref 22)), (1, (.int x1)), (2, (.int x2))]) rfl (by exact og_22) (pc' := 30) rfl (fun h6 => ?_)
  exact hp_vr hm 0 rfl rfl (fun _ e => e)
/-! HintHouse$Machine.rounding(III)V -/
def M_Ma_rounding : hM := (4, ⟨"HintHouse$Machine", "rounding", "(III)V"⟩, prog_6_method_9_code, 4, (Option.none : Option Jvm.ClassFile.FieldType), [], [(0, [(.aload_n 0, 1, 0, 0, 0, .null), (.iconst 1, 1, 0, 0, 0, (.int (1 : Int32))), (.putfield 218, 3, 4, 39, 1, .null)]), (5, [(.aload_n 0, 1, 0, 0, 0, .null), (.iload_n 1, 1, 0, 0, 0, .null), (.putfield 222, 3, 4, 40, 0, .null)]), (10, [(.aload_n 0, 1, 0, 0, 0, .null), (.iload_n 2, 1, 0, 0, 0, .null), (.putfield 225, 3, 4, 41, 0, .null)]), (15, [(.aload_n 0, 1, 0, 0, 0, .null), (.iload_n 3, 1, 0, 0, 0, .null), (.putfield 228, 3, 4, 42, 0, .null)])], [(20, .return_, 1)])
set_option maxRecDepth 100000 in
theorem m_Ma_rounding : hx_mok M_Ma_rounding = true := by decide +kernel
theorem pd_Ma_rounding : (parseMethodDescriptor M_Ma_rounding.2.1.desc).map (fun q => q.parameters.length) = some 3 := by decide +kernel
theorem y_Ma_rounding : hx_okV M_Ma_rounding := ⟨⟨lw_g (lw_at lw_m5 138 rfl) rfl, lw_g (lw_at lw_m5 137 rfl) rfl, qs37, lw_g (lw_at lw_m1 5 rfl) rfl, rfl, by decide, by decide, by decide⟩, rfl, by decide, plainFor_of_name (by decide)⟩
noncomputable def f_Ma_rounding (x1 : Int32) (x2 : Int32) (x3 : Int32) (h : hH) : Option (Unit × hH) :=
  lz (wrI h 22 39 (1 : Int32)) fun h1 =>
  lz (wrI h1 22 40 x1) fun h2 =>
  lz (wrI h2 22 41 x2) fun h3 =>
  lz (wrI h3 22 42 x3) fun h4 =>
  some ((), h4)
set_option maxRecDepth 20000 in
theorem k_Ma_rounding (x1 : Int32) (x2 : Int32) (x3 : Int32) (h : hH) : hx_kS S0 M_Ma_rounding 1 NT [(.ref 22), (.int x1), (.int x2), (.int x3)] h (f_Ma_rounding x1 x2 x3 h) cvU := by
  have hm := m_Ma_rounding
  show hx_P S0 M_Ma_rounding 1 0 [(0, (.ref 22)), (1, (.int x1)), (2, (.int x2)), (3, (.int x3))] [] NT h (f_Ma_rounding x1 x2 x3 h) (hx_Rc cvU NT)
  unfold f_Ma_rounding
  refine hp_w hm (at1 0 rfl) (L' := [(0, (.ref 22)), (1, (.int x1)), (2, (.int x2)), (3, (.int x3))]) rfl (by exact ⟨og_22, (Or.inr rfl)⟩) (pc' := 5) rfl (fun h1 => ?_)
  refine hp_w hm (at1 1 rfl) (L' := [(0, (.ref 22)), (1, (.int x1)), (2, (.int x2)), (3, (.int x3))]) rfl (by exact og_22) (pc' := 10) rfl (fun h2 => ?_)
  refine hp_w hm (at1 2 rfl) (L' := [(0, (.ref 22)), (1, (.int x1)), (2, (.int x2)), (3, (.int x3))]) rfl (by exact og_22) (pc' := 15) rfl (fun h3 => ?_)
  refine hp_w hm (at1 3 rfl) (L' := [(0, (.ref 22)), (1, (.int x1)), (2, (.int x2)), (3, (.int x3))]) rfl (by exact og_22) (pc' := 20) rfl (fun h4 => ?_)
  exact hp_vr hm 0 rfl rfl (fun _ e => e)
/-! HintHouse$Machine.want(ZI)V -/
def M_Ma_want : hM := (4, ⟨"HintHouse$Machine", "want", "(ZI)V"⟩, prog_6_method_2_code, 3, (Option.none : Option Jvm.ClassFile.FieldType), [], [(0, [(.iload_n 1, 1, 0, 0, 0, .null)]), (4, [(.aload_n 0, 1, 0, 0, 0, .null), (.iload_n 2, 1, 0, 0, 0, .null), (.putfield 77, 3, 4, 13, 0, .null)])], [(17, .return_, 1), (9, .new 81, 3), (12, .dup, 1), (13, .invokespecial 83, 3), (16, .athrow, 1), (1, .ifCond .ne 16, 3)])
set_option maxRecDepth 100000 in
theorem m_Ma_want : hx_mok M_Ma_want = true := by decide +kernel
theorem pd_Ma_want : (parseMethodDescriptor M_Ma_want.2.1.desc).map (fun q => q.parameters.length) = some 2 := by decide +kernel
theorem y_Ma_want : hx_okV M_Ma_want := ⟨⟨lw_g (lw_at lw_m5 142 rfl) rfl, lw_g (lw_at lw_m5 141 rfl) rfl, qs38, lw_g (lw_at lw_m1 5 rfl) rfl, rfl, by decide, by decide, by decide⟩, rfl, by decide, plainFor_of_name (by decide)⟩
noncomputable def f_Ma_want (x1 : Int32) (x2 : Int32) (h : hH) : Option (hH ⊕ (Unit × hH)) :=
  if x1 = 0 then (
    lz (wrI h 22 13 x2) fun h1 =>
    some (.inl h1)
  ) else (
    some (.inr ((), h))
  )
set_option maxRecDepth 20000 in
theorem k_Ma_want (x1 : Int32) (x2 : Int32) (h : hH) : hx_kT S0 M_Ma_want 6 NT [(.ref 22), (.int x1), (.int x2)] h (f_Ma_want x1 x2 h) cvU := by
  have hm := m_Ma_want
  show hx_P S0 M_Ma_want 6 0 [(0, (.ref 22)), (1, (.int x1)), (2, (.int x2))] [] NT h (f_Ma_want x1 x2 h) (hx_T NT (hx_Rc cvU NT))
  unfold f_Ma_want
  refine hp_if_ne hm (at1 0 rfl) rfl (by exact trivial) (pc' := 1) rfl 5 rfl (tgt := 17) rfl (fun c1 => ?_) (fun c1 => ?_)
  · exact hp_vr hm 0 rfl rfl (fun _ e => e)
  · refine hp_w hm (at1 1 rfl) (L' := [(0, (.ref 22)), (1, (.int x1)), (2, (.int x2))]) rfl (by exact og_22) (pc' := 9) rfl (fun h1 => ?_)
    exact hp_thr hm 1 2 3 4 rfl rfl rfl rfl hx_oa4 (lw_g (lw_at lw_m5 143 rfl) rfl) (lw_g (lw_at lw_m5 144 rfl) rfl) (lw_g (lw_at lw_m1 17 rfl) rfl) (le_b rfl) rfl
/-! HintHouse$Machine.byteAt(I)I -/
def M_Ma_byteAt : hM := (4, ⟨"HintHouse$Machine", "byteAt", "(I)I"⟩, prog_6_method_6_code, 2, (Option.some Jvm.ClassFile.FieldType.int), [], [(0, [(.aload_n 0, 1, 0, 0, 0, .null), (.iload_n 1, 1, 0, 0, 0, .null), (.aload_n 0, 1, 0, 0, 0, .null), (.getfield 31, 3, 4, 10, 4, .null), (.aload_n 0, 1, 0, 0, 0, .null), (.getfield 158, 3, 4, 7, 0, .null), (.iaload, 1, 0, 0, 0, .null)]), (18, [(.iconst 0, 1, 0, 0, 0, (.int (0 : Int32)))]), (14, [(.iconst 1, 1, 0, 0, 0, (.int (1 : Int32)))]), (19, [(.iconst 4, 1, 0, 0, 0, (.int (4 : Int32)))]), (23, [(.aload_n 0, 1, 0, 0, 0, .null), (.getfield 73, 3, 4, 0, 4, .null), (.getfield 110, 3, 2, 0, 4, .null), (.aload_n 0, 1, 0, 0, 0, .null), (.getfield 27, 3, 4, 9, 4, .null), (.aload_n 0, 1, 0, 0, 0, .null), (.getfield 158, 3, 4, 7, 0, .null), (.iaload, 1, 0, 0, 0, .null), (.iload_n 1, 1, 0, 0, 0, .null), (.iadd, 1, 0, 0, 0, .null)])], [(15, .goto 4, 3), (11, .if_icmp .ge 7, 3), (20, .invokevirtual 187, 3), (41, .invokevirtual 194, 3), (44, .ireturn, 1)])
set_option maxRecDepth 100000 in
theorem m_Ma_byteAt : hx_mok M_Ma_byteAt = true := by decide +kernel
theorem pd_Ma_byteAt : (parseMethodDescriptor M_Ma_byteAt.2.1.desc).map (fun q => q.parameters.length) = some 1 := by decide +kernel
theorem y_Ma_byteAt : hx_okV M_Ma_byteAt := ⟨⟨lw_g (lw_at lw_m5 211 rfl) rfl, lw_g (lw_at lw_m5 210 rfl) rfl, qs41, lw_g (lw_at lw_m1 5 rfl) rfl, rfl, by decide, by decide, by decide⟩, rfl, by decide, plainFor_of_name (by decide)⟩
noncomputable def f_Ma_byteAt (x1 : Int32) (h : hH) : Option (hH ⊕ (Int32 × hH)) :=
  gd (vp_in (rdI h 22 7) 3) <|
  lz (A := Int32) (if (rdI h 42 (Int32.toNatClampNeg (rdI h 22 7))) ≤ x1 then (0 : Int32) else (1 : Int32)) fun p2 =>
  bT (f_Ma_want p2 (4 : Int32) h) fun _ h1 =>
  gd (vp_in (rdI h1 22 7) 3) <|
  bP (f_By_u1 5 ((rdI h1 41 (Int32.toNatClampNeg (rdI h1 22 7))) + x1) h1) fun a5 =>
  some (.inr (a5, h1))
set_option maxRecDepth 20000 in
theorem k_Ma_byteAt (x1 : Int32) (h : hH) : hx_kT S0 M_Ma_byteAt 7 NT [(.ref 22), (.int x1)] h (f_Ma_byteAt x1 h) cvI := by
  have hm := m_Ma_byteAt
  show hx_P S0 M_Ma_byteAt 7 0 [(0, (.ref 22)), (1, (.int x1))] [] NT h (f_Ma_byteAt x1 h) (hx_T NT (hx_Rc cvI NT))
  unfold f_Ma_byteAt
  refine hp_G hm (at1 0 rfl) (L' := [(0, (.ref 22)), (1, (.int x1))]) (st' := [(.int (rdI h 42 (Int32.toNatClampNeg (rdI h 22 7)))), (.int x1), (.ref 22)]) rfl (fun hP => (by exact ⟨⟨og_22, og_22⟩, ⟨og_42, hP⟩⟩)) (pc' := 11) rfl (fun q1 => ?_)
  refine hp_JZ 19 (fun (p2 : Int32) => [(0, (.ref 22)), (1, (.int x1))]) (fun (p2 : Int32) => [(.int p2), (.ref 22)]) (fun (p2 : Int32) => h) ?_ (fun p2 => ?_)
  · refine hp_sv0 ?_
    refine hp_ic_ge hm at0 rfl (by exact trivial) (pc' := 11) rfl 1 rfl (tgt := 18) rfl (fun c3 => ?_) (fun c3 => ?_)
    · refine hp_b hm (at1 1 rfl) (L' := [(0, (.ref 22)), (1, (.int x1))]) (st' := [(.int (0 : Int32)), (.ref 22)]) rfl (by exact trivial) (pc' := 19) rfl ?_
      exact hp_lf [0, 1] rfl (fun _ e => e)
    · refine hp_b hm (at1 2 rfl) (L' := [(0, (.ref 22)), (1, (.int x1))]) (st' := [(.int (1 : Int32)), (.ref 22)]) rfl (by exact trivial) (pc' := 15) rfl ?_
      refine hp_goto hm 0 rfl (tgt := 19) rfl ?_
      exact hp_lf [0, 1] rfl (fun _ e => e)
  · refine hp_cVT (M2 := M_Ma_want) hm (at1 3 rfl) (as := [(.int p2), (.int (4 : Int32))]) (rest := []) (z := 22) rfl (by exact trivial) (pc' := 20) rfl 2 rfl (lw_g (lw_at lw_m5 139 rfl) rfl) y_Ma_want rfl (d2 := 6) ⟨le_b rfl, pd_Ma_want, le_b rfl⟩ (le_b rfl) og_22 rfl (k_Ma_want p2 (4 : Int32) h) (fun _ h1 => ?_)
    refine hp_G hm (at1 4 rfl) (L' := [(0, (.ref 22)), (1, (.int x1))]) (st' := [(.int ((rdI h1 41 (Int32.toNatClampNeg (rdI h1 22 7))) + x1)), (.ref 5)]) rfl (fun hP => (by exact ⟨⟨⟨⟨og_22, og_4⟩, og_22⟩, og_22⟩, ⟨og_41, hP⟩⟩)) (pc' := 41) rfl (fun q4 => ?_)
    refine hp_cVP (M2 := M_By_u1) hm at0 (as := [(.int ((rdI h1 41 (Int32.toNatClampNeg (rdI h1 22 7))) + x1))]) (rest := []) (z := 5) rfl (by exact trivial) (pc' := 41) rfl 3 rfl (lw_g (lw_at lw_m5 212 rfl) rfl) y_By_u1 rfl (d2 := 1) ⟨le_b rfl, pd_By_u1, le_b rfl⟩ (le_b rfl) og_5 (k_By_u1 5 ((rdI h1 41 (Int32.toNatClampNeg (rdI h1 22 7))) + x1) h1 og_5) (fun a5 => ?_)
    exact hp_ir hm at0 rfl (by exact trivial) (pc' := 44) rfl 4 rfl rfl (vp_nar_int _) (fun _ e => e)
/-! HintHouse$Machine.need(I)V -/
def M_Ma_need : hM := (4, ⟨"HintHouse$Machine", "need", "(I)V"⟩, prog_6_method_10_code, 2, (Option.none : Option Jvm.ClassFile.FieldType), [], [(0, [(.aload_n 0, 1, 0, 0, 0, .null), (.aload_n 0, 1, 0, 0, 0, .null), (.getfield 170, 3, 4, 15, 0, .null), (.iload_n 1, 1, 0, 0, 0, .null)]), (13, [(.iconst 0, 1, 0, 0, 0, (.int (0 : Int32)))]), (9, [(.iconst 1, 1, 0, 0, 0, (.int (1 : Int32)))]), (14, [(.iconst 1, 1, 0, 0, 0, (.int (1 : Int32)))])], [(10, .goto 4, 3), (6, .if_icmp .lt 7, 3), (15, .invokevirtual 187, 3), (18, .return_, 1)])
set_option maxRecDepth 100000 in
theorem m_Ma_need : hx_mok M_Ma_need = true := by decide +kernel
theorem pd_Ma_need : (parseMethodDescriptor M_Ma_need.2.1.desc).map (fun q => q.parameters.length) = some 1 := by decide +kernel
theorem y_Ma_need : hx_okV M_Ma_need := ⟨⟨lw_g (lw_at lw_m5 220 rfl) rfl, lw_g (lw_at lw_m5 219 rfl) rfl, qs43, lw_g (lw_at lw_m1 5 rfl) rfl, rfl, by decide, by decide, by decide⟩, rfl, by decide, plainFor_of_name (by decide)⟩
noncomputable def f_Ma_need (x1 : Int32) (h : hH) : Option (hH ⊕ (Unit × hH)) :=
  lz (A := Int32) (if (rdI h 22 15) < x1 then (0 : Int32) else (1 : Int32)) fun p1 =>
  bT (f_Ma_want p1 (1 : Int32) h) fun _ h1 =>
  some (.inr ((), h1))
set_option maxRecDepth 20000 in
theorem k_Ma_need (x1 : Int32) (h : hH) : hx_kT S0 M_Ma_need 7 NT [(.ref 22), (.int x1)] h (f_Ma_need x1 h) cvU := by
  have hm := m_Ma_need
  show hx_P S0 M_Ma_need 7 0 [(0, (.ref 22)), (1, (.int x1))] [] NT h (f_Ma_need x1 h) (hx_T NT (hx_Rc cvU NT))
  unfold f_Ma_need
  refine hp_JZ 14 (fun (p1 : Int32) => []) (fun (p1 : Int32) => [(.int p1), (.ref 22)]) (fun (p1 : Int32) => h) ?_ (fun p1 => ?_)
  · refine hp_sv0 ?_
    refine hp_ic_lt hm (at1 0 rfl) rfl (by exact og_22) (pc' := 6) rfl 1 rfl (tgt := 13) rfl (fun c2 => ?_) (fun c2 => ?_)
    · refine hp_b hm (at1 1 rfl) (L' := [(0, (.ref 22)), (1, (.int x1))]) (st' := [(.int (0 : Int32)), (.ref 22)]) rfl (by exact trivial) (pc' := 14) rfl ?_
      exact hp_lf [] rfl (fun _ e => e)
    · refine hp_b hm (at1 2 rfl) (L' := [(0, (.ref 22)), (1, (.int x1))]) (st' := [(.int (1 : Int32)), (.ref 22)]) rfl (by exact trivial) (pc' := 10) rfl ?_
      refine hp_goto hm 0 rfl (tgt := 14) rfl ?_
      exact hp_lf [] rfl (fun _ e => e)
  · refine hp_cVT (M2 := M_Ma_want) hm (at1 3 rfl) (as := [(.int p1), (.int (1 : Int32))]) (rest := []) (z := 22) rfl (by exact trivial) (pc' := 15) rfl 2 rfl (lw_g (lw_at lw_m5 139 rfl) rfl) y_Ma_want rfl (d2 := 6) ⟨le_b rfl, pd_Ma_want, le_b rfl⟩ (le_b rfl) og_22 rfl (k_Ma_want p1 (1 : Int32) h) (fun _ h1 => ?_)
    exact hp_vr hm 3 rfl rfl (fun _ e => e)
/-! HintHouse$Machine.pop()I -/
def M_Ma_pop : hM := (4, ⟨"HintHouse$Machine", "pop", "()I"⟩, prog_6_method_11_code, 1, (Option.some Jvm.ClassFile.FieldType.int), [], [(0, [(.aload_n 0, 1, 0, 0, 0, .null), (.dup, 1, 0, 0, 0, .null), (.getfield 170, 3, 4, 15, 0, .null), (.iconst 1, 1, 0, 0, 0, (.int (1 : Int32))), (.isub, 1, 0, 0, 0, .null), (.putfield 170, 3, 4, 15, 0, .null)]), (10, [(.aload_n 0, 1, 0, 0, 0, .null), (.getfield 34, 3, 4, 14, 4, .null), (.aload_n 0, 1, 0, 0, 0, .null), (.getfield 170, 3, 4, 15, 0, .null), (.iaload, 1, 0, 0, 0, .null)])], [(19, .ireturn, 1)])
set_option maxRecDepth 100000 in
theorem m_Ma_pop : hx_mok M_Ma_pop = true := by decide +kernel
theorem pd_Ma_pop : (parseMethodDescriptor M_Ma_pop.2.1.desc).map (fun q => q.parameters.length) = some 0 := by decide +kernel
theorem y_Ma_pop : hx_okV M_Ma_pop := ⟨⟨lw_g (lw_at lw_m5 224 rfl) rfl, lw_g (lw_at lw_m5 223 rfl) rfl, qs44, lw_g (lw_at lw_m1 5 rfl) rfl, rfl, by decide, by decide, by decide⟩, rfl, by decide, plainFor_of_name (by decide)⟩
noncomputable def f_Ma_pop (h : hH) : Option (Int32 × hH) :=
  lz (wrI h 22 15 ((rdI h 22 15) - (1 : Int32))) fun h1 =>
  gd (vp_in (rdI h1 22 15) 256) <|
  some ((rdI h1 43 (Int32.toNatClampNeg (rdI h1 22 15))), h1)
set_option maxRecDepth 20000 in
theorem k_Ma_pop (h : hH) : hx_kS S0 M_Ma_pop 1 NT [(.ref 22)] h (f_Ma_pop h) cvI := by
  have hm := m_Ma_pop
  show hx_P S0 M_Ma_pop 1 0 [(0, (.ref 22))] [] NT h (f_Ma_pop h) (hx_Rc cvI NT)
  unfold f_Ma_pop
  refine hp_w hm (at1 0 rfl) (L' := [(0, (.ref 22))]) rfl (by exact ⟨og_22, og_22⟩) (pc' := 10) rfl (fun h1 => ?_)
  refine hp_G hm (at1 1 rfl) (L' := [(0, (.ref 22))]) (st' := [(.int (rdI h1 43 (Int32.toNatClampNeg (rdI h1 22 15))))]) rfl (fun hP => (by exact ⟨⟨og_22, og_22⟩, ⟨og_43, hP⟩⟩)) (pc' := 19) rfl (fun q1 => ?_)
  exact hp_ir hm at0 rfl (by exact trivial) (pc' := 19) rfl 0 rfl rfl (vp_nar_int _) (fun _ e => e)
/-! HintHouse$Machine.zone(I)LHintHouse$Zone; -/
def M_Ma_zone : hM := (4, ⟨"HintHouse$Machine", "zone", "(I)LHintHouse$Zone;"⟩, prog_6_method_14_code, 2, (Option.some (Jvm.ClassFile.FieldType.object "HintHouse$Zone")), [], [(0, [(.aload_n 0, 1, 0, 0, 0, .null), (.getfield 70, 3, 4, 37, 4, .null), (.iload_n 1, 1, 0, 0, 0, .null), (.iaload, 1, 0, 0, 0, .null)]), (19, [(.aload_n 0, 1, 0, 0, 0, .null), (.getfield 23, 3, 4, 2, 4, .null)]), (9, [(.aload_n 0, 1, 0, 0, 0, .null), (.getfield 12, 3, 4, 1, 4, .null), (.getfield 126, 3, 5, 4, 4, .null)])], [(23, .areturn, 1), (16, .goto 7, 3), (6, .ifCond .ne 13, 3)])
set_option maxRecDepth 100000 in
theorem m_Ma_zone : hx_mok M_Ma_zone = true := by decide +kernel
theorem pd_Ma_zone : (parseMethodDescriptor M_Ma_zone.2.1.desc).map (fun q => q.parameters.length) = some 1 := by decide +kernel
theorem y_Ma_zone : hx_okV M_Ma_zone := ⟨⟨lw_g (lw_at lw_m5 228 rfl) rfl, lw_g (lw_at lw_m5 227 rfl) rfl, qs45, lw_g (lw_at lw_m1 5 rfl) rfl, rfl, by decide, by decide, by decide⟩, rfl, by decide, plainFor_of_name (by decide)⟩
noncomputable def f_Ma_zone (x1 : Int32) (h : hH) : Option Nat :=
  gd (vp_in x1 3) <|
  if (rdI h 55 (Int32.toNatClampNeg x1)) = 0 then (
    some 26
  ) else (
    some 34
  )
set_option maxRecDepth 20000 in
theorem k_Ma_zone (x1 : Int32) (h : hH) : hx_kP S0 M_Ma_zone 1 NT [(.ref 22), (.int x1)] h (f_Ma_zone x1 h) cvA := by
  have hm := m_Ma_zone
  show hx_P S0 M_Ma_zone 1 0 [(0, (.ref 22)), (1, (.int x1))] [] NT h (f_Ma_zone x1 h) (hx_Rp cvA NT h)
  unfold f_Ma_zone
  refine hp_G hm (at1 0 rfl) (L' := [(0, (.ref 22)), (1, (.int x1))]) (st' := [(.int (rdI h 55 (Int32.toNatClampNeg x1)))]) rfl (fun hP => (by exact ⟨og_22, ⟨og_55, hP⟩⟩)) (pc' := 6) rfl (fun q1 => ?_)
  refine hp_if_ne hm at0 rfl (by exact trivial) (pc' := 6) rfl 2 rfl (tgt := 19) rfl (fun c2 => ?_) (fun c2 => ?_)
  · refine hp_b hm (at1 1 rfl) (L' := [(0, (.ref 22)), (1, (.int x1))]) (st' := [(.ref 34)]) rfl (by exact og_22) (pc' := 23) rfl ?_
    exact hp_ar hm at0 rfl (by exact trivial) (pc' := 23) rfl 0 rfl rfl (fun _ e => e)
  · refine hp_b hm (at1 2 rfl) (L' := [(0, (.ref 22)), (1, (.int x1))]) (st' := [(.ref 26)]) rfl (by exact ⟨og_22, og_23⟩) (pc' := 16) rfl ?_
    refine hp_goto hm 1 rfl (tgt := 23) rfl ?_
    exact hp_ar hm at0 rfl (by exact trivial) (pc' := 23) rfl 0 rfl rfl (fun _ e => e)
/-! HintHouse$Machine.point(LHintHouse$Zone;I)I -/
def M_Ma_point : hM := (4, ⟨"HintHouse$Machine", "point", "(LHintHouse$Zone;I)I"⟩, prog_6_method_15_code, 3, (Option.some Jvm.ClassFile.FieldType.int), [], [(0, [(.aload_n 0, 1, 0, 0, 0, .null), (.iload_n 2, 1, 0, 0, 0, .null), (.i2l, 1, 0, 0, 0, .null), (.lconst 0, 1, 0, 0, 0, (.long (0 : Int64))), (.aload_n 1, 1, 0, 0, 0, .null), (.getfield 142, 3, 6, 6, 0, .null), (.iconst 1, 1, 0, 0, 0, (.int (1 : Int32))), (.isub, 1, 0, 0, 0, .null), (.i2l, 1, 0, 0, 0, .null)]), (14, [(.iconst 5, 1, 0, 0, 0, (.int (5 : Int32)))]), (18, [(.iload_n 2, 1, 0, 0, 0, .null)])], [(11, .invokestatic 246, 3), (15, .invokevirtual 187, 3), (19, .ireturn, 1)])
set_option maxRecDepth 100000 in
theorem m_Ma_point : hx_mok M_Ma_point = true := by decide +kernel
theorem pd_Ma_point : (parseMethodDescriptor M_Ma_point.2.1.desc).map (fun q => q.parameters.length) = some 2 := by decide +kernel
theorem y_Ma_point : hx_okV M_Ma_point := ⟨⟨lw_g (lw_at lw_m5 232 rfl) rfl, lw_g (lw_at lw_m5 231 rfl) rfl, qs46, lw_g (lw_at lw_m1 5 rfl) rfl, rfl, by decide, by decide, by decide⟩, rfl, by decide, plainFor_of_name (by decide)⟩
noncomputable def f_Ma_point (x1 : Nat) (x2 : Int32) (h : hH) : Option (hH ⊕ (Int32 × hH)) :=
  bP (f_HH_within (Int32.toInt64 x2) (0 : Int64) (Int32.toInt64 ((rdI h x1 6) - (1 : Int32)))) fun a1 =>
  bT (f_Ma_want a1 (5 : Int32) h) fun _ h1 =>
  some (.inr (x2, h1))
set_option maxRecDepth 20000 in
theorem k_Ma_point (x1 : Nat) (x2 : Int32) (h : hH) (hx1 : isA 6 x1) : hx_kT S0 M_Ma_point 7 NT [(.ref 22), (.ref x1), (.int x2)] h (f_Ma_point x1 x2 h) cvI := by
  have hm := m_Ma_point
  show hx_P S0 M_Ma_point 7 0 [(0, (.ref 22)), (1, (.ref x1)), (2, (.int x2))] [] NT h (f_Ma_point x1 x2 h) (hx_T NT (hx_Rc cvI NT))
  unfold f_Ma_point
  refine hp_cNP (M2 := M_HH_within) hm (at1 0 rfl) (as := [(.long (Int32.toInt64 x2)), (.long (0 : Int64)), (.long (Int32.toInt64 ((rdI h x1 6) - (1 : Int32))))]) (rest := [(.ref 22)]) rfl (by exact hx1) (pc' := 11) rfl 0 rfl (hmn_4_246) y_HH_within rfl (d2 := 1) ⟨le_b rfl, pd_HH_within, le_b rfl⟩ (le_b rfl) (k_HH_within (Int32.toInt64 x2) (0 : Int64) (Int32.toInt64 ((rdI h x1 6) - (1 : Int32))) h) (fun a1 => ?_)
  refine hp_cVT (M2 := M_Ma_want) hm (at1 1 rfl) (as := [(.int a1), (.int (5 : Int32))]) (rest := []) (z := 22) rfl (by exact trivial) (pc' := 15) rfl 1 rfl (lw_g (lw_at lw_m5 139 rfl) rfl) y_Ma_want rfl (d2 := 6) ⟨le_b rfl, pd_Ma_want, le_b rfl⟩ (le_b rfl) og_22 rfl (k_Ma_want a1 (5 : Int32) h) (fun _ h1 => ?_)
  exact hp_ir hm (at1 2 rfl) rfl (by exact trivial) (pc' := 19) rfl 2 rfl rfl (vp_nar_int _) (fun _ e => e)
/-! HintHouse$Machine.single(J)J -/
def M_Ma_single : hM := (4, ⟨"HintHouse$Machine", "single", "(J)J"⟩, prog_6_method_72_code, 8, (Option.some Jvm.ClassFile.FieldType.long), [], [(0, [(.aload_n 0, 1, 0, 0, 0, .null), (.getfield 12, 3, 4, 1, 4, .null), (.getfield 134, 3, 5, 5, 4, .null), (.astore_n 3, 1, 0, 0, 0, .null), (.aload_n 3, 1, 0, 0, 0, .null), (.getfield 407, 3, 7, 1, 0, .null), (.i2l, 1, 0, 0, 0, .null)]), (16, [(.lstore 4, 2, 0, 0, 0, .null), (.lload_n 1, 1, 0, 0, 0, .null)]), (22, [(.lload 4, 2, 0, 0, 0, .null), (.lsub, 1, 0, 0, 0, .null)]), (28, [(.lstore 6, 2, 0, 0, 0, .null), (.lload 6, 2, 0, 0, 0, .null), (.aload_n 3, 1, 0, 0, 0, .null), (.getfield 404, 3, 7, 2, 0, .null), (.i2l, 1, 0, 0, 0, .null), (.lcmp, 1, 0, 0, 0, .null)]), (45, [(.lload_n 1, 1, 0, 0, 0, .null), (.lconst 0, 1, 0, 0, 0, (.long (0 : Int64))), (.lcmp, 1, 0, 0, 0, .null)]), (57, [(.lload 4, 2, 0, 0, 0, .null)]), (51, [(.lload 4, 2, 0, 0, 0, .null), (.lneg, 1, 0, 0, 0, .null)]), (41, [(.lload_n 1, 1, 0, 0, 0, .null)])], [(13, .invokestatic 268, 3), (19, .invokestatic 268, 3), (25, .invokestatic 268, 3), (59, .lreturn, 1), (54, .goto 5, 3), (48, .ifCond .ge 9, 3), (42, .goto 17, 3), (38, .ifCond .lt 7, 3)])
set_option maxRecDepth 100000 in
theorem m_Ma_single : hx_mok M_Ma_single = true := by decide +kernel
theorem pd_Ma_single : (parseMethodDescriptor M_Ma_single.2.1.desc).map (fun q => q.parameters.length) = some 1 := by decide +kernel
theorem y_Ma_single : hx_okV M_Ma_single := ⟨⟨lw_g (lw_at lw_m5 237 rfl) rfl, lw_g (lw_at lw_m5 236 rfl) rfl, qs47, lw_g (lw_at lw_m1 5 rfl) rfl, rfl, by decide, by decide, by decide⟩, rfl, by decide, plainFor_of_name (by decide)⟩
noncomputable def f_Ma_single (x1 : Int64) (h : hH) : Option Int64 :=
  bP (f_JM_abs (Int32.toInt64 (rdI h 33 1))) fun a1 =>
  bP (f_JM_abs x1) fun a2 =>
  bP (f_JM_abs (a2 - a1)) fun a3 =>
  if a3 < (Int32.toInt64 (rdI h 33 2)) then (
    if (0 : Int64) ≤ x1 then (
      some a1
    ) else (
      some (-a1)
    )
  ) else (
    some x1
  )
set_option maxRecDepth 20000 in
theorem k_Ma_single (x1 : Int64) (h : hH) : hx_kP S0 M_Ma_single 2 NT [(.ref 22), (.long x1)] h (f_Ma_single x1 h) cvL := by
  have hm := m_Ma_single
  show hx_P S0 M_Ma_single 2 0 [(0, (.ref 22)), (1, (.long x1))] [] NT h (f_Ma_single x1 h) (hx_Rp cvL NT h)
  unfold f_Ma_single
  refine hp_b hm (at1 0 rfl) (L' := [(3, (.ref 33)), (0, (.ref 22)), (1, (.long x1))]) (st' := [(.long (Int32.toInt64 (rdI h 33 1)))]) rfl (by exact ⟨⟨og_22, og_23⟩, og_33⟩) (pc' := 13) rfl ?_
  refine hp_cSP (M2 := M_JM_abs) hm at0 (as := [(.long (Int32.toInt64 (rdI h 33 1)))]) (rest := []) rfl (by exact trivial) (pc' := 13) rfl 0 rfl (lw_g (lw_at lw_m5 238 rfl) rfl) y_JM_abs rfl (d2 := 1) ⟨le_b rfl, pd_JM_abs, le_b rfl⟩ (le_b rfl) (k_JM_abs (Int32.toInt64 (rdI h 33 1)) h) (fun a1 => ?_)
  refine hp_b hm (at1 1 rfl) (L' := [(4, (.long a1)), (3, (.ref 33)), (0, (.ref 22)), (1, (.long x1))]) (st' := [(.long x1)]) rfl (by exact trivial) (pc' := 19) rfl ?_
  refine hp_cSP (M2 := M_JM_abs) hm at0 (as := [(.long x1)]) (rest := []) rfl (by exact trivial) (pc' := 19) rfl 1 rfl (lw_g (lw_at lw_m5 238 rfl) rfl) y_JM_abs rfl (d2 := 1) ⟨le_b rfl, pd_JM_abs, le_b rfl⟩ (le_b rfl) (k_JM_abs x1 h) (fun a2 => ?_)
  refine hp_cSP (M2 := M_JM_abs) hm (at1 2 rfl) (as := [(.long (a2 - a1))]) (rest := []) rfl (by exact trivial) (pc' := 25) rfl 2 rfl (lw_g (lw_at lw_m5 238 rfl) rfl) y_JM_abs rfl (d2 := 1) ⟨le_b rfl, pd_JM_abs, le_b rfl⟩ (le_b rfl) (k_JM_abs (a2 - a1) h) (fun a3 => ?_)
  refine hp_b hm (at1 3 rfl) (L' := [(6, (.long a3)), (4, (.long a1)), (3, (.ref 33)), (0, (.ref 22)), (1, (.long x1))]) (st' := [(.int (lg_cmp a3 (Int32.toInt64 (rdI h 33 2))))]) rfl (by exact og_33) (pc' := 38) rfl ?_
  refine hp_lc_lt hm at0 rfl (by exact trivial) (pc' := 38) rfl 7 rfl (tgt := 45) rfl (fun c5 => ?_) (fun c5 => ?_)
  · refine hp_lc_ge hm (at1 4 rfl) rfl (by exact trivial) (pc' := 48) rfl 5 rfl (tgt := 57) rfl (fun c4 => ?_) (fun c4 => ?_)
    · refine hp_b hm (at1 5 rfl) (L' := [(6, (.long a3)), (4, (.long a1)), (3, (.ref 33)), (0, (.ref 22)), (1, (.long x1))]) (st' := [(.long a1)]) rfl (by exact trivial) (pc' := 59) rfl ?_
      exact hp_lr hm at0 rfl (by exact trivial) (pc' := 59) rfl 3 rfl rfl (fun _ e => e)
    · refine hp_b hm (at1 6 rfl) (L' := [(6, (.long a3)), (4, (.long a1)), (3, (.ref 33)), (0, (.ref 22)), (1, (.long x1))]) (st' := [(.long (-a1))]) rfl (by exact trivial) (pc' := 54) rfl ?_
      refine hp_goto hm 4 rfl (tgt := 59) rfl ?_
      exact hp_lr hm at0 rfl (by exact trivial) (pc' := 59) rfl 3 rfl rfl (fun _ e => e)
  · refine hp_b hm (at1 7 rfl) (L' := [(6, (.long a3)), (4, (.long a1)), (3, (.ref 33)), (0, (.ref 22)), (1, (.long x1))]) (st' := [(.long x1)]) rfl (by exact trivial) (pc' := 42) rfl ?_
    refine hp_goto hm 6 rfl (tgt := 59) rfl ?_
    exact hp_lr hm at0 rfl (by exact trivial) (pc' := 59) rfl 3 rfl rfl (fun _ e => e)
/-! HintHouse$Machine.give(LHintHouse$Zone;ILHintHouse$Zone;IJ)V -/
def M_Ma_give : hM := (4, ⟨"HintHouse$Machine", "give", "(LHintHouse$Zone;ILHintHouse$Zone;IJ)V"⟩, prog_6_method_49_code, 7, (Option.none : Option Jvm.ClassFile.FieldType), [], [(0, [(.aload_n 1, 1, 0, 0, 0, .null), (.aload_n 0, 1, 0, 0, 0, .null), (.getfield 12, 3, 4, 1, 4, .null), (.getfield 126, 3, 5, 4, 4, .null)]), (11, [(.aload_n 1, 1, 0, 0, 0, .null), (.iload_n 2, 1, 0, 0, 0, .null), (.aload_n 3, 1, 0, 0, 0, .null), (.getfield 262, 3, 6, 0, 4, .null), (.iload 4, 2, 0, 0, 0, .null), (.iaload, 1, 0, 0, 0, .null), (.i2l, 1, 0, 0, 0, .null), (.lload 5, 2, 0, 0, 0, .null), (.aload_n 0, 1, 0, 0, 0, .null), (.getfield 200, 3, 4, 28, 0, .null), (.i2l, 1, 0, 0, 0, .null), (.lmul, 1, 0, 0, 0, .null), (.ldc2_w 250, 3, 0, 0, 0, (.long (16384 : Int64)))]), (35, [(.ladd, 1, 0, 0, 0, .null), (.l2i, 1, 0, 0, 0, .null), (.aload_n 3, 1, 0, 0, 0, .null), (.getfield 265, 3, 6, 1, 4, .null), (.iload 4, 2, 0, 0, 0, .null), (.iaload, 1, 0, 0, 0, .null), (.i2l, 1, 0, 0, 0, .null), (.lload 5, 2, 0, 0, 0, .null), (.aload_n 0, 1, 0, 0, 0, .null), (.getfield 203, 3, 4, 29, 0, .null), (.i2l, 1, 0, 0, 0, .null), (.lmul, 1, 0, 0, 0, .null), (.ldc2_w 250, 3, 0, 0, 0, (.long (16384 : Int64)))]), (59, [(.ladd, 1, 0, 0, 0, .null), (.l2i, 1, 0, 0, 0, .null)])], [(64, .return_, 1), (32, .invokestatic 154, 3), (56, .invokestatic 154, 3), (61, .invokevirtual 468, 3), (8, .if_acmp .ne 56, 3)])
set_option maxRecDepth 100000 in
theorem m_Ma_give : hx_mok M_Ma_give = true := by decide +kernel
theorem pd_Ma_give : (parseMethodDescriptor M_Ma_give.2.1.desc).map (fun q => q.parameters.length) = some 5 := by decide +kernel
theorem y_Ma_give : hx_okV M_Ma_give := ⟨⟨lw_g (lw_at lw_m6 2 rfl) rfl, lw_g (lw_at lw_m6 1 rfl) rfl, qs48, lw_g (lw_at lw_m1 5 rfl) rfl, rfl, by decide, by decide, by decide⟩, rfl, by decide, plainFor_of_name (by decide)⟩
noncomputable def f_Ma_give (x1 : Nat) (x2 : Int32) (x3 : Nat) (x4 : Int32) (x5 : Int64) (h : hH) : Option (Unit × hH) :=
  if x1 = 26 then (
    gd (vp_in x4 (zr x3)) <|
    bP (f_HH_over (x5 * (Int32.toInt64 (rdI h 22 28))) (16384 : Int64)) fun a2 =>
    gd (vp_in x4 (zr x3)) <|
    bP (f_HH_over (x5 * (Int32.toInt64 (rdI h 22 29))) (16384 : Int64)) fun a4 =>
    bS (f_Zo_place x1 x2 (Int64.toInt32 ((Int32.toInt64 (rdI h (rf x3 0) (Int32.toNatClampNeg x4))) + a2)) (Int64.toInt32 ((Int32.toInt64 (rdI h (rf x3 1) (Int32.toNatClampNeg x4))) + a4)) h) fun _ h1 =>
    some ((), h1)
  ) else (
    some ((), h)
  )
set_option maxRecDepth 20000 in
theorem k_Ma_give (x1 : Nat) (x2 : Int32) (x3 : Nat) (x4 : Int32) (x5 : Int64) (h : hH) (hx1 : isA 6 x1) (hx3 : isA 6 x3) : hx_kS S0 M_Ma_give 3 NT [(.ref 22), (.ref x1), (.int x2), (.ref x3), (.int x4), (.long x5)] h (f_Ma_give x1 x2 x3 x4 x5 h) cvU := by
  have hm := m_Ma_give
  show hx_P S0 M_Ma_give 3 0 [(0, (.ref 22)), (1, (.ref x1)), (2, (.int x2)), (3, (.ref x3)), (4, (.int x4)), (5, (.long x5))] [] NT h (f_Ma_give x1 x2 x3 x4 x5 h) (hx_Rc cvU NT)
  unfold f_Ma_give
  refine hp_ane hm (at1 0 rfl) rfl (by exact ⟨og_22, og_23⟩) (pc' := 8) rfl 4 rfl (tgt := 64) rfl (hx1).2 (og_26).2 (fun c5 => ?_) (fun c5 => ?_)
  · exact hp_vr hm 0 rfl rfl (fun _ e => e)
  · refine hp_G hm (at1 1 rfl) (L' := [(0, (.ref 22)), (1, (.ref x1)), (2, (.int x2)), (3, (.ref x3)), (4, (.int x4)), (5, (.long x5))]) (st' := [(.long (16384 : Int64)), (.long (x5 * (Int32.toInt64 (rdI h 22 28)))), (.long (Int32.toInt64 (rdI h (rf x3 0) (Int32.toNatClampNeg x4)))), (.int x2), (.ref x1)]) rfl (fun hP => (by exact ⟨⟨hx3, ⟨(rt_6_0 hx3), (vp_cst (rl_6_0 hx3) hP)⟩⟩, og_22⟩)) (pc' := 32) rfl (fun q1 => ?_)
    refine hp_cNP (M2 := M_HH_over) hm at0 (as := [(.long (x5 * (Int32.toInt64 (rdI h 22 28)))), (.long (16384 : Int64))]) (rest := [(.long (Int32.toInt64 (rdI h (rf x3 0) (Int32.toNatClampNeg x4)))), (.int x2), (.ref x1)]) rfl (by exact trivial) (pc' := 32) rfl 1 rfl (hmn_4_154) y_HH_over rfl (d2 := 2) ⟨le_b rfl, pd_HH_over, le_b rfl⟩ (le_b rfl) (k_HH_over (x5 * (Int32.toInt64 (rdI h 22 28))) (16384 : Int64) h) (fun a2 => ?_)
    refine hp_G hm (at1 2 rfl) (L' := [(0, (.ref 22)), (1, (.ref x1)), (2, (.int x2)), (3, (.ref x3)), (4, (.int x4)), (5, (.long x5))]) (st' := [(.long (16384 : Int64)), (.long (x5 * (Int32.toInt64 (rdI h 22 29)))), (.long (Int32.toInt64 (rdI h (rf x3 1) (Int32.toNatClampNeg x4)))), (.int (Int64.toInt32 ((Int32.toInt64 (rdI h (rf x3 0) (Int32.toNatClampNeg x4))) + a2))), (.int x2), (.ref x1)]) rfl (fun hP => (by exact ⟨⟨hx3, ⟨(rt_6_1 hx3), (vp_cst (rl_6_1 hx3) hP)⟩⟩, og_22⟩)) (pc' := 56) rfl (fun q3 => ?_)
    refine hp_cNP (M2 := M_HH_over) hm at0 (as := [(.long (x5 * (Int32.toInt64 (rdI h 22 29)))), (.long (16384 : Int64))]) (rest := [(.long (Int32.toInt64 (rdI h (rf x3 1) (Int32.toNatClampNeg x4)))), (.int (Int64.toInt32 ((Int32.toInt64 (rdI h (rf x3 0) (Int32.toNatClampNeg x4))) + a2))), (.int x2), (.ref x1)]) rfl (by exact trivial) (pc' := 56) rfl 2 rfl (hmn_4_154) y_HH_over rfl (d2 := 2) ⟨le_b rfl, pd_HH_over, le_b rfl⟩ (le_b rfl) (k_HH_over (x5 * (Int32.toInt64 (rdI h 22 29))) (16384 : Int64) h) (fun a4 => ?_)
    refine hp_cVS (M2 := M_Zo_place) hm (at1 3 rfl) (as := [(.int x2), (.int (Int64.toInt32 ((Int32.toInt64 (rdI h (rf x3 0) (Int32.toNatClampNeg x4))) + a2))), (.int (Int64.toInt32 ((Int32.toInt64 (rdI h (rf x3 1) (Int32.toNatClampNeg x4))) + a4)))]) (rest := []) (z := x1) rfl (by exact trivial) (pc' := 61) rfl 3 rfl (lw_g (lw_at lw_m6 4 rfl) rfl) y_Zo_place rfl (d2 := 1) ⟨le_b rfl, pd_Zo_place, le_b rfl⟩ (le_b rfl) hx1 (k_Zo_place x1 x2 (Int64.toInt32 ((Int32.toInt64 (rdI h (rf x3 0) (Int32.toNatClampNeg x4))) + a2)) (Int64.toInt32 ((Int32.toInt64 (rdI h (rf x3 1) (Int32.toNatClampNeg x4))) + a4)) h hx1) (fun _ h1 => ?_)
    exact hp_vr hm 0 rfl rfl (fun _ e => e)
/-! HintHouse$Machine.along(IIII)I -/
def M_Ma_along : hM := (4, ⟨"HintHouse$Machine", "along", "(IIII)I"⟩, prog_6_method_16_code, 4, (Option.some Jvm.ClassFile.FieldType.int), [], [(0, [(.iload_n 0, 1, 0, 0, 0, .null), (.i2l, 1, 0, 0, 0, .null), (.iload_n 2, 1, 0, 0, 0, .null), (.i2l, 1, 0, 0, 0, .null), (.lmul, 1, 0, 0, 0, .null), (.iload_n 1, 1, 0, 0, 0, .null), (.i2l, 1, 0, 0, 0, .null), (.iload_n 3, 1, 0, 0, 0, .null), (.i2l, 1, 0, 0, 0, .null), (.lmul, 1, 0, 0, 0, .null), (.ladd, 1, 0, 0, 0, .null), (.ldc2_w 250, 3, 0, 0, 0, (.long (16384 : Int64)))]), (17, [(.l2i, 1, 0, 0, 0, .null)])], [(14, .invokestatic 154, 3), (18, .ireturn, 1)])
set_option maxRecDepth 100000 in
theorem m_Ma_along : hx_mok M_Ma_along = true := by decide +kernel
theorem pd_Ma_along : (parseMethodDescriptor M_Ma_along.2.1.desc).map (fun q => q.parameters.length) = some 4 := by decide +kernel
theorem y_Ma_along : hx_okS M_Ma_along := ⟨⟨lw_g (lw_at lw_m6 11 rfl) rfl, lw_g (lw_at lw_m6 10 rfl) rfl, lw_g (lw_at lw_m1 5 rfl) rfl, by decide, by decide⟩, rfl, by decide, plainFor_of_name (by decide), rfl⟩
noncomputable def f_Ma_along (x1 : Int32) (x2 : Int32) (x3 : Int32) (x4 : Int32) : Option Int32 :=
  bP (f_HH_over (((Int32.toInt64 x1) * (Int32.toInt64 x3)) + ((Int32.toInt64 x2) * (Int32.toInt64 x4))) (16384 : Int64)) fun a1 =>
  some (Int64.toInt32 a1)
set_option maxRecDepth 20000 in
theorem k_Ma_along (x1 : Int32) (x2 : Int32) (x3 : Int32) (x4 : Int32) (h : hH) : hx_kP S0 M_Ma_along 3 NT [(.int x1), (.int x2), (.int x3), (.int x4)] h (f_Ma_along x1 x2 x3 x4) cvI := by
  have hm := m_Ma_along
  show hx_P S0 M_Ma_along 3 0 [(0, (.int x1)), (1, (.int x2)), (2, (.int x3)), (3, (.int x4))] [] NT h (f_Ma_along x1 x2 x3 x4) (hx_Rp cvI NT h)
  unfold f_Ma_along
  refine hp_cNP (M2 := M_HH_over) hm (at1 0 rfl) (as := [(.long (((Int32.toInt64 x1) * (Int32.toInt64 x3)) + ((Int32.toInt64 x2) * (Int32.toInt64 x4)))), (.long (16384 : Int64))]) (rest := []) rfl (by exact trivial) (pc' := 14) rfl 0 rfl (hmn_4_154) y_HH_over rfl (d2 := 2) ⟨le_b rfl, pd_HH_over, le_b rfl⟩ (le_b rfl) (k_HH_over (((Int32.toInt64 x1) * (Int32.toInt64 x3)) + ((Int32.toInt64 x2) * (Int32.toInt64 x4))) (16384 : Int64) h) (fun a1 => ?_)
  exact hp_ir hm (at1 1 rfl) rfl (by exact trivial) (pc' := 18) rfl 1 rfl rfl (vp_nar_int _) (fun _ e => e)
/-! HintHouse$Machine.oldDistance(LHintHouse$Zone;ILHintHouse$Zone;I)I -/
def M_Ma_oldDistance : hM := (4, ⟨"HintHouse$Machine", "oldDistance", "(LHintHouse$Zone;ILHintHouse$Zone;I)I"⟩, prog_6_method_19_code, 5, (Option.some Jvm.ClassFile.FieldType.int), [], [(0, [(.aload_n 1, 1, 0, 0, 0, .null), (.getfield 262, 3, 6, 0, 4, .null), (.iload_n 2, 1, 0, 0, 0, .null), (.iaload, 1, 0, 0, 0, .null), (.aload_n 3, 1, 0, 0, 0, .null), (.getfield 262, 3, 6, 0, 4, .null), (.iload 4, 2, 0, 0, 0, .null), (.iaload, 1, 0, 0, 0, .null), (.isub, 1, 0, 0, 0, .null), (.aload_n 1, 1, 0, 0, 0, .null), (.getfield 265, 3, 6, 1, 4, .null), (.iload_n 2, 1, 0, 0, 0, .null), (.iaload, 1, 0, 0, 0, .null), (.aload_n 3, 1, 0, 0, 0, .null), (.getfield 265, 3, 6, 1, 4, .null), (.iload 4, 2, 0, 0, 0, .null), (.iaload, 1, 0, 0, 0, .null), (.isub, 1, 0, 0, 0, .null), (.aload_n 0, 1, 0, 0, 0, .null), (.getfield 212, 3, 4, 32, 0, .null), (.aload_n 0, 1, 0, 0, 0, .null), (.getfield 215, 3, 4, 33, 0, .null)])], [(36, .invokestatic 258, 3), (39, .ireturn, 1)])
set_option maxRecDepth 100000 in
theorem m_Ma_oldDistance : hx_mok M_Ma_oldDistance = true := by decide +kernel
theorem pd_Ma_oldDistance : (parseMethodDescriptor M_Ma_oldDistance.2.1.desc).map (fun q => q.parameters.length) = some 4 := by decide +kernel
theorem y_Ma_oldDistance : hx_okV M_Ma_oldDistance := ⟨⟨lw_g (lw_at lw_m6 8 rfl) rfl, lw_g (lw_at lw_m6 7 rfl) rfl, qs49, lw_g (lw_at lw_m1 5 rfl) rfl, rfl, by decide, by decide, by decide⟩, rfl, by decide, plainFor_of_name (by decide)⟩
noncomputable def f_Ma_oldDistance (x1 : Nat) (x2 : Int32) (x3 : Nat) (x4 : Int32) (h : hH) : Option Int32 :=
  gd (vp_in x2 (zr x1) ∧ vp_in x4 (zr x3)) <|
  bP (f_Ma_along ((rdI h (rf x1 0) (Int32.toNatClampNeg x2)) - (rdI h (rf x3 0) (Int32.toNatClampNeg x4))) ((rdI h (rf x1 1) (Int32.toNatClampNeg x2)) - (rdI h (rf x3 1) (Int32.toNatClampNeg x4))) (rdI h 22 32) (rdI h 22 33)) fun a2 =>
  some a2
set_option maxRecDepth 20000 in
theorem k_Ma_oldDistance (x1 : Nat) (x2 : Int32) (x3 : Nat) (x4 : Int32) (h : hH) (hx1 : isA 6 x1) (hx3 : isA 6 x3) : hx_kP S0 M_Ma_oldDistance 4 NT [(.ref 22), (.ref x1), (.int x2), (.ref x3), (.int x4)] h (f_Ma_oldDistance x1 x2 x3 x4 h) cvI := by
  have hm := m_Ma_oldDistance
  show hx_P S0 M_Ma_oldDistance 4 0 [(0, (.ref 22)), (1, (.ref x1)), (2, (.int x2)), (3, (.ref x3)), (4, (.int x4))] [] NT h (f_Ma_oldDistance x1 x2 x3 x4 h) (hx_Rp cvI NT h)
  unfold f_Ma_oldDistance
  refine hp_G hm (at1 0 rfl) (L' := [(0, (.ref 22)), (1, (.ref x1)), (2, (.int x2)), (3, (.ref x3)), (4, (.int x4))]) (st' := [(.int (rdI h 22 33)), (.int (rdI h 22 32)), (.int ((rdI h (rf x1 1) (Int32.toNatClampNeg x2)) - (rdI h (rf x3 1) (Int32.toNatClampNeg x4)))), (.int ((rdI h (rf x1 0) (Int32.toNatClampNeg x2)) - (rdI h (rf x3 0) (Int32.toNatClampNeg x4))))]) rfl (fun hP => (by exact ⟨⟨⟨⟨⟨⟨⟨⟨⟨hx1, ⟨(rt_6_0 hx1), (vp_cst (rl_6_0 hx1) hP.1)⟩⟩, hx3⟩, ⟨(rt_6_0 hx3), (vp_cst (rl_6_0 hx3) hP.2)⟩⟩, hx1⟩, ⟨(rt_6_1 hx1), (vp_cst (rl_6_1 hx1) hP.1)⟩⟩, hx3⟩, ⟨(rt_6_1 hx3), (vp_cst (rl_6_1 hx3) hP.2)⟩⟩, og_22⟩, og_22⟩)) (pc' := 36) rfl (fun q1 => ?_)
  refine hp_cSP (M2 := M_Ma_along) hm at0 (as := [(.int ((rdI h (rf x1 0) (Int32.toNatClampNeg x2)) - (rdI h (rf x3 0) (Int32.toNatClampNeg x4)))), (.int ((rdI h (rf x1 1) (Int32.toNatClampNeg x2)) - (rdI h (rf x3 1) (Int32.toNatClampNeg x4)))), (.int (rdI h 22 32)), (.int (rdI h 22 33))]) (rest := []) rfl (by exact trivial) (pc' := 36) rfl 0 rfl (lw_g (lw_at lw_m6 9 rfl) rfl) y_Ma_along rfl (d2 := 3) ⟨le_b rfl, pd_Ma_along, le_b rfl⟩ (le_b rfl) (k_Ma_along ((rdI h (rf x1 0) (Int32.toNatClampNeg x2)) - (rdI h (rf x3 0) (Int32.toNatClampNeg x4))) ((rdI h (rf x1 1) (Int32.toNatClampNeg x2)) - (rdI h (rf x3 1) (Int32.toNatClampNeg x4))) (rdI h 22 32) (rdI h 22 33) h) (fun a2 => ?_)
  exact hp_ir hm at0 rfl (by exact trivial) (pc' := 39) rfl 1 rfl rfl (vp_nar_int _) (fun _ e => e)
/-! java/lang/Math.floorDiv(JJ)J -/
def M_JM_floorDiv : hM := (12, ⟨"java/lang/Math", "floorDiv", "(JJ)J"⟩, prog_16_method_49_code, 6, (Option.some Jvm.ClassFile.FieldType.long), [], [(0, [(.lload_n 0, 1, 0, 0, 0, .null), (.lload_n 2, 1, 0, 0, 0, .null), (.ldiv, 1, 0, 0, 0, .null), (.lstore 4, 2, 0, 0, 0, .null)]), (5, [(.lload_n 0, 1, 0, 0, 0, .null), (.lload_n 2, 1, 0, 0, 0, .null), (.lxor, 1, 0, 0, 0, .null), (.lconst 0, 1, 0, 0, 0, (.long (0 : Int64))), (.lcmp, 1, 0, 0, 0, .null)]), (27, [(.lload 4, 2, 0, 0, 0, .null)]), (13, [(.lload 4, 2, 0, 0, 0, .null), (.lload_n 2, 1, 0, 0, 0, .null), (.lmul, 1, 0, 0, 0, .null), (.lload_n 0, 1, 0, 0, 0, .null), (.lcmp, 1, 0, 0, 0, .null)]), (22, [(.lload 4, 2, 0, 0, 0, .null), (.lconst 1, 1, 0, 0, 0, (.long (1 : Int64))), (.lsub, 1, 0, 0, 0, .null)])], [(29, .lreturn, 1), (26, .lreturn, 1), (19, .ifCond .eq 8, 3), (10, .ifCond .ge 17, 3)])
set_option maxRecDepth 100000 in
theorem m_JM_floorDiv : hx_mok M_JM_floorDiv = true := by decide +kernel
theorem pd_JM_floorDiv : (parseMethodDescriptor M_JM_floorDiv.2.1.desc).map (fun q => q.parameters.length) = some 2 := by decide +kernel
theorem y_JM_floorDiv : hx_okS M_JM_floorDiv := ⟨⟨lw_g (lw_at lw_m6 18 rfl) rfl, lw_g (lw_at lw_m6 17 rfl) rfl, lw_g (lw_at lw_m1 13 rfl) rfl, by decide, by decide⟩, rfl, by decide, by decide +kernel, rfl⟩
noncomputable def f_JM_floorDiv (x1 : Int64) (x2 : Int64) : Option Int64 :=
  gd (¬ x2 = 0) <|
  lz (A := Int64) (x1 / x2) fun v1 =>
  if (0 : Int64) ≤ (x1 ^^^ x2) then (
    some v1
  ) else (
    if (v1 * x2) = x1 then (
      some v1
    ) else (
      some (v1 - (1 : Int64))
    )
  )
set_option maxRecDepth 20000 in
theorem k_JM_floorDiv (x1 : Int64) (x2 : Int64) (h : hH) : hx_kP S0 M_JM_floorDiv 1 NT [(.long x1), (.long x2)] h (f_JM_floorDiv x1 x2) cvL := by
  have hm := m_JM_floorDiv
  show hx_P S0 M_JM_floorDiv 1 0 [(0, (.long x1)), (2, (.long x2))] [] NT h (f_JM_floorDiv x1 x2) (hx_Rp cvL NT h)
  unfold f_JM_floorDiv
  refine hp_GZ hm (at1 0 rfl) (fun (v1 : Int64) => [(4, (.long v1)), (0, (.long x1)), (2, (.long x2))]) (fun (v1 : Int64) => []) rfl (fun hP => (by exact hP)) (pc' := 5) rfl (fun q2 v1 => ?_)
  refine hp_lc_ge hm (at1 1 rfl) rfl (by exact trivial) (pc' := 10) rfl 3 rfl (tgt := 27) rfl (fun c4 => ?_) (fun c4 => ?_)
  · exact hp_lr hm (at1 2 rfl) rfl (by exact trivial) (pc' := 29) rfl 0 rfl rfl (fun _ e => e)
  · refine hp_lc_eq hm (at1 3 rfl) rfl (by exact trivial) (pc' := 19) rfl 2 rfl (tgt := 27) rfl (fun c3 => ?_) (fun c3 => ?_)
    · exact hp_lr hm (at1 2 rfl) rfl (by exact trivial) (pc' := 29) rfl 0 rfl rfl (fun _ e => e)
    · exact hp_lr hm (at1 4 rfl) rfl (by exact trivial) (pc' := 26) rfl 1 rfl rfl (fun _ e => e)
/-! HintHouse$Machine.rounded(J)J -/
def M_Ma_rounded : hM := (4, ⟨"HintHouse$Machine", "rounded", "(J)J"⟩, prog_6_method_24_code, 5, (Option.some Jvm.ClassFile.FieldType.long), [], [(0, [(.aload_n 0, 1, 0, 0, 0, .null), (.getfield 218, 3, 4, 39, 1, .null)]), (9, [(.lload_n 1, 1, 0, 0, 0, .null), (.lconst 0, 1, 0, 0, 0, (.long (0 : Int64))), (.lcmp, 1, 0, 0, 0, .null)]), (23, [(.lload_n 1, 1, 0, 0, 0, .null), (.aload_n 0, 1, 0, 0, 0, .null), (.getfield 225, 3, 4, 41, 0, .null), (.i2l, 1, 0, 0, 0, .null), (.lsub, 1, 0, 0, 0, .null), (.aload_n 0, 1, 0, 0, 0, .null), (.getfield 228, 3, 4, 42, 0, .null), (.i2l, 1, 0, 0, 0, .null), (.ladd, 1, 0, 0, 0, .null), (.aload_n 0, 1, 0, 0, 0, .null), (.getfield 222, 3, 4, 40, 0, .null), (.i2l, 1, 0, 0, 0, .null)]), (44, [(.aload_n 0, 1, 0, 0, 0, .null), (.getfield 222, 3, 4, 40, 0, .null), (.i2l, 1, 0, 0, 0, .null), (.lmul, 1, 0, 0, 0, .null), (.aload_n 0, 1, 0, 0, 0, .null), (.getfield 225, 3, 4, 41, 0, .null), (.i2l, 1, 0, 0, 0, .null), (.ladd, 1, 0, 0, 0, .null), (.lstore_n 3, 1, 0, 0, 0, .null)]), (57, [(.lload_n 3, 1, 0, 0, 0, .null), (.lconst 0, 1, 0, 0, 0, (.long (0 : Int64))), (.lcmp, 1, 0, 0, 0, .null)]), (71, [(.lload_n 3, 1, 0, 0, 0, .null)]), (63, [(.aload_n 0, 1, 0, 0, 0, .null), (.getfield 225, 3, 4, 41, 0, .null), (.i2l, 1, 0, 0, 0, .null)]), (15, [(.aload_n 0, 1, 0, 0, 0, .null), (.lload_n 1, 1, 0, 0, 0, .null), (.lneg, 1, 0, 0, 0, .null)]), (21, [(.lneg, 1, 0, 0, 0, .null)]), (7, [(.lload_n 1, 1, 0, 0, 0, .null)])], [(41, .invokestatic 304, 3), (72, .lreturn, 1), (68, .goto 4, 3), (60, .ifCond .ge 11, 3), (18, .invokevirtual 301, 3), (22, .lreturn, 1), (12, .ifCond .ge 11, 3), (8, .lreturn, 1), (4, .ifCond .ne 5, 3)])
set_option maxRecDepth 100000 in
theorem m_Ma_rounded : hx_mok M_Ma_rounded = true := by decide +kernel
theorem pd_Ma_rounded : (parseMethodDescriptor M_Ma_rounded.2.1.desc).map (fun q => q.parameters.length) = some 1 := by decide +kernel
theorem y_Ma_rounded : hx_okV M_Ma_rounded := ⟨⟨lw_g (lw_at lw_m6 15 rfl) rfl, lw_g (lw_at lw_m6 14 rfl) rfl, qs50, lw_g (lw_at lw_m1 5 rfl) rfl, rfl, by decide, by decide, by decide⟩, rfl, by decide, plainFor_of_name (by decide)⟩
noncomputable def fb_Ma_rounded (rec : Int64 → hH → Option Int64) (x1 : Int64) (h : hH) : Option Int64 :=
  if (rdI h 22 39) = 0 then (
    some x1
  ) else (
    if (0 : Int64) ≤ x1 then (
      bP (f_JM_floorDiv ((x1 - (Int32.toInt64 (rdI h 22 41))) + (Int32.toInt64 (rdI h 22 42))) (Int32.toInt64 (rdI h 22 40))) fun a1 =>
      lz (A := Int64) ((a1 * (Int32.toInt64 (rdI h 22 40))) + (Int32.toInt64 (rdI h 22 41))) fun v2 =>
      if (0 : Int64) ≤ v2 then (
        some v2
      ) else (
        some (Int32.toInt64 (rdI h 22 41))
      )
    ) else (
      bP (rec (-x1) h) fun a4 =>
      some (-a4)
    )
  )
set_option maxRecDepth 20000 in
theorem kb_Ma_rounded (n : Nat) (rec : Int64 → hH → Option Int64) (hrec : ∀ (x1 : Int64) (h : hH), hx_kP S0 M_Ma_rounded (3 + n) NT [(.ref 22), (.long x1)] h (rec x1 h) cvL) (x1 : Int64) (h : hH) : hx_kP S0 M_Ma_rounded (3 + n + 1) NT [(.ref 22), (.long x1)] h (fb_Ma_rounded rec x1 h) cvL := by
  have hm := m_Ma_rounded
  show hx_P S0 M_Ma_rounded (3 + n + 1) 0 [(0, (.ref 22)), (1, (.long x1))] [] NT h (fb_Ma_rounded rec x1 h) (hx_Rp cvL NT h)
  unfold fb_Ma_rounded
  refine hp_if_ne hm (at1 0 rfl) rfl (by exact og_22) (pc' := 4) rfl 8 rfl (tgt := 9) rfl (fun c6 => ?_) (fun c6 => ?_)
  · refine hp_lc_ge hm (at1 1 rfl) rfl (by exact trivial) (pc' := 12) rfl 6 rfl (tgt := 23) rfl (fun c5 => ?_) (fun c5 => ?_)
    · refine hp_cSP (M2 := M_JM_floorDiv) hm (at1 2 rfl) (as := [(.long ((x1 - (Int32.toInt64 (rdI h 22 41))) + (Int32.toInt64 (rdI h 22 42)))), (.long (Int32.toInt64 (rdI h 22 40)))]) (rest := []) rfl (by exact ⟨⟨og_22, og_22⟩, og_22⟩) (pc' := 41) rfl 0 rfl (lw_g (lw_at lw_m6 16 rfl) rfl) y_JM_floorDiv rfl (d2 := 1) ⟨by omega, pd_JM_floorDiv, le_b rfl⟩ (le_b rfl) (k_JM_floorDiv ((x1 - (Int32.toInt64 (rdI h 22 41))) + (Int32.toInt64 (rdI h 22 42))) (Int32.toInt64 (rdI h 22 40)) h) (fun a1 => ?_)
      refine hp_z hm (at1 3 rfl) (fun (v2 : Int64) => [(3, (.long v2)), (0, (.ref 22)), (1, (.long x1))]) (fun (v2 : Int64) => []) rfl (by exact ⟨og_22, og_22⟩) (pc' := 57) rfl (fun v2 => ?_)
      refine hp_lc_ge hm (at1 4 rfl) rfl (by exact trivial) (pc' := 60) rfl 3 rfl (tgt := 71) rfl (fun c3 => ?_) (fun c3 => ?_)
      · refine hp_b hm (at1 5 rfl) (L' := [(3, (.long v2)), (0, (.ref 22)), (1, (.long x1))]) (st' := [(.long v2)]) rfl (by exact trivial) (pc' := 72) rfl ?_
        exact hp_lr hm at0 rfl (by exact trivial) (pc' := 72) rfl 1 rfl rfl (fun _ e => e)
      · refine hp_b hm (at1 6 rfl) (L' := [(3, (.long v2)), (0, (.ref 22)), (1, (.long x1))]) (st' := [(.long (Int32.toInt64 (rdI h 22 41)))]) rfl (by exact og_22) (pc' := 68) rfl ?_
        refine hp_goto hm 2 rfl (tgt := 72) rfl ?_
        exact hp_lr hm at0 rfl (by exact trivial) (pc' := 72) rfl 1 rfl rfl (fun _ e => e)
    · refine hp_cVP (M2 := M_Ma_rounded) hm (at1 7 rfl) (as := [(.long (-x1))]) (rest := []) (z := 22) rfl (by exact trivial) (pc' := 18) rfl 4 rfl (lw_g (lw_at lw_m6 12 rfl) rfl) y_Ma_rounded rfl (d2 := (3 + n)) ⟨by omega, pd_Ma_rounded, le_b rfl⟩ (le_b rfl) og_22 (hrec (-x1) h) (fun a4 => ?_)
      exact hp_lr hm (at1 8 rfl) rfl (by exact trivial) (pc' := 22) rfl 5 rfl rfl (fun _ e => e)
  · exact hp_lr hm (at1 9 rfl) rfl (by exact trivial) (pc' := 8) rfl 7 rfl rfl (fun _ e => e)
noncomputable def f_Ma_rounded : Nat → Int64 → hH → Option Int64
  | 0 => fun _ _ => none
  | n + 1 => fb_Ma_rounded (f_Ma_rounded n)
theorem k_Ma_rounded : ∀ (n : Nat) (x1 : Int64) (h : hH), hx_kP S0 M_Ma_rounded (3 + n) NT [(.ref 22), (.long x1)] h (f_Ma_rounded n x1 h) cvL
  | 0, x1, h => fun _ hx => by cases hx
  | n + 1, x1, h => kb_Ma_rounded n _ (k_Ma_rounded n) x1 h
/-! HintHouse$Machine.distance(LHintHouse$Zone;ILHintHouse$Zone;I)I -/
def M_Ma_distance : hM := (4, ⟨"HintHouse$Machine", "distance", "(LHintHouse$Zone;ILHintHouse$Zone;I)I"⟩, prog_6_method_18_code, 5, (Option.some Jvm.ClassFile.FieldType.int), [], [(0, [(.aload_n 1, 1, 0, 0, 0, .null), (.getfield 252, 3, 6, 2, 4, .null), (.iload_n 2, 1, 0, 0, 0, .null), (.iaload, 1, 0, 0, 0, .null), (.aload_n 3, 1, 0, 0, 0, .null), (.getfield 252, 3, 6, 2, 4, .null), (.iload 4, 2, 0, 0, 0, .null), (.iaload, 1, 0, 0, 0, .null), (.isub, 1, 0, 0, 0, .null), (.aload_n 1, 1, 0, 0, 0, .null), (.getfield 255, 3, 6, 3, 4, .null), (.iload_n 2, 1, 0, 0, 0, .null), (.iaload, 1, 0, 0, 0, .null), (.aload_n 3, 1, 0, 0, 0, .null), (.getfield 255, 3, 6, 3, 4, .null), (.iload 4, 2, 0, 0, 0, .null), (.iaload, 1, 0, 0, 0, .null), (.isub, 1, 0, 0, 0, .null), (.aload_n 0, 1, 0, 0, 0, .null), (.getfield 206, 3, 4, 30, 0, .null), (.aload_n 0, 1, 0, 0, 0, .null), (.getfield 209, 3, 4, 31, 0, .null)])], [(36, .invokestatic 258, 3), (39, .ireturn, 1)])
set_option maxRecDepth 100000 in
theorem m_Ma_distance : hx_mok M_Ma_distance = true := by decide +kernel
theorem pd_Ma_distance : (parseMethodDescriptor M_Ma_distance.2.1.desc).map (fun q => q.parameters.length) = some 4 := by decide +kernel
theorem y_Ma_distance : hx_okV M_Ma_distance := ⟨⟨lw_g (lw_at lw_m6 24 rfl) rfl, lw_g (lw_at lw_m6 23 rfl) rfl, qs51, lw_g (lw_at lw_m1 5 rfl) rfl, rfl, by decide, by decide, by decide⟩, rfl, by decide, plainFor_of_name (by decide)⟩
noncomputable def f_Ma_distance (x1 : Nat) (x2 : Int32) (x3 : Nat) (x4 : Int32) (h : hH) : Option Int32 :=
  gd (vp_in x2 (zr x1) ∧ vp_in x4 (zr x3)) <|
  bP (f_Ma_along ((rdI h (rf x1 2) (Int32.toNatClampNeg x2)) - (rdI h (rf x3 2) (Int32.toNatClampNeg x4))) ((rdI h (rf x1 3) (Int32.toNatClampNeg x2)) - (rdI h (rf x3 3) (Int32.toNatClampNeg x4))) (rdI h 22 30) (rdI h 22 31)) fun a2 =>
  some a2
set_option maxRecDepth 20000 in
theorem k_Ma_distance (x1 : Nat) (x2 : Int32) (x3 : Nat) (x4 : Int32) (h : hH) (hx1 : isA 6 x1) (hx3 : isA 6 x3) : hx_kP S0 M_Ma_distance 4 NT [(.ref 22), (.ref x1), (.int x2), (.ref x3), (.int x4)] h (f_Ma_distance x1 x2 x3 x4 h) cvI := by
  have hm := m_Ma_distance
  show hx_P S0 M_Ma_distance 4 0 [(0, (.ref 22)), (1, (.ref x1)), (2, (.int x2)), (3, (.ref x3)), (4, (.int x4))] [] NT h (f_Ma_distance x1 x2 x3 x4 h) (hx_Rp cvI NT h)
  unfold f_Ma_distance
  refine hp_G hm (at1 0 rfl) (L' := [(0, (.ref 22)), (1, (.ref x1)), (2, (.int x2)), (3, (.ref x3)), (4, (.int x4))]) (st' := [(.int (rdI h 22 31)), (.int (rdI h 22 30)), (.int ((rdI h (rf x1 3) (Int32.toNatClampNeg x2)) - (rdI h (rf x3 3) (Int32.toNatClampNeg x4)))), (.int ((rdI h (rf x1 2) (Int32.toNatClampNeg x2)) - (rdI h (rf x3 2) (Int32.toNatClampNeg x4))))]) rfl (fun hP => (by exact ⟨⟨⟨⟨⟨⟨⟨⟨⟨hx1, ⟨(rt_6_2 hx1), (vp_cst (rl_6_2 hx1) hP.1)⟩⟩, hx3⟩, ⟨(rt_6_2 hx3), (vp_cst (rl_6_2 hx3) hP.2)⟩⟩, hx1⟩, ⟨(rt_6_3 hx1), (vp_cst (rl_6_3 hx1) hP.1)⟩⟩, hx3⟩, ⟨(rt_6_3 hx3), (vp_cst (rl_6_3 hx3) hP.2)⟩⟩, og_22⟩, og_22⟩)) (pc' := 36) rfl (fun q1 => ?_)
  refine hp_cSP (M2 := M_Ma_along) hm at0 (as := [(.int ((rdI h (rf x1 2) (Int32.toNatClampNeg x2)) - (rdI h (rf x3 2) (Int32.toNatClampNeg x4)))), (.int ((rdI h (rf x1 3) (Int32.toNatClampNeg x2)) - (rdI h (rf x3 3) (Int32.toNatClampNeg x4)))), (.int (rdI h 22 30)), (.int (rdI h 22 31))]) (rest := []) rfl (by exact trivial) (pc' := 36) rfl 0 rfl (lw_g (lw_at lw_m6 9 rfl) rfl) y_Ma_along rfl (d2 := 3) ⟨le_b rfl, pd_Ma_along, le_b rfl⟩ (le_b rfl) (k_Ma_along ((rdI h (rf x1 2) (Int32.toNatClampNeg x2)) - (rdI h (rf x3 2) (Int32.toNatClampNeg x4))) ((rdI h (rf x1 3) (Int32.toNatClampNeg x2)) - (rdI h (rf x3 3) (Int32.toNatClampNeg x4))) (rdI h 22 30) (rdI h 22 31) h) (fun a2 => ?_)
  exact hp_ir hm at0 rfl (by exact trivial) (pc' := 39) rfl 1 rfl rfl (vp_nar_int _) (fun _ e => e)
/-! HintHouse$Machine.touch(LHintHouse$Zone;I)V -/
def M_Ma_touch : hM := (4, ⟨"HintHouse$Machine", "touch", "(LHintHouse$Zone;I)V"⟩, prog_6_method_21_code, 3, (Option.none : Option Jvm.ClassFile.FieldType), [], [(0, [(.aload_n 1, 1, 0, 0, 0, .null), (.getfield 278, 3, 6, 4, 4, .null), (.iload_n 2, 1, 0, 0, 0, .null), (.dup2, 1, 0, 0, 0, .null), (.baload, 1, 101, 0, 0, .null), (.aload_n 0, 1, 0, 0, 0, .null), (.getfield 200, 3, 4, 28, 0, .null)]), (18, [(.iconst 0, 1, 0, 0, 0, (.int (0 : Int32)))]), (14, [(.iconst 1, 1, 0, 0, 0, (.int (1 : Int32)))]), (19, [(.ior, 1, 0, 0, 0, .null), (.bastore, 1, 101, 0, 0, .null)]), (21, [(.aload_n 1, 1, 0, 0, 0, .null), (.getfield 282, 3, 6, 5, 4, .null), (.iload_n 2, 1, 0, 0, 0, .null), (.dup2, 1, 0, 0, 0, .null), (.baload, 1, 101, 0, 0, .null), (.aload_n 0, 1, 0, 0, 0, .null), (.getfield 203, 3, 4, 29, 0, .null)]), (39, [(.iconst 0, 1, 0, 0, 0, (.int (0 : Int32)))]), (35, [(.iconst 1, 1, 0, 0, 0, (.int (1 : Int32)))]), (40, [(.ior, 1, 0, 0, 0, .null), (.bastore, 1, 101, 0, 0, .null)])], [(15, .goto 4, 3), (11, .ifCond .eq 7, 3), (36, .goto 4, 3), (32, .ifCond .eq 7, 3), (42, .return_, 1)])
set_option maxRecDepth 100000 in
theorem m_Ma_touch : hx_mok M_Ma_touch = true := by decide +kernel
theorem pd_Ma_touch : (parseMethodDescriptor M_Ma_touch.2.1.desc).map (fun q => q.parameters.length) = some 2 := by decide +kernel
theorem y_Ma_touch : hx_okV M_Ma_touch := ⟨⟨lw_g (lw_at lw_m6 33 rfl) rfl, lw_g (lw_at lw_m6 32 rfl) rfl, qs53, lw_g (lw_at lw_m1 5 rfl) rfl, rfl, by decide, by decide, by decide⟩, rfl, by decide, plainFor_of_name (by decide)⟩
noncomputable def f_Ma_touch (x1 : Nat) (x2 : Int32) (h : hH) : Option (Unit × hH) :=
  gd (vp_in x2 (zr x1)) <|
  lz (A := Int32) (if (rdI h 22 28) = 0 then (0 : Int32) else (1 : Int32)) fun p2 =>
  gd (vp_in x2 (zr x1)) <|
  lz (wrI h (rf x1 4) (Int32.toNatClampNeg x2) (((rdI h (rf x1 4) (Int32.toNatClampNeg x2)) ||| p2) &&& 1)) fun h1 =>
  gd (vp_in x2 (zr x1)) <|
  lz (A := Int32) (if (rdI h1 22 29) = 0 then (0 : Int32) else (1 : Int32)) fun p6 =>
  gd (vp_in x2 (zr x1)) <|
  lz (wrI h1 (rf x1 5) (Int32.toNatClampNeg x2) (((rdI h1 (rf x1 5) (Int32.toNatClampNeg x2)) ||| p6) &&& 1)) fun h2 =>
  some ((), h2)
set_option maxRecDepth 20000 in
theorem k_Ma_touch (x1 : Nat) (x2 : Int32) (h : hH) (hx1 : isA 6 x1) : hx_kS S0 M_Ma_touch 1 NT [(.ref 22), (.ref x1), (.int x2)] h (f_Ma_touch x1 x2 h) cvU := by
  have hm := m_Ma_touch
  show hx_P S0 M_Ma_touch 1 0 [(0, (.ref 22)), (1, (.ref x1)), (2, (.int x2))] [] NT h (f_Ma_touch x1 x2 h) (hx_Rc cvU NT)
  unfold f_Ma_touch
  refine hp_G hm (at1 0 rfl) (L' := [(0, (.ref 22)), (1, (.ref x1)), (2, (.int x2))]) (st' := [(.int (rdI h 22 28)), (.int (rdI h (rf x1 4) (Int32.toNatClampNeg x2))), (.int x2), (.ref (rf x1 4))]) rfl (fun hP => (by exact ⟨⟨hx1, ⟨(rt_6_4 hx1), (vp_cst (rl_6_4 hx1) hP)⟩⟩, og_22⟩)) (pc' := 11) rfl (fun q1 => ?_)
  refine hp_JZ 19 (fun (p2 : Int32) => [(0, (.ref 22)), (1, (.ref x1)), (2, (.int x2))]) (fun (p2 : Int32) => [(.int p2), (.int (rdI h (rf x1 4) (Int32.toNatClampNeg x2))), (.int x2), (.ref (rf x1 4))]) (fun (p2 : Int32) => h) ?_ (fun p2 => ?_)
  · refine hp_sv0 ?_
    refine hp_if_eq hm at0 rfl (by exact trivial) (pc' := 11) rfl 1 rfl (tgt := 18) rfl (fun c3 => ?_) (fun c3 => ?_)
    · refine hp_b hm (at1 1 rfl) (L' := [(0, (.ref 22)), (1, (.ref x1)), (2, (.int x2))]) (st' := [(.int (0 : Int32)), (.int (rdI h (rf x1 4) (Int32.toNatClampNeg x2))), (.int x2), (.ref (rf x1 4))]) rfl (by exact trivial) (pc' := 19) rfl ?_
      exact hp_lf [0, 1, 2] rfl (fun _ e => e)
    · refine hp_b hm (at1 2 rfl) (L' := [(0, (.ref 22)), (1, (.ref x1)), (2, (.int x2))]) (st' := [(.int (1 : Int32)), (.int (rdI h (rf x1 4) (Int32.toNatClampNeg x2))), (.int x2), (.ref (rf x1 4))]) rfl (by exact trivial) (pc' := 15) rfl ?_
      refine hp_goto hm 0 rfl (tgt := 19) rfl ?_
      exact hp_lf [0, 1, 2] rfl (fun _ e => e)
  · refine hp_GW hm (at1 3 rfl) (L' := [(0, (.ref 22)), (1, (.ref x1)), (2, (.int x2))]) rfl (fun hP => (by exact ⟨(rt_6_4 hx1), (vp_cst (rl_6_4 hx1) hP)⟩)) (pc' := 21) rfl (fun q4 h1 => ?_)
    refine hp_G hm (at1 4 rfl) (L' := [(0, (.ref 22)), (1, (.ref x1)), (2, (.int x2))]) (st' := [(.int (rdI h1 22 29)), (.int (rdI h1 (rf x1 5) (Int32.toNatClampNeg x2))), (.int x2), (.ref (rf x1 5))]) rfl (fun hP => (by exact ⟨⟨hx1, ⟨(rt_6_5 hx1), (vp_cst (rl_6_5 hx1) hP)⟩⟩, og_22⟩)) (pc' := 32) rfl (fun q5 => ?_)
    refine hp_JZ 40 (fun (p6 : Int32) => []) (fun (p6 : Int32) => [(.int p6), (.int (rdI h1 (rf x1 5) (Int32.toNatClampNeg x2))), (.int x2), (.ref (rf x1 5))]) (fun (p6 : Int32) => h1) ?_ (fun p6 => ?_)
    · refine hp_sv0 ?_
      refine hp_if_eq hm at0 rfl (by exact trivial) (pc' := 32) rfl 3 rfl (tgt := 39) rfl (fun c7 => ?_) (fun c7 => ?_)
      · refine hp_b hm (at1 5 rfl) (L' := [(0, (.ref 22)), (1, (.ref x1)), (2, (.int x2))]) (st' := [(.int (0 : Int32)), (.int (rdI h1 (rf x1 5) (Int32.toNatClampNeg x2))), (.int x2), (.ref (rf x1 5))]) rfl (by exact trivial) (pc' := 40) rfl ?_
        exact hp_lf [] rfl (fun _ e => e)
      · refine hp_b hm (at1 6 rfl) (L' := [(0, (.ref 22)), (1, (.ref x1)), (2, (.int x2))]) (st' := [(.int (1 : Int32)), (.int (rdI h1 (rf x1 5) (Int32.toNatClampNeg x2))), (.int x2), (.ref (rf x1 5))]) rfl (by exact trivial) (pc' := 36) rfl ?_
        refine hp_goto hm 2 rfl (tgt := 40) rfl ?_
        exact hp_lf [] rfl (fun _ e => e)
    · refine hp_GW hm (at1 7 rfl) (L' := []) rfl (fun hP => (by exact ⟨(rt_6_5 hx1), (vp_cst (rl_6_5 hx1) hP)⟩)) (pc' := 42) rfl (fun q8 h2 => ?_)
      exact hp_vr hm 4 rfl rfl (fun _ e => e)
/-! HintHouse$Machine.move(LHintHouse$Zone;IJ)V -/
def M_Ma_move : hM := (4, ⟨"HintHouse$Machine", "move", "(LHintHouse$Zone;IJ)V"⟩, prog_6_method_20_code, 7, (Option.none : Option Jvm.ClassFile.FieldType), [], [(0, [(.aload_n 0, 1, 0, 0, 0, .null), (.getfield 200, 3, 4, 28, 0, .null), (.i2l, 1, 0, 0, 0, .null), (.aload_n 0, 1, 0, 0, 0, .null), (.getfield 206, 3, 4, 30, 0, .null), (.i2l, 1, 0, 0, 0, .null), (.lmul, 1, 0, 0, 0, .null), (.aload_n 0, 1, 0, 0, 0, .null), (.getfield 203, 3, 4, 29, 0, .null), (.i2l, 1, 0, 0, 0, .null), (.aload_n 0, 1, 0, 0, 0, .null), (.getfield 209, 3, 4, 31, 0, .null), (.i2l, 1, 0, 0, 0, .null), (.lmul, 1, 0, 0, 0, .null), (.ladd, 1, 0, 0, 0, .null), (.ldc2_w 250, 3, 0, 0, 0, (.long (16384 : Int64)))]), (29, [(.lstore 5, 2, 0, 0, 0, .null), (.lload 5, 2, 0, 0, 0, .null)]), (36, [(.ldc2_w 272, 3, 0, 0, 0, (.long (1024 : Int64))), (.lcmp, 1, 0, 0, 0, .null)]), (49, [(.lload 5, 2, 0, 0, 0, .null)]), (43, [(.ldc2_w 250, 3, 0, 0, 0, (.long (16384 : Int64)))]), (51, [(.lstore 5, 2, 0, 0, 0, .null), (.aload_n 1, 1, 0, 0, 0, .null), (.getfield 252, 3, 6, 2, 4, .null), (.iload_n 2, 1, 0, 0, 0, .null), (.aload_n 1, 1, 0, 0, 0, .null), (.getfield 252, 3, 6, 2, 4, .null), (.iload_n 2, 1, 0, 0, 0, .null), (.iaload, 1, 0, 0, 0, .null), (.i2l, 1, 0, 0, 0, .null), (.lload_n 3, 1, 0, 0, 0, .null), (.aload_n 0, 1, 0, 0, 0, .null), (.getfield 200, 3, 4, 28, 0, .null), (.i2l, 1, 0, 0, 0, .null), (.lmul, 1, 0, 0, 0, .null), (.lload 5, 2, 0, 0, 0, .null)]), (77, [(.ladd, 1, 0, 0, 0, .null), (.l2i, 1, 0, 0, 0, .null), (.iastore, 1, 0, 0, 0, .null)]), (80, [(.aload_n 1, 1, 0, 0, 0, .null), (.getfield 255, 3, 6, 3, 4, .null), (.iload_n 2, 1, 0, 0, 0, .null), (.aload_n 1, 1, 0, 0, 0, .null), (.getfield 255, 3, 6, 3, 4, .null), (.iload_n 2, 1, 0, 0, 0, .null), (.iaload, 1, 0, 0, 0, .null), (.i2l, 1, 0, 0, 0, .null), (.lload_n 3, 1, 0, 0, 0, .null), (.aload_n 0, 1, 0, 0, 0, .null), (.getfield 203, 3, 4, 29, 0, .null), (.i2l, 1, 0, 0, 0, .null), (.lmul, 1, 0, 0, 0, .null), (.lload 5, 2, 0, 0, 0, .null)]), (104, [(.ladd, 1, 0, 0, 0, .null), (.l2i, 1, 0, 0, 0, .null), (.iastore, 1, 0, 0, 0, .null)]), (107, [(.aload_n 0, 1, 0, 0, 0, .null), (.aload_n 1, 1, 0, 0, 0, .null), (.iload_n 2, 1, 0, 0, 0, .null)])], [(26, .invokestatic 154, 3), (33, .invokestatic 268, 3), (46, .goto 5, 3), (40, .ifCond .ge 9, 3), (74, .invokestatic 154, 3), (101, .invokestatic 154, 3), (110, .invokevirtual 274, 3), (113, .return_, 1)])
set_option maxRecDepth 100000 in
theorem m_Ma_move : hx_mok M_Ma_move = true := by decide +kernel
theorem pd_Ma_move : (parseMethodDescriptor M_Ma_move.2.1.desc).map (fun q => q.parameters.length) = some 3 := by decide +kernel
theorem y_Ma_move : hx_okV M_Ma_move := ⟨⟨lw_g (lw_at lw_m6 28 rfl) rfl, lw_g (lw_at lw_m6 27 rfl) rfl, qs52, lw_g (lw_at lw_m1 5 rfl) rfl, rfl, by decide, by decide, by decide⟩, rfl, by decide, plainFor_of_name (by decide)⟩
noncomputable def f_Ma_move (x1 : Nat) (x2 : Int32) (x3 : Int64) (h : hH) : Option (Unit × hH) :=
  bP (f_HH_over (((Int32.toInt64 (rdI h 22 28)) * (Int32.toInt64 (rdI h 22 30))) + ((Int32.toInt64 (rdI h 22 29)) * (Int32.toInt64 (rdI h 22 31)))) (16384 : Int64)) fun a1 =>
  bP (f_JM_abs a1) fun a2 =>
  lz (A := Int64) (if (1024 : Int64) ≤ a2 then a1 else (16384 : Int64)) fun p3 =>
  gd (vp_in x2 (zr x1)) <|
  bP (f_HH_over (x3 * (Int32.toInt64 (rdI h 22 28))) p3) fun a6 =>
  gd (vp_in x2 (zr x1)) <|
  lz (wrI h (rf x1 2) (Int32.toNatClampNeg x2) (Int64.toInt32 ((Int32.toInt64 (rdI h (rf x1 2) (Int32.toNatClampNeg x2))) + a6))) fun h1 =>
  gd (vp_in x2 (zr x1)) <|
  bP (f_HH_over (x3 * (Int32.toInt64 (rdI h1 22 29))) p3) fun a9 =>
  gd (vp_in x2 (zr x1)) <|
  lz (wrI h1 (rf x1 3) (Int32.toNatClampNeg x2) (Int64.toInt32 ((Int32.toInt64 (rdI h1 (rf x1 3) (Int32.toNatClampNeg x2))) + a9))) fun h2 =>
  bS (f_Ma_touch x1 x2 h2) fun _ h3 =>
  some ((), h3)
set_option maxRecDepth 20000 in
theorem k_Ma_move (x1 : Nat) (x2 : Int32) (x3 : Int64) (h : hH) (hx1 : isA 6 x1) : hx_kS S0 M_Ma_move 3 NT [(.ref 22), (.ref x1), (.int x2), (.long x3)] h (f_Ma_move x1 x2 x3 h) cvU := by
  have hm := m_Ma_move
  show hx_P S0 M_Ma_move 3 0 [(0, (.ref 22)), (1, (.ref x1)), (2, (.int x2)), (3, (.long x3))] [] NT h (f_Ma_move x1 x2 x3 h) (hx_Rc cvU NT)
  unfold f_Ma_move
  refine hp_cNP (M2 := M_HH_over) hm (at1 0 rfl) (as := [(.long (((Int32.toInt64 (rdI h 22 28)) * (Int32.toInt64 (rdI h 22 30))) + ((Int32.toInt64 (rdI h 22 29)) * (Int32.toInt64 (rdI h 22 31))))), (.long (16384 : Int64))]) (rest := []) rfl (by exact ⟨⟨⟨og_22, og_22⟩, og_22⟩, og_22⟩) (pc' := 26) rfl 0 rfl (hmn_4_154) y_HH_over rfl (d2 := 2) ⟨le_b rfl, pd_HH_over, le_b rfl⟩ (le_b rfl) (k_HH_over (((Int32.toInt64 (rdI h 22 28)) * (Int32.toInt64 (rdI h 22 30))) + ((Int32.toInt64 (rdI h 22 29)) * (Int32.toInt64 (rdI h 22 31)))) (16384 : Int64) h) (fun a1 => ?_)
  refine hp_b hm (at1 1 rfl) (L' := [(5, (.long a1)), (0, (.ref 22)), (1, (.ref x1)), (2, (.int x2)), (3, (.long x3))]) (st' := [(.long a1)]) rfl (by exact trivial) (pc' := 33) rfl ?_
  refine hp_cSP (M2 := M_JM_abs) hm at0 (as := [(.long a1)]) (rest := []) rfl (by exact trivial) (pc' := 33) rfl 1 rfl (lw_g (lw_at lw_m5 238 rfl) rfl) y_JM_abs rfl (d2 := 1) ⟨le_b rfl, pd_JM_abs, le_b rfl⟩ (le_b rfl) (k_JM_abs a1 h) (fun a2 => ?_)
  refine hp_JZ 51 (fun (p3 : Int64) => [(0, (.ref 22)), (1, (.ref x1)), (2, (.int x2)), (3, (.long x3))]) (fun (p3 : Int64) => [(.long p3)]) (fun (p3 : Int64) => h) ?_ (fun p3 => ?_)
  · refine hp_sv0 ?_
    refine hp_lc_ge hm (at1 2 rfl) rfl (by exact trivial) (pc' := 40) rfl 3 rfl (tgt := 49) rfl (fun c4 => ?_) (fun c4 => ?_)
    · refine hp_b hm (at1 3 rfl) (L' := [(5, (.long a1)), (0, (.ref 22)), (1, (.ref x1)), (2, (.int x2)), (3, (.long x3))]) (st' := [(.long a1)]) rfl (by exact trivial) (pc' := 51) rfl ?_
      exact hp_lf [1, 2, 3, 4] rfl (fun _ e => e)
    · refine hp_b hm (at1 4 rfl) (L' := [(5, (.long a1)), (0, (.ref 22)), (1, (.ref x1)), (2, (.int x2)), (3, (.long x3))]) (st' := [(.long (16384 : Int64))]) rfl (by exact trivial) (pc' := 46) rfl ?_
      refine hp_goto hm 2 rfl (tgt := 51) rfl ?_
      exact hp_lf [1, 2, 3, 4] rfl (fun _ e => e)
  · refine hp_G hm (at1 5 rfl) (L' := [(5, (.long p3)), (0, (.ref 22)), (1, (.ref x1)), (2, (.int x2)), (3, (.long x3))]) (st' := [(.long p3), (.long (x3 * (Int32.toInt64 (rdI h 22 28)))), (.long (Int32.toInt64 (rdI h (rf x1 2) (Int32.toNatClampNeg x2)))), (.int x2), (.ref (rf x1 2))]) rfl (fun hP => (by exact ⟨⟨⟨hx1, hx1⟩, ⟨(rt_6_2 hx1), (vp_cst (rl_6_2 hx1) hP)⟩⟩, og_22⟩)) (pc' := 74) rfl (fun q5 => ?_)
    refine hp_cNP (M2 := M_HH_over) hm at0 (as := [(.long (x3 * (Int32.toInt64 (rdI h 22 28)))), (.long p3)]) (rest := [(.long (Int32.toInt64 (rdI h (rf x1 2) (Int32.toNatClampNeg x2)))), (.int x2), (.ref (rf x1 2))]) rfl (by exact trivial) (pc' := 74) rfl 4 rfl (hmn_4_154) y_HH_over rfl (d2 := 2) ⟨le_b rfl, pd_HH_over, le_b rfl⟩ (le_b rfl) (k_HH_over (x3 * (Int32.toInt64 (rdI h 22 28))) p3 h) (fun a6 => ?_)
    refine hp_GW hm (at1 6 rfl) (L' := [(5, (.long p3)), (0, (.ref 22)), (1, (.ref x1)), (2, (.int x2)), (3, (.long x3))]) rfl (fun hP => (by exact ⟨(rt_6_2 hx1), (vp_cst (rl_6_2 hx1) hP)⟩)) (pc' := 80) rfl (fun q7 h1 => ?_)
    refine hp_G hm (at1 7 rfl) (L' := [(5, (.long p3)), (0, (.ref 22)), (1, (.ref x1)), (2, (.int x2)), (3, (.long x3))]) (st' := [(.long p3), (.long (x3 * (Int32.toInt64 (rdI h1 22 29)))), (.long (Int32.toInt64 (rdI h1 (rf x1 3) (Int32.toNatClampNeg x2)))), (.int x2), (.ref (rf x1 3))]) rfl (fun hP => (by exact ⟨⟨⟨hx1, hx1⟩, ⟨(rt_6_3 hx1), (vp_cst (rl_6_3 hx1) hP)⟩⟩, og_22⟩)) (pc' := 101) rfl (fun q8 => ?_)
    refine hp_cNP (M2 := M_HH_over) hm at0 (as := [(.long (x3 * (Int32.toInt64 (rdI h1 22 29)))), (.long p3)]) (rest := [(.long (Int32.toInt64 (rdI h1 (rf x1 3) (Int32.toNatClampNeg x2)))), (.int x2), (.ref (rf x1 3))]) rfl (by exact trivial) (pc' := 101) rfl 5 rfl (hmn_4_154) y_HH_over rfl (d2 := 2) ⟨le_b rfl, pd_HH_over, le_b rfl⟩ (le_b rfl) (k_HH_over (x3 * (Int32.toInt64 (rdI h1 22 29))) p3 h1) (fun a9 => ?_)
    refine hp_GW hm (at1 8 rfl) (L' := [(5, (.long p3)), (0, (.ref 22)), (1, (.ref x1)), (2, (.int x2)), (3, (.long x3))]) rfl (fun hP => (by exact ⟨(rt_6_3 hx1), (vp_cst (rl_6_3 hx1) hP)⟩)) (pc' := 107) rfl (fun q10 h2 => ?_)
    refine hp_cVS (M2 := M_Ma_touch) hm (at1 9 rfl) (as := [(.ref x1), (.int x2)]) (rest := []) (z := 22) rfl (by exact trivial) (pc' := 110) rfl 6 rfl (lw_g (lw_at lw_m6 30 rfl) rfl) y_Ma_touch rfl (d2 := 1) ⟨le_b rfl, pd_Ma_touch, le_b rfl⟩ (le_b rfl) og_22 (k_Ma_touch x1 x2 h2 hx1) (fun _ h3 => ?_)
    exact hp_vr hm 7 rfl rfl (fun _ e => e)
/-! HintHouse$Machine.relative(I)V -/
def M_Ma_relative : hM := (4, ⟨"HintHouse$Machine", "relative", "(I)V"⟩, prog_6_method_71_code, 13, (Option.none : Option Jvm.ClassFile.FieldType), [], [(0, [(.iload_n 1, 1, 0, 0, 0, .null), (.sipush 224, 3, 0, 0, 0, (.int (224 : Int32)))]), (11, [(.iconst 0, 1, 0, 0, 0, (.int (0 : Int32)))]), (7, [(.iconst 1, 1, 0, 0, 0, (.int (1 : Int32)))]), (12, [(.istore_n 2, 1, 0, 0, 0, .null), (.aload_n 0, 1, 0, 0, 0, .null), (.iload_n 2, 1, 0, 0, 0, .null)]), (22, [(.iconst 1, 1, 0, 0, 0, (.int (1 : Int32)))]), (18, [(.iconst 2, 1, 0, 0, 0, (.int (2 : Int32)))]), (26, [(.iload_n 2, 1, 0, 0, 0, .null)]), (37, [(.iconst 0, 1, 0, 0, 0, (.int (0 : Int32)))]), (30, [(.aload_n 0, 1, 0, 0, 0, .null)]), (38, [(.istore_n 3, 1, 0, 0, 0, .null), (.aload_n 0, 1, 0, 0, 0, .null), (.iconst 1, 1, 0, 0, 0, (.int (1 : Int32)))]), (44, [(.astore 4, 2, 0, 0, 0, .null), (.aload_n 0, 1, 0, 0, 0, .null), (.aload 4, 2, 0, 0, 0, .null), (.aload_n 0, 1, 0, 0, 0, .null)]), (56, [(.istore 5, 2, 0, 0, 0, .null), (.aload_n 0, 1, 0, 0, 0, .null), (.iconst 0, 1, 0, 0, 0, (.int (0 : Int32)))]), (63, [(.astore 6, 2, 0, 0, 0, .null), (.aload_n 0, 1, 0, 0, 0, .null), (.aload 6, 2, 0, 0, 0, .null), (.aload_n 0, 1, 0, 0, 0, .null), (.getfield 67, 3, 4, 36, 4, .null), (.iconst 0, 1, 0, 0, 0, (.int (0 : Int32))), (.iaload, 1, 0, 0, 0, .null)]), (77, [(.istore 7, 2, 0, 0, 0, .null), (.aload_n 0, 1, 0, 0, 0, .null), (.getfield 12, 3, 4, 1, 4, .null), (.getfield 134, 3, 5, 5, 4, .null), (.astore 8, 2, 0, 0, 0, .null), (.lconst 0, 1, 0, 0, 0, (.long (0 : Int64))), (.lstore 9, 2, 0, 0, 0, .null), (.iload_n 2, 1, 0, 0, 0, .null)]), (95, [(.aload_n 0, 1, 0, 0, 0, .null), (.iload_n 3, 1, 0, 0, 0, .null), (.i2l, 1, 0, 0, 0, .null), (.lconst 0, 1, 0, 0, 0, (.long (0 : Int64))), (.aload_n 0, 1, 0, 0, 0, .null), (.getfield 12, 3, 4, 1, 4, .null), (.getfield 106, 3, 5, 1, 0, .null), (.iconst 1, 1, 0, 0, 0, (.int (1 : Int32))), (.isub, 1, 0, 0, 0, .null), (.i2l, 1, 0, 0, 0, .null)]), (112, [(.bipush 6, 2, 0, 0, 0, (.int (6 : Int32)))]), (117, [(.aload_n 0, 1, 0, 0, 0, .null), (.aload_n 0, 1, 0, 0, 0, .null), (.getfield 12, 3, 4, 1, 4, .null), (.getfield 107, 3, 5, 0, 4, .null), (.iload_n 3, 1, 0, 0, 0, .null), (.iaload, 1, 0, 0, 0, .null), (.i2l, 1, 0, 0, 0, .null)]), (131, [(.lstore 9, 2, 0, 0, 0, .null), (.aload_n 0, 1, 0, 0, 0, .null), (.aload 4, 2, 0, 0, 0, .null), (.iload 5, 2, 0, 0, 0, .null), (.aload 6, 2, 0, 0, 0, .null), (.iload 7, 2, 0, 0, 0, .null), (.lload 9, 2, 0, 0, 0, .null)]), (147, [(.aload_n 0, 1, 0, 0, 0, .null), (.aload 4, 2, 0, 0, 0, .null), (.iload 5, 2, 0, 0, 0, .null), (.aload 6, 2, 0, 0, 0, .null), (.iload 7, 2, 0, 0, 0, .null)]), (159, [(.i2l, 1, 0, 0, 0, .null), (.lstore 11, 2, 0, 0, 0, .null)]), (162, [(.iload_n 2, 1, 0, 0, 0, .null)]), (181, [(.aload 8, 2, 0, 0, 0, .null), (.getfield 496, 3, 7, 4, 1, .null)]), (189, [(.lload 11, 2, 0, 0, 0, .null), (.lconst 0, 1, 0, 0, 0, (.long (0 : Int64))), (.lcmp, 1, 0, 0, 0, .null)]), (200, [(.iconst 0, 1, 0, 0, 0, (.int (0 : Int32)))]), (196, [(.iconst 1, 1, 0, 0, 0, (.int (1 : Int32)))]), (201, [(.lload 9, 2, 0, 0, 0, .null), (.lconst 0, 1, 0, 0, 0, (.long (0 : Int64))), (.lcmp, 1, 0, 0, 0, .null)]), (212, [(.iconst 0, 1, 0, 0, 0, (.int (0 : Int32)))]), (208, [(.iconst 1, 1, 0, 0, 0, (.int (1 : Int32)))]), (216, [(.lload 9, 2, 0, 0, 0, .null), (.lneg, 1, 0, 0, 0, .null), (.lstore 9, 2, 0, 0, 0, .null)]), (166, [(.aload_n 0, 1, 0, 0, 0, .null), (.lload 11, 2, 0, 0, 0, .null)]), (172, [(.lstore 11, 2, 0, 0, 0, .null), (.lload 11, 2, 0, 0, 0, .null), (.lstore 9, 2, 0, 0, 0, .null)]), (221, [(.iload_n 1, 1, 0, 0, 0, .null), (.iconst 4, 1, 0, 0, 0, (.int (4 : Int32))), (.iand, 1, 0, 0, 0, .null)]), (227, [(.iload_n 2, 1, 0, 0, 0, .null)]), (269, [(.lload 9, 2, 0, 0, 0, .null)]), (231, [(.aload_n 0, 1, 0, 0, 0, .null), (.getfield 70, 3, 4, 37, 4, .null), (.iconst 0, 1, 0, 0, 0, (.int (0 : Int32))), (.iaload, 1, 0, 0, 0, .null), (.aload_n 0, 1, 0, 0, 0, .null), (.getfield 70, 3, 4, 37, 4, .null), (.iconst 1, 1, 0, 0, 0, (.int (1 : Int32))), (.iaload, 1, 0, 0, 0, .null)]), (246, [(.lload 9, 2, 0, 0, 0, .null), (.lload 11, 2, 0, 0, 0, .null), (.lsub, 1, 0, 0, 0, .null)]), (254, [(.aload 8, 2, 0, 0, 0, .null), (.getfield 401, 3, 7, 0, 0, .null), (.i2l, 1, 0, 0, 0, .null), (.lcmp, 1, 0, 0, 0, .null)]), (264, [(.lload 11, 2, 0, 0, 0, .null)]), (271, [(.lstore 9, 2, 0, 0, 0, .null), (.aload_n 0, 1, 0, 0, 0, .null), (.lload 9, 2, 0, 0, 0, .null)]), (279, [(.lstore 9, 2, 0, 0, 0, .null)]), (281, [(.iload_n 1, 1, 0, 0, 0, .null), (.bipush 8, 2, 0, 0, 0, (.int (8 : Int32))), (.iand, 1, 0, 0, 0, .null)]), (288, [(.lload 11, 2, 0, 0, 0, .null), (.lconst 0, 1, 0, 0, 0, (.long (0 : Int64))), (.lcmp, 1, 0, 0, 0, .null)]), (309, [(.lload 9, 2, 0, 0, 0, .null), (.aload 8, 2, 0, 0, 0, .null), (.getfield 395, 3, 7, 3, 0, .null), (.i2l, 1, 0, 0, 0, .null), (.lneg, 1, 0, 0, 0, .null)]), (295, [(.lload 9, 2, 0, 0, 0, .null), (.aload 8, 2, 0, 0, 0, .null), (.getfield 395, 3, 7, 3, 0, .null), (.i2l, 1, 0, 0, 0, .null)]), (321, [(.lstore 9, 2, 0, 0, 0, .null)]), (323, [(.aload_n 0, 1, 0, 0, 0, .null), (.aload 4, 2, 0, 0, 0, .null), (.iload 5, 2, 0, 0, 0, .null), (.lload 9, 2, 0, 0, 0, .null), (.aload_n 0, 1, 0, 0, 0, .null), (.aload 4, 2, 0, 0, 0, .null), (.iload 5, 2, 0, 0, 0, .null), (.aload 6, 2, 0, 0, 0, .null), (.iload 7, 2, 0, 0, 0, .null)]), (342, [(.i2l, 1, 0, 0, 0, .null), (.lsub, 1, 0, 0, 0, .null)]), (347, [(.aload_n 0, 1, 0, 0, 0, .null), (.getfield 67, 3, 4, 36, 4, .null), (.iconst 1, 1, 0, 0, 0, (.int (1 : Int32))), (.aload_n 0, 1, 0, 0, 0, .null), (.getfield 67, 3, 4, 36, 4, .null), (.iconst 0, 1, 0, 0, 0, (.int (0 : Int32))), (.iaload, 1, 0, 0, 0, .null), (.iastore, 1, 0, 0, 0, .null)]), (359, [(.aload_n 0, 1, 0, 0, 0, .null), (.getfield 67, 3, 4, 36, 4, .null), (.iconst 2, 1, 0, 0, 0, (.int (2 : Int32))), (.iload 5, 2, 0, 0, 0, .null), (.iastore, 1, 0, 0, 0, .null)]), (367, [(.aload_n 0, 1, 0, 0, 0, .null), (.getfield 67, 3, 4, 36, 4, .null), (.iconst 0, 1, 0, 0, 0, (.int (0 : Int32))), (.iload_n 1, 1, 0, 0, 0, .null), (.bipush 16, 2, 0, 0, 0, (.int (16 : Int32))), (.iand, 1, 0, 0, 0, .null)]), (384, [(.aload_n 0, 1, 0, 0, 0, .null), (.getfield 67, 3, 4, 36, 4, .null), (.iconst 0, 1, 0, 0, 0, (.int (0 : Int32))), (.iaload, 1, 0, 0, 0, .null)]), (379, [(.iload 5, 2, 0, 0, 0, .null)]), (390, [(.iastore, 1, 0, 0, 0, .null)])], [(8, .goto 4, 3), (4, .if_icmp .lt 7, 3), (19, .goto 4, 3), (15, .ifCond .eq 7, 3), (23, .invokevirtual 334, 3), (31, .invokevirtual 337, 3), (34, .goto 4, 3), (27, .ifCond .eq 10, 3), (41, .invokevirtual 362, 3), (50, .invokevirtual 337, 3), (53, .invokevirtual 366, 3), (60, .invokevirtual 362, 3), (74, .invokevirtual 366, 3), (109, .invokestatic 246, 3), (114, .invokevirtual 187, 3), (128, .invokevirtual 564, 3), (144, .invokevirtual 464, 3), (92, .ifCond .eq 55, 3), (156, .invokevirtual 493, 3), (197, .goto 4, 3), (193, .ifCond .ge 7, 3), (209, .goto 4, 3), (205, .ifCond .ge 7, 3), (213, .if_icmp .eq 8, 3), (186, .ifCond .eq 35, 3), (169, .invokevirtual 564, 3), (178, .goto 43, 3), (163, .ifCond .ne 18, 3), (251, .invokestatic 268, 3), (266, .goto 5, 3), (261, .ifCond .le 8, 3), (243, .if_icmp .ne 26, 3), (228, .ifCond .eq 41, 3), (276, .invokevirtual 301, 3), (224, .ifCond .eq 57, 3), (318, .invokestatic 541, 3), (303, .invokestatic 539, 3), (306, .goto 15, 3), (292, .ifCond .lt 17, 3), (285, .ifCond .eq 38, 3), (339, .invokevirtual 425, 3), (344, .invokevirtual 429, 3), (381, .goto 9, 3), (376, .ifCond .eq 8, 3), (391, .return_, 1)])
set_option maxRecDepth 100000 in
theorem m_Ma_relative : hx_mok M_Ma_relative = true := by decide +kernel
theorem pd_Ma_relative : (parseMethodDescriptor M_Ma_relative.2.1.desc).map (fun q => q.parameters.length) = some 1 := by decide +kernel
theorem y_Ma_relative : hx_okV M_Ma_relative := ⟨⟨lw_g (lw_at lw_m5 216 rfl) rfl, lw_g (lw_at lw_m5 215 rfl) rfl, qs42, lw_g (lw_at lw_m1 5 rfl) rfl, rfl, by decide, by decide, by decide⟩, rfl, by decide, plainFor_of_name (by decide)⟩
noncomputable def f_Ma_relative (x1 : Int32) (h : hH) : Option (hH ⊕ (Unit × hH)) :=
  lz (A := Int32) (if x1 < (224 : Int32) then (0 : Int32) else (1 : Int32)) fun p1 =>
  lz (A := Int32) (if p1 = 0 then (1 : Int32) else (2 : Int32)) fun p3 =>
  bT (f_Ma_need p3 h) fun _ h1 =>
  bJT (P := (Int32 × hH)) (
    if p1 = 0 then (
      some (.inr ((0 : Int32), h1))
    ) else (
      bS (f_Ma_pop h1) fun a6 h2 =>
      some (.inr (a6, h2))
    )
  ) fun p5 =>
  bP (f_Ma_zone (1 : Int32) p5.2) fun a8 =>
  bS (f_Ma_pop p5.2) fun a9 h3 =>
  gd (isA 6 a8) <|
  bT (f_Ma_point a8 a9 h3) fun a11 h4 =>
  bP (f_Ma_zone (0 : Int32) h4) fun a12 =>
  gd (isA 6 a12) <|
  bT (f_Ma_point a12 (rdI h4 54 0) h4) fun a14 h5 =>
  bJT (P := (Int64 × hH)) (
    if p1 = 0 then (
      some (.inr ((0 : Int64), h5))
    ) else (
      bP (f_HH_within (Int32.toInt64 p5.1) (0 : Int64) (Int32.toInt64 ((rdI h5 23 1) - (1 : Int32)))) fun a16 =>
      bT (f_Ma_want a16 (6 : Int32) h5) fun _ h6 =>
      gd (vp_in p5.1 256) <|
      bP (f_Ma_single (Int32.toInt64 (rdI h6 24 (Int32.toNatClampNeg p5.1))) h6) fun a18 =>
      bS (f_Ma_give a8 a11 a12 a14 a18 h6) fun _ h7 =>
      some (.inr (a18, h7))
    )
  ) fun p15 =>
  bP (f_Ma_oldDistance a8 a11 a12 a14 p15.2) fun a20 =>
  lz (A := Int64) (Int32.toInt64 a20) fun v21 =>
  bJT (P := (Int64 × Int64)) (
    if p1 = 0 then (
      bP (f_Ma_single v21 p15.2) fun a30 =>
      some (.inr (a30, a30))
    ) else (
      if (rdI p15.2 33 4) = 0 then (
        some (.inr (p15.1, v21))
      ) else (
        lz (A := Int32) (if (0 : Int64) ≤ v21 then (0 : Int32) else (1 : Int32)) fun p23 =>
        lz (A := Int32) (if (0 : Int64) ≤ p15.1 then (0 : Int32) else (1 : Int32)) fun p25 =>
        if p23 = p25 then (
          some (.inr (p15.1, v21))
        ) else (
          lz (A := Int64) (-p15.1) fun v27 =>
          some (.inr (v27, v21))
        )
      )
    )
  ) fun p22 =>
  bJT (P := Int64) (
    if (x1 &&& (4 : Int32)) = 0 then (
      some (.inr p22.1)
    ) else (
      bJT (P := Int64) (
        if p1 = 0 then (
          some (.inr p22.1)
        ) else (
          if (rdI p15.2 55 0) = (rdI p15.2 55 1) then (
            bP (f_JM_abs (p22.1 - p22.2)) fun a34 =>
            if a34 ≤ (Int32.toInt64 (rdI p15.2 33 0)) then (
              some (.inr p22.1)
            ) else (
              some (.inr p22.2)
            )
          ) else (
            some (.inr p22.1)
          )
        )
      ) fun p33 =>
      bP (f_Ma_rounded 2 p33 p15.2) fun a38 =>
      some (.inr a38)
    )
  ) fun p32 =>
  bJT (P := Int64) (
    if (x1 &&& (8 : Int32)) = 0 then (
      some (.inr p32)
    ) else (
      bJT (P := Int64) (
        if p22.2 < (0 : Int64) then (
          bP (f_JM_min p32 (-(Int32.toInt64 (rdI p15.2 33 3)))) fun a42 =>
          some (.inr a42)
        ) else (
          bP (f_JM_max p32 (Int32.toInt64 (rdI p15.2 33 3))) fun a43 =>
          some (.inr a43)
        )
      ) fun p41 =>
      some (.inr p41)
    )
  ) fun p40 =>
  bP (f_Ma_distance a8 a11 a12 a14 p15.2) fun a46 =>
  bS (f_Ma_move a8 a11 (p40 - (Int32.toInt64 a46)) p15.2) fun _ h8 =>
  lz (wrI h8 54 1 (rdI h8 54 0)) fun h9 =>
  lz (wrI h9 54 2 a11) fun h10 =>
  lz (A := Int32) (if (x1 &&& (16 : Int32)) = 0 then (rdI h10 54 0) else a11) fun p47 =>
  lz (wrI h10 54 0 p47) fun h11 =>
  some (.inr ((), h11))
set_option maxRecDepth 20000 in
theorem k_Ma_relative (x1 : Int32) (h : hH) : hx_kT S0 M_Ma_relative 8 NT [(.ref 22), (.int x1)] h (f_Ma_relative x1 h) cvU := by
  have hm := m_Ma_relative
  show hx_P S0 M_Ma_relative 8 0 [(0, (.ref 22)), (1, (.int x1))] [] NT h (f_Ma_relative x1 h) (hx_T NT (hx_Rc cvU NT))
  unfold f_Ma_relative
  refine hp_JZ 12 (fun (p1 : Int32) => [(0, (.ref 22)), (1, (.int x1))]) (fun (p1 : Int32) => [(.int p1)]) (fun (p1 : Int32) => h) ?_ (fun p1 => ?_)
  · refine hp_sv0 ?_
    refine hp_ic_lt hm (at1 0 rfl) rfl (by exact trivial) (pc' := 4) rfl 1 rfl (tgt := 11) rfl (fun c2 => ?_) (fun c2 => ?_)
    · refine hp_b hm (at1 1 rfl) (L' := [(0, (.ref 22)), (1, (.int x1))]) (st' := [(.int (0 : Int32))]) rfl (by exact trivial) (pc' := 12) rfl ?_
      exact hp_lf [0, 1] rfl (fun _ e => e)
    · refine hp_b hm (at1 2 rfl) (L' := [(0, (.ref 22)), (1, (.int x1))]) (st' := [(.int (1 : Int32))]) rfl (by exact trivial) (pc' := 8) rfl ?_
      refine hp_goto hm 0 rfl (tgt := 12) rfl ?_
      exact hp_lf [0, 1] rfl (fun _ e => e)
  · refine hp_b hm (at1 3 rfl) (L' := [(2, (.int p1)), (0, (.ref 22)), (1, (.int x1))]) (st' := [(.int p1), (.ref 22)]) rfl (by exact trivial) (pc' := 15) rfl ?_
    refine hp_JZ 23 (fun (p3 : Int32) => [(0, (.ref 22)), (1, (.int x1)), (2, (.int p1))]) (fun (p3 : Int32) => [(.int p3), (.ref 22)]) (fun (p3 : Int32) => h) ?_ (fun p3 => ?_)
    · refine hp_sv0 ?_
      refine hp_if_eq hm at0 rfl (by exact trivial) (pc' := 15) rfl 3 rfl (tgt := 22) rfl (fun c4 => ?_) (fun c4 => ?_)
      · refine hp_b hm (at1 4 rfl) (L' := [(2, (.int p1)), (0, (.ref 22)), (1, (.int x1))]) (st' := [(.int (1 : Int32)), (.ref 22)]) rfl (by exact trivial) (pc' := 23) rfl ?_
        exact hp_lf [1, 2, 0] rfl (fun _ e => e)
      · refine hp_b hm (at1 5 rfl) (L' := [(2, (.int p1)), (0, (.ref 22)), (1, (.int x1))]) (st' := [(.int (2 : Int32)), (.ref 22)]) rfl (by exact trivial) (pc' := 19) rfl ?_
        refine hp_goto hm 2 rfl (tgt := 23) rfl ?_
        exact hp_lf [1, 2, 0] rfl (fun _ e => e)
    · refine hp_cVT (M2 := M_Ma_need) hm at0 (as := [(.int p3)]) (rest := []) (z := 22) rfl (by exact trivial) (pc' := 23) rfl 4 rfl (lw_g (lw_at lw_m5 217 rfl) rfl) y_Ma_need rfl (d2 := 7) ⟨le_b rfl, pd_Ma_need, le_b rfl⟩ (le_b rfl) og_22 rfl (k_Ma_need p3 h) (fun _ h1 => ?_)
      refine hp_JT 38 (fun (p5 : (Int32 × hH)) => [(0, (.ref 22)), (1, (.int x1)), (2, (.int p1))]) (fun (p5 : (Int32 × hH)) => [(.int p5.1)]) (fun (p5 : (Int32 × hH)) => p5.2) ?_ (fun p5 => ?_)
      · refine hp_if_eq hm (at1 6 rfl) rfl (by exact trivial) (pc' := 27) rfl 7 rfl (tgt := 37) rfl (fun c7 => ?_) (fun c7 => ?_)
        · refine hp_b hm (at1 7 rfl) (L' := [(0, (.ref 22)), (1, (.int x1)), (2, (.int p1))]) (st' := [(.int (0 : Int32))]) rfl (by exact trivial) (pc' := 38) rfl ?_
          exact hp_lf [0, 1, 2] rfl (fun _ e => e)
        · refine hp_cVS (M2 := M_Ma_pop) hm (at1 8 rfl) (as := []) (rest := []) (z := 22) rfl (by exact trivial) (pc' := 31) rfl 5 rfl (lw_g (lw_at lw_m5 221 rfl) rfl) y_Ma_pop rfl (d2 := 1) ⟨le_b rfl, pd_Ma_pop, le_b rfl⟩ (le_b rfl) og_22 (k_Ma_pop h1) (fun a6 h2 => ?_)
          refine hp_goto hm 6 rfl (tgt := 38) rfl ?_
          exact hp_lf [0, 1, 2] rfl (fun _ e => e)
      · refine hp_b hm (at1 9 rfl) (L' := [(3, (.int p5.1)), (0, (.ref 22)), (1, (.int x1)), (2, (.int p1))]) (st' := [(.int (1 : Int32)), (.ref 22)]) rfl (by exact trivial) (pc' := 41) rfl ?_
        refine hp_cVP (M2 := M_Ma_zone) hm at0 (as := [(.int (1 : Int32))]) (rest := []) (z := 22) rfl (by exact trivial) (pc' := 41) rfl 8 rfl (lw_g (lw_at lw_m5 225 rfl) rfl) y_Ma_zone rfl (d2 := 1) ⟨le_b rfl, pd_Ma_zone, le_b rfl⟩ (le_b rfl) og_22 (k_Ma_zone (1 : Int32) p5.2) (fun a8 => ?_)
        refine hp_b hm (at1 10 rfl) (L' := [(4, (.ref a8)), (3, (.int p5.1)), (0, (.ref 22)), (1, (.int x1)), (2, (.int p1))]) (st' := [(.ref 22), (.ref a8), (.ref 22)]) rfl (by exact trivial) (pc' := 50) rfl ?_
        refine hp_cVS (M2 := M_Ma_pop) hm at0 (as := []) (rest := [(.ref a8), (.ref 22)]) (z := 22) rfl (by exact trivial) (pc' := 50) rfl 9 rfl (lw_g (lw_at lw_m5 221 rfl) rfl) y_Ma_pop rfl (d2 := 1) ⟨le_b rfl, pd_Ma_pop, le_b rfl⟩ (le_b rfl) og_22 (k_Ma_pop p5.2) (fun a9 h3 => ?_)
        refine hp_G0 (fun q10 => ?_)
        refine hp_cVT (M2 := M_Ma_point) hm at0 (as := [(.ref a8), (.int a9)]) (rest := []) (z := 22) rfl (by exact trivial) (pc' := 53) rfl 10 rfl (lw_g (lw_at lw_m5 229 rfl) rfl) y_Ma_point rfl (d2 := 7) ⟨le_b rfl, pd_Ma_point, le_b rfl⟩ (le_b rfl) og_22 rfl (k_Ma_point a8 a9 h3 q10) (fun a11 h4 => ?_)
        refine hp_b hm (at1 11 rfl) (L' := [(5, (.int a11)), (4, (.ref a8)), (3, (.int p5.1)), (0, (.ref 22)), (1, (.int x1)), (2, (.int p1))]) (st' := [(.int (0 : Int32)), (.ref 22)]) rfl (by exact trivial) (pc' := 60) rfl ?_
        refine hp_cVP (M2 := M_Ma_zone) hm at0 (as := [(.int (0 : Int32))]) (rest := []) (z := 22) rfl (by exact trivial) (pc' := 60) rfl 11 rfl (lw_g (lw_at lw_m5 225 rfl) rfl) y_Ma_zone rfl (d2 := 1) ⟨le_b rfl, pd_Ma_zone, le_b rfl⟩ (le_b rfl) og_22 (k_Ma_zone (0 : Int32) h4) (fun a12 => ?_)
        refine hp_b hm (at1 12 rfl) (L' := [(6, (.ref a12)), (5, (.int a11)), (4, (.ref a8)), (3, (.int p5.1)), (0, (.ref 22)), (1, (.int x1)), (2, (.int p1))]) (st' := [(.int (rdI h4 54 0)), (.ref a12), (.ref 22)]) rfl (by exact ⟨og_22, ⟨og_54, (show vp_in (0 : Int32) 3 from vp_lit (by decide))⟩⟩) (pc' := 74) rfl ?_
        refine hp_G0 (fun q13 => ?_)
        refine hp_cVT (M2 := M_Ma_point) hm at0 (as := [(.ref a12), (.int (rdI h4 54 0))]) (rest := []) (z := 22) rfl (by exact trivial) (pc' := 74) rfl 12 rfl (lw_g (lw_at lw_m5 229 rfl) rfl) y_Ma_point rfl (d2 := 7) ⟨le_b rfl, pd_Ma_point, le_b rfl⟩ (le_b rfl) og_22 rfl (k_Ma_point a12 (rdI h4 54 0) h4 q13) (fun a14 h5 => ?_)
        refine hp_b hm (at1 13 rfl) (L' := [(9, (.long (0 : Int64))), (8, (.ref 33)), (7, (.int a14)), (6, (.ref a12)), (5, (.int a11)), (4, (.ref a8)), (3, (.int p5.1)), (0, (.ref 22)), (1, (.int x1)), (2, (.int p1))]) (st' := [(.int p1)]) rfl (by exact ⟨og_22, og_23⟩) (pc' := 92) rfl ?_
        refine hp_JT 147 (fun (p15 : (Int64 × hH)) => [(0, (.ref 22)), (1, (.int x1)), (2, (.int p1)), (4, (.ref a8)), (5, (.int a11)), (6, (.ref a12)), (7, (.int a14)), (8, (.ref 33)), (9, (.long p15.1))]) (fun (p15 : (Int64 × hH)) => []) (fun (p15 : (Int64 × hH)) => p15.2) ?_ (fun p15 => ?_)
        · refine hp_if_eq hm at0 rfl (by exact trivial) (pc' := 92) rfl 17 rfl (tgt := 147) rfl (fun c19 => ?_) (fun c19 => ?_)
          · exact hp_lf [7, 8, 9, 5, 4, 3, 2, 1, 0] rfl (fun _ e => e)
          · refine hp_cNP (M2 := M_HH_within) hm (at1 14 rfl) (as := [(.long (Int32.toInt64 p5.1)), (.long (0 : Int64)), (.long (Int32.toInt64 ((rdI h5 23 1) - (1 : Int32))))]) (rest := [(.ref 22)]) rfl (by exact ⟨og_22, og_23⟩) (pc' := 109) rfl 13 rfl (hmn_4_246) y_HH_within rfl (d2 := 1) ⟨le_b rfl, pd_HH_within, le_b rfl⟩ (le_b rfl) (k_HH_within (Int32.toInt64 p5.1) (0 : Int64) (Int32.toInt64 ((rdI h5 23 1) - (1 : Int32))) h5) (fun a16 => ?_)
            refine hp_cVT (M2 := M_Ma_want) hm (at1 15 rfl) (as := [(.int a16), (.int (6 : Int32))]) (rest := []) (z := 22) rfl (by exact trivial) (pc' := 114) rfl 14 rfl (lw_g (lw_at lw_m5 139 rfl) rfl) y_Ma_want rfl (d2 := 6) ⟨le_b rfl, pd_Ma_want, le_b rfl⟩ (le_b rfl) og_22 rfl (k_Ma_want a16 (6 : Int32) h5) (fun _ h6 => ?_)
            refine hp_G hm (at1 16 rfl) (L' := [(9, (.long (0 : Int64))), (8, (.ref 33)), (7, (.int a14)), (6, (.ref a12)), (5, (.int a11)), (4, (.ref a8)), (3, (.int p5.1)), (0, (.ref 22)), (1, (.int x1)), (2, (.int p1))]) (st' := [(.long (Int32.toInt64 (rdI h6 24 (Int32.toNatClampNeg p5.1)))), (.ref 22)]) rfl (fun hP => (by exact ⟨⟨og_22, og_23⟩, ⟨og_24, hP⟩⟩)) (pc' := 128) rfl (fun q17 => ?_)
            refine hp_cVP (M2 := M_Ma_single) hm at0 (as := [(.long (Int32.toInt64 (rdI h6 24 (Int32.toNatClampNeg p5.1))))]) (rest := []) (z := 22) rfl (by exact trivial) (pc' := 128) rfl 15 rfl (lw_g (lw_at lw_m5 234 rfl) rfl) y_Ma_single rfl (d2 := 2) ⟨le_b rfl, pd_Ma_single, le_b rfl⟩ (le_b rfl) og_22 (k_Ma_single (Int32.toInt64 (rdI h6 24 (Int32.toNatClampNeg p5.1))) h6) (fun a18 => ?_)
            refine hp_b hm (at1 17 rfl) (L' := [(9, (.long a18)), (8, (.ref 33)), (7, (.int a14)), (6, (.ref a12)), (5, (.int a11)), (4, (.ref a8)), (3, (.int p5.1)), (0, (.ref 22)), (1, (.int x1)), (2, (.int p1))]) (st' := [(.long a18), (.int a14), (.ref a12), (.int a11), (.ref a8), (.ref 22)]) rfl (by exact trivial) (pc' := 144) rfl ?_
            refine hp_cVS (M2 := M_Ma_give) hm at0 (as := [(.ref a8), (.int a11), (.ref a12), (.int a14), (.long a18)]) (rest := []) (z := 22) rfl (by exact trivial) (pc' := 144) rfl 16 rfl (lw_g (lw_at lw_m5 239 rfl) rfl) y_Ma_give rfl (d2 := 3) ⟨le_b rfl, pd_Ma_give, le_b rfl⟩ (le_b rfl) og_22 (k_Ma_give a8 a11 a12 a14 a18 h6 q10 q13) (fun _ h7 => ?_)
            exact hp_lf [7, 8, 9, 5, 4, 3, 2, 1, 0] rfl (fun _ e => e)
        · refine hp_cVP (M2 := M_Ma_oldDistance) hm (at1 18 rfl) (as := [(.ref a8), (.int a11), (.ref a12), (.int a14)]) (rest := []) (z := 22) rfl (by exact trivial) (pc' := 156) rfl 18 rfl (lw_g (lw_at lw_m6 5 rfl) rfl) y_Ma_oldDistance rfl (d2 := 4) ⟨le_b rfl, pd_Ma_oldDistance, le_b rfl⟩ (le_b rfl) og_22 (k_Ma_oldDistance a8 a11 a12 a14 p15.2 q10 q13) (fun a20 => ?_)
          refine hp_z hm (at1 19 rfl) (fun (v21 : Int64) => [(11, (.long v21)), (0, (.ref 22)), (1, (.int x1)), (2, (.int p1)), (4, (.ref a8)), (5, (.int a11)), (6, (.ref a12)), (7, (.int a14)), (8, (.ref 33)), (9, (.long p15.1))]) (fun (v21 : Int64) => []) rfl (by exact trivial) (pc' := 162) rfl (fun v21 => ?_)
          refine hp_JT 221 (fun (p22 : (Int64 × Int64)) => [(0, (.ref 22)), (1, (.int x1)), (2, (.int p1)), (4, (.ref a8)), (5, (.int a11)), (6, (.ref a12)), (7, (.int a14)), (8, (.ref 33)), (9, (.long p22.1)), (11, (.long p22.2))]) (fun (p22 : (Int64 × Int64)) => []) (fun (p22 : (Int64 × Int64)) => p15.2) ?_ (fun p22 => ?_)
          · refine hp_if_ne hm (at1 20 rfl) rfl (by exact trivial) (pc' := 163) rfl 27 rfl (tgt := 181) rfl (fun c31 => ?_) (fun c31 => ?_)
            · refine hp_if_eq hm (at1 21 rfl) rfl (by exact og_33) (pc' := 186) rfl 24 rfl (tgt := 221) rfl (fun c29 => ?_) (fun c29 => ?_)
              · exact hp_lf [1, 2, 3, 4, 5, 6, 7, 8, 9, 0] rfl (fun _ e => e)
              · refine hp_JZ 201 (fun (p23 : Int32) => [(0, (.ref 22)), (1, (.int x1)), (2, (.int p1)), (4, (.ref a8)), (5, (.int a11)), (6, (.ref a12)), (7, (.int a14)), (8, (.ref 33)), (9, (.long p15.1)), (11, (.long v21))]) (fun (p23 : Int32) => [(.int p23)]) (fun (p23 : Int32) => p15.2) ?_ (fun p23 => ?_)
                · refine hp_sv0 ?_
                  refine hp_lc_ge hm (at1 22 rfl) rfl (by exact trivial) (pc' := 193) rfl 20 rfl (tgt := 200) rfl (fun c24 => ?_) (fun c24 => ?_)
                  · refine hp_b hm (at1 23 rfl) (L' := [(11, (.long v21)), (0, (.ref 22)), (1, (.int x1)), (2, (.int p1)), (4, (.ref a8)), (5, (.int a11)), (6, (.ref a12)), (7, (.int a14)), (8, (.ref 33)), (9, (.long p15.1))]) (st' := [(.int (0 : Int32))]) rfl (by exact trivial) (pc' := 201) rfl ?_
                    exact hp_lf [1, 2, 3, 4, 5, 6, 7, 8, 9, 0] rfl (fun _ e => e)
                  · refine hp_b hm (at1 24 rfl) (L' := [(11, (.long v21)), (0, (.ref 22)), (1, (.int x1)), (2, (.int p1)), (4, (.ref a8)), (5, (.int a11)), (6, (.ref a12)), (7, (.int a14)), (8, (.ref 33)), (9, (.long p15.1))]) (st' := [(.int (1 : Int32))]) rfl (by exact trivial) (pc' := 197) rfl ?_
                    refine hp_goto hm 19 rfl (tgt := 201) rfl ?_
                    exact hp_lf [1, 2, 3, 4, 5, 6, 7, 8, 9, 0] rfl (fun _ e => e)
                · refine hp_JZ 213 (fun (p25 : Int32) => [(0, (.ref 22)), (1, (.int x1)), (2, (.int p1)), (4, (.ref a8)), (5, (.int a11)), (6, (.ref a12)), (7, (.int a14)), (8, (.ref 33)), (9, (.long p15.1)), (11, (.long v21))]) (fun (p25 : Int32) => [(.int p25), (.int p23)]) (fun (p25 : Int32) => p15.2) ?_ (fun p25 => ?_)
                  · refine hp_sv0 ?_
                    refine hp_lc_ge hm (at1 25 rfl) rfl (by exact trivial) (pc' := 205) rfl 22 rfl (tgt := 212) rfl (fun c26 => ?_) (fun c26 => ?_)
                    · refine hp_b hm (at1 26 rfl) (L' := [(0, (.ref 22)), (1, (.int x1)), (2, (.int p1)), (4, (.ref a8)), (5, (.int a11)), (6, (.ref a12)), (7, (.int a14)), (8, (.ref 33)), (9, (.long p15.1)), (11, (.long v21))]) (st' := [(.int (0 : Int32)), (.int p23)]) rfl (by exact trivial) (pc' := 213) rfl ?_
                      exact hp_lf [0, 1, 2, 3, 4, 5, 6, 7, 8, 9] rfl (fun _ e => e)
                    · refine hp_b hm (at1 27 rfl) (L' := [(0, (.ref 22)), (1, (.int x1)), (2, (.int p1)), (4, (.ref a8)), (5, (.int a11)), (6, (.ref a12)), (7, (.int a14)), (8, (.ref 33)), (9, (.long p15.1)), (11, (.long v21))]) (st' := [(.int (1 : Int32)), (.int p23)]) rfl (by exact trivial) (pc' := 209) rfl ?_
                      refine hp_goto hm 21 rfl (tgt := 213) rfl ?_
                      exact hp_lf [0, 1, 2, 3, 4, 5, 6, 7, 8, 9] rfl (fun _ e => e)
                  · refine hp_ic_eq hm at0 rfl (by exact trivial) (pc' := 213) rfl 23 rfl (tgt := 221) rfl (fun c28 => ?_) (fun c28 => ?_)
                    · exact hp_lf [0, 1, 2, 3, 4, 5, 6, 7, 8, 9] rfl (fun _ e => e)
                    · refine hp_z hm (at1 28 rfl) (fun (v27 : Int64) => [(9, (.long v27)), (0, (.ref 22)), (1, (.int x1)), (2, (.int p1)), (4, (.ref a8)), (5, (.int a11)), (6, (.ref a12)), (7, (.int a14)), (8, (.ref 33)), (11, (.long v21))]) (fun (v27 : Int64) => []) rfl (by exact trivial) (pc' := 221) rfl (fun v27 => ?_)
                      exact hp_lf [1, 2, 3, 4, 5, 6, 7, 8, 0, 9] rfl (fun _ e => e)
            · refine hp_cVP (M2 := M_Ma_single) hm (at1 29 rfl) (as := [(.long v21)]) (rest := []) (z := 22) rfl (by exact trivial) (pc' := 169) rfl 25 rfl (lw_g (lw_at lw_m5 234 rfl) rfl) y_Ma_single rfl (d2 := 2) ⟨le_b rfl, pd_Ma_single, le_b rfl⟩ (le_b rfl) og_22 (k_Ma_single v21 p15.2) (fun a30 => ?_)
              refine hp_b hm (at1 30 rfl) (L' := [(9, (.long a30)), (11, (.long a30)), (0, (.ref 22)), (1, (.int x1)), (2, (.int p1)), (4, (.ref a8)), (5, (.int a11)), (6, (.ref a12)), (7, (.int a14)), (8, (.ref 33))]) (st' := []) rfl (by exact trivial) (pc' := 178) rfl ?_
              refine hp_goto hm 26 rfl (tgt := 221) rfl ?_
              exact hp_lf [2, 3, 4, 5, 6, 7, 8, 9, 0, 1] rfl (fun _ e => e)
          · refine hp_JT 281 (fun (p32 : Int64) => [(0, (.ref 22)), (1, (.int x1)), (4, (.ref a8)), (5, (.int a11)), (6, (.ref a12)), (7, (.int a14)), (8, (.ref 33)), (9, (.long p32)), (11, (.long p22.2))]) (fun (p32 : Int64) => []) (fun (p32 : Int64) => p15.2) ?_ (fun p32 => ?_)
            · refine hp_if_eq hm (at1 31 rfl) rfl (by exact trivial) (pc' := 224) rfl 34 rfl (tgt := 281) rfl (fun c39 => ?_) (fun c39 => ?_)
              · exact hp_lf [0, 1, 3, 4, 5, 6, 7, 8, 9] rfl (fun _ e => e)
              · refine hp_JT 271 (fun (p33 : Int64) => [(0, (.ref 22)), (1, (.int x1)), (4, (.ref a8)), (5, (.int a11)), (6, (.ref a12)), (7, (.int a14)), (8, (.ref 33)), (11, (.long p22.2))]) (fun (p33 : Int64) => [(.long p33)]) (fun (p33 : Int64) => p15.2) ?_ (fun p33 => ?_)
                · refine hp_if_eq hm (at1 32 rfl) rfl (by exact trivial) (pc' := 228) rfl 32 rfl (tgt := 269) rfl (fun c37 => ?_) (fun c37 => ?_)
                  · refine hp_b hm (at1 33 rfl) (L' := [(0, (.ref 22)), (1, (.int x1)), (2, (.int p1)), (4, (.ref a8)), (5, (.int a11)), (6, (.ref a12)), (7, (.int a14)), (8, (.ref 33)), (9, (.long p22.1)), (11, (.long p22.2))]) (st' := [(.long p22.1)]) rfl (by exact trivial) (pc' := 271) rfl ?_
                    exact hp_lf [0, 1, 3, 4, 5, 6, 7, 9] rfl (fun _ e => e)
                  · refine hp_ic_ne hm (at1 34 rfl) rfl (by exact ⟨⟨⟨og_22, ⟨og_55, (show vp_in (0 : Int32) 3 from vp_lit (by decide))⟩⟩, og_22⟩, ⟨og_55, (show vp_in (1 : Int32) 3 from vp_lit (by decide))⟩⟩) (pc' := 243) rfl 31 rfl (tgt := 269) rfl (fun c36 => ?_) (fun c36 => ?_)
                    · refine hp_b hm (at1 33 rfl) (L' := [(0, (.ref 22)), (1, (.int x1)), (2, (.int p1)), (4, (.ref a8)), (5, (.int a11)), (6, (.ref a12)), (7, (.int a14)), (8, (.ref 33)), (9, (.long p22.1)), (11, (.long p22.2))]) (st' := [(.long p22.1)]) rfl (by exact trivial) (pc' := 271) rfl ?_
                      exact hp_lf [0, 1, 3, 4, 5, 6, 7, 9] rfl (fun _ e => e)
                    · refine hp_cSP (M2 := M_JM_abs) hm (at1 35 rfl) (as := [(.long (p22.1 - p22.2))]) (rest := []) rfl (by exact trivial) (pc' := 251) rfl 28 rfl (lw_g (lw_at lw_m5 238 rfl) rfl) y_JM_abs rfl (d2 := 1) ⟨le_b rfl, pd_JM_abs, le_b rfl⟩ (le_b rfl) (k_JM_abs (p22.1 - p22.2) p15.2) (fun a34 => ?_)
                      refine hp_lc_le hm (at1 36 rfl) rfl (by exact og_33) (pc' := 261) rfl 30 rfl (tgt := 269) rfl (fun c35 => ?_) (fun c35 => ?_)
                      · refine hp_b hm (at1 33 rfl) (L' := [(0, (.ref 22)), (1, (.int x1)), (2, (.int p1)), (4, (.ref a8)), (5, (.int a11)), (6, (.ref a12)), (7, (.int a14)), (8, (.ref 33)), (9, (.long p22.1)), (11, (.long p22.2))]) (st' := [(.long p22.1)]) rfl (by exact trivial) (pc' := 271) rfl ?_
                        exact hp_lf [0, 1, 3, 4, 5, 6, 7, 9] rfl (fun _ e => e)
                      · refine hp_b hm (at1 37 rfl) (L' := [(0, (.ref 22)), (1, (.int x1)), (2, (.int p1)), (4, (.ref a8)), (5, (.int a11)), (6, (.ref a12)), (7, (.int a14)), (8, (.ref 33)), (9, (.long p22.1)), (11, (.long p22.2))]) (st' := [(.long p22.2)]) rfl (by exact trivial) (pc' := 266) rfl ?_
                        refine hp_goto hm 29 rfl (tgt := 271) rfl ?_
                        exact hp_lf [0, 1, 3, 4, 5, 6, 7, 9] rfl (fun _ e => e)
                · refine hp_b hm (at1 38 rfl) (L' := [(9, (.long p33)), (0, (.ref 22)), (1, (.int x1)), (4, (.ref a8)), (5, (.int a11)), (6, (.ref a12)), (7, (.int a14)), (8, (.ref 33)), (11, (.long p22.2))]) (st' := [(.long p33), (.ref 22)]) rfl (by exact trivial) (pc' := 276) rfl ?_
                  refine hp_cVP (M2 := M_Ma_rounded) hm at0 (as := [(.long p33)]) (rest := []) (z := 22) rfl (by exact trivial) (pc' := 276) rfl 33 rfl (lw_g (lw_at lw_m6 12 rfl) rfl) y_Ma_rounded rfl (d2 := 5) ⟨le_b rfl, pd_Ma_rounded, le_b rfl⟩ (le_b rfl) og_22 (k_Ma_rounded 2 p33 p15.2) (fun a38 => ?_)
                  refine hp_b hm (at1 39 rfl) (L' := [(9, (.long a38)), (0, (.ref 22)), (1, (.int x1)), (4, (.ref a8)), (5, (.int a11)), (6, (.ref a12)), (7, (.int a14)), (8, (.ref 33)), (11, (.long p22.2))]) (st' := []) rfl (by exact trivial) (pc' := 281) rfl ?_
                  exact hp_lf [1, 2, 3, 4, 5, 6, 7, 0, 8] rfl (fun _ e => e)
            · refine hp_JT 323 (fun (p40 : Int64) => [(0, (.ref 22)), (1, (.int x1)), (4, (.ref a8)), (5, (.int a11)), (6, (.ref a12)), (7, (.int a14)), (9, (.long p40))]) (fun (p40 : Int64) => []) (fun (p40 : Int64) => p15.2) ?_ (fun p40 => ?_)
              · refine hp_if_eq hm (at1 40 rfl) rfl (by exact trivial) (pc' := 285) rfl 39 rfl (tgt := 323) rfl (fun c45 => ?_) (fun c45 => ?_)
                · exact hp_lf [0, 1, 2, 3, 4, 5, 7] rfl (fun _ e => e)
                · refine hp_JT 321 (fun (p41 : Int64) => [(0, (.ref 22)), (1, (.int x1)), (4, (.ref a8)), (5, (.int a11)), (6, (.ref a12)), (7, (.int a14))]) (fun (p41 : Int64) => [(.long p41)]) (fun (p41 : Int64) => p15.2) ?_ (fun p41 => ?_)
                  · refine hp_lc_lt hm (at1 41 rfl) rfl (by exact trivial) (pc' := 292) rfl 38 rfl (tgt := 309) rfl (fun c44 => ?_) (fun c44 => ?_)
                    · refine hp_cSP (M2 := M_JM_min) hm (at1 42 rfl) (as := [(.long p32), (.long (-(Int32.toInt64 (rdI p15.2 33 3))))]) (rest := []) rfl (by exact og_33) (pc' := 318) rfl 35 rfl (lw_g (lw_at lw_m6 20 rfl) rfl) y_JM_min rfl (d2 := 1) ⟨le_b rfl, pd_JM_min, le_b rfl⟩ (le_b rfl) (k_JM_min p32 (-(Int32.toInt64 (rdI p15.2 33 3))) p15.2) (fun a42 => ?_)
                      exact hp_lf [0, 1, 2, 3, 4, 5] rfl (fun _ e => e)
                    · refine hp_cSP (M2 := M_JM_max) hm (at1 43 rfl) (as := [(.long p32), (.long (Int32.toInt64 (rdI p15.2 33 3)))]) (rest := []) rfl (by exact og_33) (pc' := 303) rfl 36 rfl (lw_g (lw_at lw_m6 19 rfl) rfl) y_JM_max rfl (d2 := 1) ⟨le_b rfl, pd_JM_max, le_b rfl⟩ (le_b rfl) (k_JM_max p32 (Int32.toInt64 (rdI p15.2 33 3)) p15.2) (fun a43 => ?_)
                      refine hp_goto hm 37 rfl (tgt := 321) rfl ?_
                      exact hp_lf [0, 1, 2, 3, 4, 5] rfl (fun _ e => e)
                  · refine hp_b hm (at1 44 rfl) (L' := [(9, (.long p41)), (0, (.ref 22)), (1, (.int x1)), (4, (.ref a8)), (5, (.int a11)), (6, (.ref a12)), (7, (.int a14))]) (st' := []) rfl (by exact trivial) (pc' := 323) rfl ?_
                    exact hp_lf [1, 2, 3, 4, 5, 6, 0] rfl (fun _ e => e)
              · refine hp_cVP (M2 := M_Ma_distance) hm (at1 45 rfl) (as := [(.ref a8), (.int a11), (.ref a12), (.int a14)]) (rest := [(.long p40), (.int a11), (.ref a8), (.ref 22)]) (z := 22) rfl (by exact trivial) (pc' := 339) rfl 40 rfl (lw_g (lw_at lw_m6 21 rfl) rfl) y_Ma_distance rfl (d2 := 4) ⟨le_b rfl, pd_Ma_distance, le_b rfl⟩ (le_b rfl) og_22 (k_Ma_distance a8 a11 a12 a14 p15.2 q10 q13) (fun a46 => ?_)
                refine hp_cVS (M2 := M_Ma_move) hm (at1 46 rfl) (as := [(.ref a8), (.int a11), (.long (p40 - (Int32.toInt64 a46)))]) (rest := []) (z := 22) rfl (by exact trivial) (pc' := 344) rfl 41 rfl (lw_g (lw_at lw_m6 25 rfl) rfl) y_Ma_move rfl (d2 := 3) ⟨le_b rfl, pd_Ma_move, le_b rfl⟩ (le_b rfl) og_22 (k_Ma_move a8 a11 (p40 - (Int32.toInt64 a46)) p15.2 q10) (fun _ h8 => ?_)
                refine hp_w hm (at1 47 rfl) (L' := [(0, (.ref 22)), (1, (.int x1)), (4, (.ref a8)), (5, (.int a11)), (6, (.ref a12)), (7, (.int a14)), (9, (.long p40))]) rfl (by exact ⟨⟨⟨og_22, og_22⟩, ⟨og_54, (show vp_in (0 : Int32) 3 from vp_lit (by decide))⟩⟩, ⟨og_54, (show vp_in (1 : Int32) 3 from vp_lit (by decide))⟩⟩) (pc' := 359) rfl (fun h9 => ?_)
                refine hp_w hm (at1 48 rfl) (L' := [(0, (.ref 22)), (1, (.int x1)), (4, (.ref a8)), (5, (.int a11)), (6, (.ref a12)), (7, (.int a14)), (9, (.long p40))]) rfl (by exact ⟨og_22, ⟨og_54, (show vp_in (2 : Int32) 3 from vp_lit (by decide))⟩⟩) (pc' := 367) rfl (fun h10 => ?_)
                refine hp_JZ 390 (fun (p47 : Int32) => []) (fun (p47 : Int32) => [(.int p47), (.int (0 : Int32)), (.ref 54)]) (fun (p47 : Int32) => h10) ?_ (fun p47 => ?_)
                · refine hp_sv0 ?_
                  refine hp_if_eq hm (at1 49 rfl) rfl (by exact og_22) (pc' := 376) rfl 43 rfl (tgt := 384) rfl (fun c48 => ?_) (fun c48 => ?_)
                  · refine hp_b hm (at1 50 rfl) (L' := [(0, (.ref 22)), (1, (.int x1)), (4, (.ref a8)), (5, (.int a11)), (6, (.ref a12)), (7, (.int a14)), (9, (.long p40))]) (st' := [(.int (rdI h10 54 0)), (.int (0 : Int32)), (.ref 54)]) rfl (by exact ⟨og_22, ⟨og_54, (show vp_in (0 : Int32) 3 from vp_lit (by decide))⟩⟩) (pc' := 390) rfl ?_
                    exact hp_lf [] rfl (fun _ e => e)
                  · refine hp_b hm (at1 51 rfl) (L' := [(0, (.ref 22)), (1, (.int x1)), (4, (.ref a8)), (5, (.int a11)), (6, (.ref a12)), (7, (.int a14)), (9, (.long p40))]) (st' := [(.int a11), (.int (0 : Int32)), (.ref 54)]) rfl (by exact trivial) (pc' := 381) rfl ?_
                    refine hp_goto hm 42 rfl (tgt := 390) rfl ?_
                    exact hp_lf [] rfl (fun _ e => e)
                · refine hp_w hm (at1 52 rfl) (L' := []) rfl (by exact ⟨og_54, (show vp_in (0 : Int32) 3 from vp_lit (by decide))⟩) (pc' := 391) rfl (fun h11 => ?_)
                  exact hp_vr hm 44 rfl rfl (fun _ e => e)
/-! HintHouse$Machine.wordAt(I)I -/
def M_Ma_wordAt : hM := (4, ⟨"HintHouse$Machine", "wordAt", "(I)I"⟩, prog_6_method_7_code, 3, (Option.some Jvm.ClassFile.FieldType.int), [], [(0, [(.aload_n 0, 1, 0, 0, 0, .null), (.iload_n 1, 1, 0, 0, 0, .null)]), (5, [(.istore_n 2, 1, 0, 0, 0, .null), (.iload_n 2, 1, 0, 0, 0, .null), (.bipush 8, 2, 0, 0, 0, (.int (8 : Int32))), (.ishl, 1, 0, 0, 0, .null), (.aload_n 0, 1, 0, 0, 0, .null), (.iload_n 1, 1, 0, 0, 0, .null), (.iconst 1, 1, 0, 0, 0, (.int (1 : Int32))), (.iadd, 1, 0, 0, 0, .null)]), (17, [(.ior, 1, 0, 0, 0, .null), (.i2s, 1, 0, 0, 0, .null)])], [(2, .invokevirtual 197, 3), (14, .invokevirtual 197, 3), (19, .ireturn, 1)])
set_option maxRecDepth 100000 in
theorem m_Ma_wordAt : hx_mok M_Ma_wordAt = true := by decide +kernel
theorem pd_Ma_wordAt : (parseMethodDescriptor M_Ma_wordAt.2.1.desc).map (fun q => q.parameters.length) = some 1 := by decide +kernel
theorem y_Ma_wordAt : hx_okV M_Ma_wordAt := ⟨⟨lw_g (lw_at lw_m6 41 rfl) rfl, lw_g (lw_at lw_m6 40 rfl) rfl, qs55, lw_g (lw_at lw_m1 5 rfl) rfl, rfl, by decide, by decide, by decide⟩, rfl, by decide, plainFor_of_name (by decide)⟩
noncomputable def f_Ma_wordAt (x1 : Int32) (h : hH) : Option (hH ⊕ (Int32 × hH)) :=
  bT (f_Ma_byteAt x1 h) fun a1 h1 =>
  bT (f_Ma_byteAt (x1 + (1 : Int32)) h1) fun a2 h2 =>
  some (.inr ((Int16.toInt32 (Int32.toInt16 ((a1 <<< ((8 : Int32) &&& 31)) ||| a2))), h2))
set_option maxRecDepth 20000 in
theorem k_Ma_wordAt (x1 : Int32) (h : hH) : hx_kT S0 M_Ma_wordAt 8 NT [(.ref 22), (.int x1)] h (f_Ma_wordAt x1 h) cvI := by
  have hm := m_Ma_wordAt
  show hx_P S0 M_Ma_wordAt 8 0 [(0, (.ref 22)), (1, (.int x1))] [] NT h (f_Ma_wordAt x1 h) (hx_T NT (hx_Rc cvI NT))
  unfold f_Ma_wordAt
  refine hp_cVT (M2 := M_Ma_byteAt) hm (at1 0 rfl) (as := [(.int x1)]) (rest := []) (z := 22) rfl (by exact trivial) (pc' := 2) rfl 0 rfl (lw_g (lw_at lw_m5 208 rfl) rfl) y_Ma_byteAt rfl (d2 := 7) ⟨le_b rfl, pd_Ma_byteAt, le_b rfl⟩ (le_b rfl) og_22 rfl (k_Ma_byteAt x1 h) (fun a1 h1 => ?_)
  refine hp_b hm (at1 1 rfl) (L' := [(2, (.int a1)), (0, (.ref 22)), (1, (.int x1))]) (st' := [(.int (x1 + (1 : Int32))), (.ref 22), (.int (a1 <<< ((8 : Int32) &&& 31)))]) rfl (by exact trivial) (pc' := 14) rfl ?_
  refine hp_cVT (M2 := M_Ma_byteAt) hm at0 (as := [(.int (x1 + (1 : Int32)))]) (rest := [(.int (a1 <<< ((8 : Int32) &&& 31)))]) (z := 22) rfl (by exact trivial) (pc' := 14) rfl 1 rfl (lw_g (lw_at lw_m5 208 rfl) rfl) y_Ma_byteAt rfl (d2 := 7) ⟨le_b rfl, pd_Ma_byteAt, le_b rfl⟩ (le_b rfl) og_22 rfl (k_Ma_byteAt (x1 + (1 : Int32)) h1) (fun a2 h2 => ?_)
  exact hp_ir hm (at1 2 rfl) rfl (by exact trivial) (pc' := 19) rfl 2 rfl rfl (vp_nar_int _) (fun _ e => e)
/-! java/lang/Math.max(II)I -/
def M_JM_max_2 : hM := (12, ⟨"java/lang/Math", "max", "(II)I"⟩, prog_16_method_65_code, 2, (Option.some Jvm.ClassFile.FieldType.int), [], [(0, [(.iload_n 0, 1, 0, 0, 0, .null), (.iload_n 1, 1, 0, 0, 0, .null)]), (9, [(.iload_n 1, 1, 0, 0, 0, .null)]), (5, [(.iload_n 0, 1, 0, 0, 0, .null)])], [(10, .ireturn, 1), (6, .goto 4, 3), (2, .if_icmp .lt 7, 3)])
set_option maxRecDepth 100000 in
theorem m_JM_max_2 : hx_mok M_JM_max_2 = true := by decide +kernel
theorem pd_JM_max_2 : (parseMethodDescriptor M_JM_max_2.2.1.desc).map (fun q => q.parameters.length) = some 2 := by decide +kernel
theorem y_JM_max_2 : hx_okS M_JM_max_2 := ⟨⟨lw_g (lw_at lw_m6 48 rfl) rfl, lw_g (lw_at lw_m6 47 rfl) rfl, lw_g (lw_at lw_m1 13 rfl) rfl, by decide, by decide⟩, rfl, by decide, by decide +kernel, rfl⟩
noncomputable def f_JM_max_2 (x1 : Int32) (x2 : Int32) : Option Int32 :=
  if x1 < x2 then (
    some x2
  ) else (
    some x1
  )
set_option maxRecDepth 20000 in
theorem k_JM_max_2 (x1 : Int32) (x2 : Int32) (h : hH) : hx_kP S0 M_JM_max_2 1 NT [(.int x1), (.int x2)] h (f_JM_max_2 x1 x2) cvI := by
  have hm := m_JM_max_2
  show hx_P S0 M_JM_max_2 1 0 [(0, (.int x1)), (1, (.int x2))] [] NT h (f_JM_max_2 x1 x2) (hx_Rp cvI NT h)
  unfold f_JM_max_2
  refine hp_ic_lt hm (at1 0 rfl) rfl (by exact trivial) (pc' := 2) rfl 2 rfl (tgt := 9) rfl (fun c1 => ?_) (fun c1 => ?_)
  · refine hp_b hm (at1 1 rfl) (L' := [(0, (.int x1)), (1, (.int x2))]) (st' := [(.int x2)]) rfl (by exact trivial) (pc' := 10) rfl ?_
    exact hp_ir hm at0 rfl (by exact trivial) (pc' := 10) rfl 0 rfl rfl (vp_nar_int _) (fun _ e => e)
  · refine hp_b hm (at1 2 rfl) (L' := [(0, (.int x1)), (1, (.int x2))]) (st' := [(.int x1)]) rfl (by exact trivial) (pc' := 6) rfl ?_
    refine hp_goto hm 1 rfl (tgt := 10) rfl ?_
    exact hp_ir hm at0 rfl (by exact trivial) (pc' := 10) rfl 0 rfl rfl (vp_nar_int _) (fun _ e => e)
/-! HintHouse$Machine.push(J)V -/
def M_Ma_push : hM := (4, ⟨"HintHouse$Machine", "push", "(J)V"⟩, prog_6_method_12_code, 3, (Option.none : Option Jvm.ClassFile.FieldType), [], [(0, [(.aload_n 0, 1, 0, 0, 0, .null), (.aload_n 0, 1, 0, 0, 0, .null), (.getfield 170, 3, 4, 15, 0, .null), (.aload_n 0, 1, 0, 0, 0, .null), (.getfield 73, 3, 4, 0, 4, .null), (.getfield 231, 3, 2, 14, 0, .null)]), (19, [(.iconst 0, 1, 0, 0, 0, (.int (0 : Int32)))]), (15, [(.iconst 1, 1, 0, 0, 0, (.int (1 : Int32)))]), (20, [(.iconst 2, 1, 0, 0, 0, (.int (2 : Int32)))]), (24, [(.aload_n 0, 1, 0, 0, 0, .null), (.getfield 34, 3, 4, 14, 4, .null), (.aload_n 0, 1, 0, 0, 0, .null), (.getfield 170, 3, 4, 15, 0, .null), (.lload_n 1, 1, 0, 0, 0, .null), (.l2i, 1, 0, 0, 0, .null), (.iastore, 1, 0, 0, 0, .null)]), (35, [(.aload_n 0, 1, 0, 0, 0, .null), (.dup, 1, 0, 0, 0, .null), (.getfield 170, 3, 4, 15, 0, .null), (.iconst 1, 1, 0, 0, 0, (.int (1 : Int32))), (.iadd, 1, 0, 0, 0, .null), (.putfield 170, 3, 4, 15, 0, .null)]), (45, [(.aload_n 0, 1, 0, 0, 0, .null), (.aload_n 0, 1, 0, 0, 0, .null), (.getfield 233, 3, 4, 6, 0, .null), (.aload_n 0, 1, 0, 0, 0, .null), (.getfield 170, 3, 4, 15, 0, .null)]), (57, [(.putfield 233, 3, 4, 6, 0, .null)])], [(16, .goto 4, 3), (12, .if_icmp .ge 7, 3), (21, .invokevirtual 187, 3), (54, .invokestatic 236, 3), (60, .return_, 1)])
set_option maxRecDepth 100000 in
theorem m_Ma_push : hx_mok M_Ma_push = true := by decide +kernel
theorem pd_Ma_push : (parseMethodDescriptor M_Ma_push.2.1.desc).map (fun q => q.parameters.length) = some 1 := by decide +kernel
theorem y_Ma_push : hx_okV M_Ma_push := ⟨⟨lw_g (lw_at lw_m6 45 rfl) rfl, lw_g (lw_at lw_m6 44 rfl) rfl, qs56, lw_g (lw_at lw_m1 5 rfl) rfl, rfl, by decide, by decide, by decide⟩, rfl, by decide, plainFor_of_name (by decide)⟩
noncomputable def f_Ma_push (x1 : Int64) (h : hH) : Option (hH ⊕ (Unit × hH)) :=
  lz (A := Int32) (if (rdI h 4 14) ≤ (rdI h 22 15) then (0 : Int32) else (1 : Int32)) fun p1 =>
  bT (f_Ma_want p1 (2 : Int32) h) fun _ h1 =>
  gd (vp_in (rdI h1 22 15) 256) <|
  lz (wrI h1 43 (Int32.toNatClampNeg (rdI h1 22 15)) (Int64.toInt32 x1)) fun h2 =>
  lz (wrI h2 22 15 ((rdI h2 22 15) + (1 : Int32))) fun h3 =>
  bP (f_JM_max_2 (rdI h3 22 6) (rdI h3 22 15)) fun a4 =>
  lz (wrI h3 22 6 a4) fun h4 =>
  some (.inr ((), h4))
set_option maxRecDepth 20000 in
theorem k_Ma_push (x1 : Int64) (h : hH) : hx_kT S0 M_Ma_push 7 NT [(.ref 22), (.long x1)] h (f_Ma_push x1 h) cvU := by
  have hm := m_Ma_push
  show hx_P S0 M_Ma_push 7 0 [(0, (.ref 22)), (1, (.long x1))] [] NT h (f_Ma_push x1 h) (hx_T NT (hx_Rc cvU NT))
  unfold f_Ma_push
  refine hp_JZ 20 (fun (p1 : Int32) => [(0, (.ref 22)), (1, (.long x1))]) (fun (p1 : Int32) => [(.int p1), (.ref 22)]) (fun (p1 : Int32) => h) ?_ (fun p1 => ?_)
  · refine hp_sv0 ?_
    refine hp_ic_ge hm (at1 0 rfl) rfl (by exact ⟨⟨og_22, og_22⟩, og_4⟩) (pc' := 12) rfl 1 rfl (tgt := 19) rfl (fun c2 => ?_) (fun c2 => ?_)
    · refine hp_b hm (at1 1 rfl) (L' := [(0, (.ref 22)), (1, (.long x1))]) (st' := [(.int (0 : Int32)), (.ref 22)]) rfl (by exact trivial) (pc' := 20) rfl ?_
      exact hp_lf [0, 1] rfl (fun _ e => e)
    · refine hp_b hm (at1 2 rfl) (L' := [(0, (.ref 22)), (1, (.long x1))]) (st' := [(.int (1 : Int32)), (.ref 22)]) rfl (by exact trivial) (pc' := 16) rfl ?_
      refine hp_goto hm 0 rfl (tgt := 20) rfl ?_
      exact hp_lf [0, 1] rfl (fun _ e => e)
  · refine hp_cVT (M2 := M_Ma_want) hm (at1 3 rfl) (as := [(.int p1), (.int (2 : Int32))]) (rest := []) (z := 22) rfl (by exact trivial) (pc' := 21) rfl 2 rfl (lw_g (lw_at lw_m5 139 rfl) rfl) y_Ma_want rfl (d2 := 6) ⟨le_b rfl, pd_Ma_want, le_b rfl⟩ (le_b rfl) og_22 rfl (k_Ma_want p1 (2 : Int32) h) (fun _ h1 => ?_)
    refine hp_GW hm (at1 4 rfl) (L' := [(0, (.ref 22)), (1, (.long x1))]) rfl (fun hP => (by exact ⟨⟨og_22, og_22⟩, ⟨og_43, hP⟩⟩)) (pc' := 35) rfl (fun q3 h2 => ?_)
    refine hp_w hm (at1 5 rfl) (L' := [(0, (.ref 22)), (1, (.long x1))]) rfl (by exact ⟨og_22, og_22⟩) (pc' := 45) rfl (fun h3 => ?_)
    refine hp_cSP (M2 := M_JM_max_2) hm (at1 6 rfl) (as := [(.int (rdI h3 22 6)), (.int (rdI h3 22 15))]) (rest := [(.ref 22)]) rfl (by exact ⟨og_22, og_22⟩) (pc' := 54) rfl 3 rfl (lw_g (lw_at lw_m6 46 rfl) rfl) y_JM_max_2 rfl (d2 := 1) ⟨le_b rfl, pd_JM_max_2, le_b rfl⟩ (le_b rfl) (k_JM_max_2 (rdI h3 22 6) (rdI h3 22 15) h3) (fun a4 => ?_)
    refine hp_w hm (at1 7 rfl) (L' := [(0, (.ref 22)), (1, (.long x1))]) rfl (by exact og_22) (pc' := 60) rfl (fun h4 => ?_)
    exact hp_vr hm 4 rfl rfl (fun _ e => e)
/-! HintHouse$Machine.pushBytes(IZ)V -/
def M_Ma_pushBytes : hM := (4, ⟨"HintHouse$Machine", "pushBytes", "(IZ)V"⟩, prog_6_method_26_code, 6, (Option.none : Option Jvm.ClassFile.FieldType), [], [(0, [(.aload_n 0, 1, 0, 0, 0, .null), (.getfield 164, 3, 4, 11, 0, .null), (.istore_n 3, 1, 0, 0, 0, .null)]), (5, [(.aload_n 0, 1, 0, 0, 0, .null), (.getfield 164, 3, 4, 11, 0, .null), (.iload_n 2, 1, 0, 0, 0, .null)]), (19, [(.iload_n 1, 1, 0, 0, 0, .null)]), (13, [(.iconst 2, 1, 0, 0, 0, (.int (2 : Int32))), (.iload_n 1, 1, 0, 0, 0, .null), (.imul, 1, 0, 0, 0, .null)]), (20, [(.iadd, 1, 0, 0, 0, .null), (.istore 4, 2, 0, 0, 0, .null)]), (23, [(.aload_n 0, 1, 0, 0, 0, .null), (.iload 4, 2, 0, 0, 0, .null), (.aload_n 0, 1, 0, 0, 0, .null), (.getfield 31, 3, 4, 10, 4, .null), (.aload_n 0, 1, 0, 0, 0, .null), (.getfield 158, 3, 4, 7, 0, .null), (.iaload, 1, 0, 0, 0, .null)]), (42, [(.iconst 0, 1, 0, 0, 0, (.int (0 : Int32)))]), (38, [(.iconst 1, 1, 0, 0, 0, (.int (1 : Int32)))]), (43, [(.iconst 4, 1, 0, 0, 0, (.int (4 : Int32)))]), (47, [(.iconst 0, 1, 0, 0, 0, (.int (0 : Int32))), (.istore 5, 2, 0, 0, 0, .null)]), (50, [(.iload 5, 2, 0, 0, 0, .null), (.iload_n 1, 1, 0, 0, 0, .null)]), (56, [(.aload_n 0, 1, 0, 0, 0, .null), (.iload_n 2, 1, 0, 0, 0, .null)]), (75, [(.aload_n 0, 1, 0, 0, 0, .null), (.iload_n 3, 1, 0, 0, 0, .null), (.iload 5, 2, 0, 0, 0, .null), (.iadd, 1, 0, 0, 0, .null)]), (83, [(.i2l, 1, 0, 0, 0, .null)]), (61, [(.aload_n 0, 1, 0, 0, 0, .null), (.iload_n 3, 1, 0, 0, 0, .null), (.iconst 2, 1, 0, 0, 0, (.int (2 : Int32))), (.iload 5, 2, 0, 0, 0, .null), (.imul, 1, 0, 0, 0, .null), (.iadd, 1, 0, 0, 0, .null)]), (71, [(.i2l, 1, 0, 0, 0, .null)]), (87, [(.iinc 5 1, 3, 0, 0, 0, (.int (1 : Int32)))]), (93, [(.aload_n 0, 1, 0, 0, 0, .null), (.iload 4, 2, 0, 0, 0, .null), (.putfield 164, 3, 4, 11, 0, .null)])], [(16, .goto 4, 3), (10, .ifCond .eq 9, 3), (39, .goto 4, 3), (35, .if_icmp .gt 7, 3), (44, .invokevirtual 187, 3), (80, .invokevirtual 197, 3), (68, .invokevirtual 325, 3), (72, .goto 12, 3), (58, .ifCond .eq 17, 3), (84, .invokevirtual 242, 3), (90, .goto (-40), 3), (53, .if_icmp .ge 40, 3), (99, .return_, 1)])
set_option maxRecDepth 100000 in
theorem m_Ma_pushBytes : hx_mok M_Ma_pushBytes = true := by decide +kernel
theorem pd_Ma_pushBytes : (parseMethodDescriptor M_Ma_pushBytes.2.1.desc).map (fun q => q.parameters.length) = some 2 := by decide +kernel
theorem y_Ma_pushBytes : hx_okV M_Ma_pushBytes := ⟨⟨lw_g (lw_at lw_m6 37 rfl) rfl, lw_g (lw_at lw_m6 36 rfl) rfl, qs54, lw_g (lw_at lw_m1 5 rfl) rfl, rfl, by decide, by decide, by decide⟩, rfl, by decide, plainFor_of_name (by decide)⟩
noncomputable def f_Ma_pushBytes (x1 : Int32) (x2 : Int32) (h : hH) : Option (hH ⊕ (Unit × hH)) :=
  lz (A := Int32) (rdI h 22 11) fun v1 =>
  lz (A := Int32) (if x2 = 0 then x1 else ((2 : Int32) * x1)) fun p2 =>
  lz (A := Int32) ((rdI h 22 11) + p2) fun v4 =>
  gd (vp_in (rdI h 22 7) 3) <|
  lz (A := Int32) (if (rdI h 42 (Int32.toNatClampNeg (rdI h 22 7))) < v4 then (0 : Int32) else (1 : Int32)) fun p6 =>
  bT (f_Ma_want p6 (4 : Int32) h) fun _ h1 =>
  bJT (P := hH) (
    whT (A := (Int32 × hH)) (B := hH) (fun p8 =>
        if x1 ≤ p8.1 then (
          some (.inr (.inr p8.2))
        ) else (
          bJT (P := (Int64 × hH)) (
            if x2 = 0 then (
              bT (f_Ma_byteAt (v1 + p8.1) p8.2) fun a11 h2 =>
              some (.inr ((Int32.toInt64 a11), h2))
            ) else (
              bT (f_Ma_wordAt (v1 + ((2 : Int32) * p8.1)) p8.2) fun a12 h3 =>
              some (.inr ((Int32.toInt64 a12), h3))
            )
          ) fun p10 =>
          bT (f_Ma_push p10.1 p10.2) fun _ h4 =>
          lz (A := Int32) (p8.1 + (1 : Int32)) fun v14 =>
          some (.inr (.inl (v14, h4)))
        )
    ) ((0 : Int32), h1)
  ) fun p9 =>
  lz (wrI p9 22 11 v4) fun h5 =>
  some (.inr ((), h5))
set_option maxRecDepth 20000 in
theorem k_Ma_pushBytes (x1 : Int32) (x2 : Int32) (h : hH) : hx_kT S0 M_Ma_pushBytes 9 NT [(.ref 22), (.int x1), (.int x2)] h (f_Ma_pushBytes x1 x2 h) cvU := by
  have hm := m_Ma_pushBytes
  show hx_P S0 M_Ma_pushBytes 9 0 [(0, (.ref 22)), (1, (.int x1)), (2, (.int x2))] [] NT h (f_Ma_pushBytes x1 x2 h) (hx_T NT (hx_Rc cvU NT))
  unfold f_Ma_pushBytes
  refine hp_z hm (at1 0 rfl) (fun (v1 : Int32) => [(3, (.int v1)), (0, (.ref 22)), (1, (.int x1)), (2, (.int x2))]) (fun (v1 : Int32) => []) rfl (by exact og_22) (pc' := 5) rfl (fun v1 => ?_)
  refine hp_JZ 20 (fun (p2 : Int32) => [(0, (.ref 22)), (1, (.int x1)), (2, (.int x2)), (3, (.int v1))]) (fun (p2 : Int32) => [(.int p2), (.int (rdI h 22 11))]) (fun (p2 : Int32) => h) ?_ (fun p2 => ?_)
  · refine hp_sv0 ?_
    refine hp_if_eq hm (at1 1 rfl) rfl (by exact og_22) (pc' := 10) rfl 1 rfl (tgt := 19) rfl (fun c3 => ?_) (fun c3 => ?_)
    · refine hp_b hm (at1 2 rfl) (L' := [(3, (.int v1)), (0, (.ref 22)), (1, (.int x1)), (2, (.int x2))]) (st' := [(.int x1), (.int (rdI h 22 11))]) rfl (by exact trivial) (pc' := 20) rfl ?_
      exact hp_lf [1, 2, 3, 0] rfl (fun _ e => e)
    · refine hp_b hm (at1 3 rfl) (L' := [(3, (.int v1)), (0, (.ref 22)), (1, (.int x1)), (2, (.int x2))]) (st' := [(.int ((2 : Int32) * x1)), (.int (rdI h 22 11))]) rfl (by exact trivial) (pc' := 16) rfl ?_
      refine hp_goto hm 0 rfl (tgt := 20) rfl ?_
      exact hp_lf [1, 2, 3, 0] rfl (fun _ e => e)
  · refine hp_z hm (at1 4 rfl) (fun (v4 : Int32) => [(4, (.int v4)), (0, (.ref 22)), (1, (.int x1)), (2, (.int x2)), (3, (.int v1))]) (fun (v4 : Int32) => []) rfl (by exact trivial) (pc' := 23) rfl (fun v4 => ?_)
    refine hp_G hm (at1 5 rfl) (L' := [(4, (.int v4)), (0, (.ref 22)), (1, (.int x1)), (2, (.int x2)), (3, (.int v1))]) (st' := [(.int (rdI h 42 (Int32.toNatClampNeg (rdI h 22 7)))), (.int v4), (.ref 22)]) rfl (fun hP => (by exact ⟨⟨og_22, og_22⟩, ⟨og_42, hP⟩⟩)) (pc' := 35) rfl (fun q5 => ?_)
    refine hp_JZ 43 (fun (p6 : Int32) => [(0, (.ref 22)), (1, (.int x1)), (2, (.int x2)), (3, (.int v1)), (4, (.int v4))]) (fun (p6 : Int32) => [(.int p6), (.ref 22)]) (fun (p6 : Int32) => h) ?_ (fun p6 => ?_)
    · refine hp_sv0 ?_
      refine hp_ic_gt hm at0 rfl (by exact trivial) (pc' := 35) rfl 3 rfl (tgt := 42) rfl (fun c7 => ?_) (fun c7 => ?_)
      · refine hp_b hm (at1 6 rfl) (L' := [(4, (.int v4)), (0, (.ref 22)), (1, (.int x1)), (2, (.int x2)), (3, (.int v1))]) (st' := [(.int (0 : Int32)), (.ref 22)]) rfl (by exact trivial) (pc' := 43) rfl ?_
        exact hp_lf [1, 2, 3, 4, 0] rfl (fun _ e => e)
      · refine hp_b hm (at1 7 rfl) (L' := [(4, (.int v4)), (0, (.ref 22)), (1, (.int x1)), (2, (.int x2)), (3, (.int v1))]) (st' := [(.int (1 : Int32)), (.ref 22)]) rfl (by exact trivial) (pc' := 39) rfl ?_
        refine hp_goto hm 2 rfl (tgt := 43) rfl ?_
        exact hp_lf [1, 2, 3, 4, 0] rfl (fun _ e => e)
    · refine hp_cVT (M2 := M_Ma_want) hm (at1 8 rfl) (as := [(.int p6), (.int (4 : Int32))]) (rest := []) (z := 22) rfl (by exact trivial) (pc' := 44) rfl 4 rfl (lw_g (lw_at lw_m5 139 rfl) rfl) y_Ma_want rfl (d2 := 6) ⟨le_b rfl, pd_Ma_want, le_b rfl⟩ (le_b rfl) og_22 rfl (k_Ma_want p6 (4 : Int32) h) (fun _ h1 => ?_)
      refine hp_b hm (at1 9 rfl) (L' := [(5, (.int (0 : Int32))), (0, (.ref 22)), (1, (.int x1)), (2, (.int x2)), (3, (.int v1)), (4, (.int v4))]) (st' := []) rfl (by exact trivial) (pc' := 50) rfl ?_
      refine hp_JT 93 (fun (p9 : hH) => [(0, (.ref 22)), (4, (.int v4))]) (fun (p9 : hH) => []) (fun (p9 : hH) => p9) ?_ (fun p9 => ?_)
      · refine hp_s [1, 2, 3, 4, 5, 0] rfl (L' := [(0, (.ref 22)), (1, (.int x1)), (2, (.int x2)), (3, (.int v1)), (4, (.int v4)), (5, (.int (0 : Int32)))]) ?_
        refine hp_whT (fun (p8 : (Int32 × hH)) => [(0, (.ref 22)), (1, (.int x1)), (2, (.int x2)), (3, (.int v1)), (4, (.int v4)), (5, (.int p8.1))]) [] (fun (p8 : (Int32 × hH)) => p8.2) (fun p8 => ?_) ((0 : Int32), h1)
        refine hp_ic_ge hm (at1 10 rfl) rfl (by exact trivial) (pc' := 53) rfl 11 rfl (tgt := 93) rfl (fun c15 => ?_) (fun c15 => ?_)
        · exact hp_lf [0, 4] rfl (fun _ e => e)
        · refine hp_JT 84 (fun (p10 : (Int64 × hH)) => [(0, (.ref 22)), (1, (.int x1)), (2, (.int x2)), (3, (.int v1)), (4, (.int v4)), (5, (.int p8.1))]) (fun (p10 : (Int64 × hH)) => [(.long p10.1), (.ref 22)]) (fun (p10 : (Int64 × hH)) => p10.2) ?_ (fun p10 => ?_)
          · refine hp_if_eq hm (at1 11 rfl) rfl (by exact trivial) (pc' := 58) rfl 8 rfl (tgt := 75) rfl (fun c13 => ?_) (fun c13 => ?_)
            · refine hp_cVT (M2 := M_Ma_byteAt) hm (at1 12 rfl) (as := [(.int (v1 + p8.1))]) (rest := [(.ref 22)]) (z := 22) rfl (by exact trivial) (pc' := 80) rfl 5 rfl (lw_g (lw_at lw_m5 208 rfl) rfl) y_Ma_byteAt rfl (d2 := 7) ⟨le_b rfl, pd_Ma_byteAt, le_b rfl⟩ (le_b rfl) og_22 rfl (k_Ma_byteAt (v1 + p8.1) p8.2) (fun a11 h2 => ?_)
              refine hp_b hm (at1 13 rfl) (L' := [(0, (.ref 22)), (1, (.int x1)), (2, (.int x2)), (3, (.int v1)), (4, (.int v4)), (5, (.int p8.1))]) (st' := [(.long (Int32.toInt64 a11)), (.ref 22)]) rfl (by exact trivial) (pc' := 84) rfl ?_
              exact hp_lf [0, 1, 2, 3, 4, 5] rfl (fun _ e => e)
            · refine hp_cVT (M2 := M_Ma_wordAt) hm (at1 14 rfl) (as := [(.int (v1 + ((2 : Int32) * p8.1)))]) (rest := [(.ref 22)]) (z := 22) rfl (by exact trivial) (pc' := 68) rfl 6 rfl (lw_g (lw_at lw_m6 38 rfl) rfl) y_Ma_wordAt rfl (d2 := 8) ⟨le_b rfl, pd_Ma_wordAt, le_b rfl⟩ (le_b rfl) og_22 rfl (k_Ma_wordAt (v1 + ((2 : Int32) * p8.1)) p8.2) (fun a12 h3 => ?_)
              refine hp_b hm (at1 15 rfl) (L' := [(0, (.ref 22)), (1, (.int x1)), (2, (.int x2)), (3, (.int v1)), (4, (.int v4)), (5, (.int p8.1))]) (st' := [(.long (Int32.toInt64 a12)), (.ref 22)]) rfl (by exact trivial) (pc' := 72) rfl ?_
              refine hp_goto hm 7 rfl (tgt := 84) rfl ?_
              exact hp_lf [0, 1, 2, 3, 4, 5] rfl (fun _ e => e)
          · refine hp_cVT (M2 := M_Ma_push) hm at0 (as := [(.long p10.1)]) (rest := []) (z := 22) rfl (by exact trivial) (pc' := 84) rfl 9 rfl (lw_g (lw_at lw_m6 42 rfl) rfl) y_Ma_push rfl (d2 := 7) ⟨le_b rfl, pd_Ma_push, le_b rfl⟩ (le_b rfl) og_22 rfl (k_Ma_push p10.1 p10.2) (fun _ h4 => ?_)
            refine hp_z hm (at1 16 rfl) (fun (v14 : Int32) => [(5, (.int v14)), (0, (.ref 22)), (1, (.int x1)), (2, (.int x2)), (3, (.int v1)), (4, (.int v4))]) (fun (v14 : Int32) => []) rfl (by exact trivial) (pc' := 90) rfl (fun v14 => ?_)
            refine hp_goto hm 10 rfl (tgt := 50) rfl ?_
            exact hp_lf [1, 2, 3, 4, 5, 0] rfl (fun _ e => e)
      · refine hp_w hm (at1 17 rfl) (L' := [(0, (.ref 22)), (4, (.int v4))]) rfl (by exact og_22) (pc' := 99) rfl (fun h5 => ?_)
        exact hp_vr hm 12 rfl rfl (fun _ e => e)
/-! HintHouse$Machine.setVectors(IIZZ)V -/
def M_Ma_setVectors : hM := (4, ⟨"HintHouse$Machine", "setVectors", "(IIZZ)V"⟩, prog_6_method_38_code, 5, (Option.none : Option Jvm.ClassFile.FieldType), [], [(0, [(.iload_n 3, 1, 0, 0, 0, .null)]), (4, [(.iload 4, 2, 0, 0, 0, .null)]), (9, [(.aload_n 0, 1, 0, 0, 0, .null), (.iload_n 1, 1, 0, 0, 0, .null), (.putfield 206, 3, 4, 30, 0, .null)]), (14, [(.aload_n 0, 1, 0, 0, 0, .null), (.iload_n 2, 1, 0, 0, 0, .null), (.putfield 209, 3, 4, 31, 0, .null)]), (19, [(.aload_n 0, 1, 0, 0, 0, .null), (.iload_n 1, 1, 0, 0, 0, .null), (.putfield 212, 3, 4, 32, 0, .null)]), (24, [(.aload_n 0, 1, 0, 0, 0, .null), (.iload_n 2, 1, 0, 0, 0, .null), (.putfield 215, 3, 4, 33, 0, .null)]), (29, [(.iload_n 3, 1, 0, 0, 0, .null)]), (33, [(.iload 4, 2, 0, 0, 0, .null)]), (38, [(.aload_n 0, 1, 0, 0, 0, .null), (.iload_n 1, 1, 0, 0, 0, .null), (.putfield 200, 3, 4, 28, 0, .null)]), (43, [(.aload_n 0, 1, 0, 0, 0, .null), (.iload_n 2, 1, 0, 0, 0, .null), (.putfield 203, 3, 4, 29, 0, .null)])], [(6, .ifCond .ne 23, 3), (1, .ifCond .ne 8, 3), (35, .ifCond .eq 13, 3), (30, .ifCond .ne 8, 3), (48, .return_, 1)])
set_option maxRecDepth 100000 in
theorem m_Ma_setVectors : hx_mok M_Ma_setVectors = true := by decide +kernel
theorem pd_Ma_setVectors : (parseMethodDescriptor M_Ma_setVectors.2.1.desc).map (fun q => q.parameters.length) = some 4 := by decide +kernel
theorem y_Ma_setVectors : hx_okV M_Ma_setVectors := ⟨⟨lw_g (lw_at lw_m6 56 rfl) rfl, lw_g (lw_at lw_m6 55 rfl) rfl, qs58, lw_g (lw_at lw_m1 5 rfl) rfl, rfl, by decide, by decide, by decide⟩, rfl, by decide, plainFor_of_name (by decide)⟩
noncomputable def f_Ma_setVectors (x1 : Int32) (x2 : Int32) (x3 : Int32) (x4 : Int32) (h : hH) : Option (Unit × hH) :=
  bP (A := hH) (
    if (¬ (x3 = 0) ∨ x4 = 0) then (
      lz (wrI h 22 30 x1) fun h1 =>
      lz (wrI h1 22 31 x2) fun h2 =>
      lz (wrI h2 22 32 x1) fun h3 =>
      lz (wrI h3 22 33 x2) fun h4 =>
      some h4
    ) else (
      some h
    )
  ) fun p1 =>
  if (x3 = 0 ∧ x4 = 0) then (
    some ((), p1)
  ) else (
    lz (wrI p1 22 28 x1) fun h5 =>
    lz (wrI h5 22 29 x2) fun h6 =>
    some ((), h6)
  )
set_option maxRecDepth 20000 in
theorem k_Ma_setVectors (x1 : Int32) (x2 : Int32) (x3 : Int32) (x4 : Int32) (h : hH) : hx_kS S0 M_Ma_setVectors 1 NT [(.ref 22), (.int x1), (.int x2), (.int x3), (.int x4)] h (f_Ma_setVectors x1 x2 x3 x4 h) cvU := by
  have hm := m_Ma_setVectors
  show hx_P S0 M_Ma_setVectors 1 0 [(0, (.ref 22)), (1, (.int x1)), (2, (.int x2)), (3, (.int x3)), (4, (.int x4))] [] NT h (f_Ma_setVectors x1 x2 x3 x4 h) (hx_Rc cvU NT)
  unfold f_Ma_setVectors
  refine hp_J 29 (fun (p1 : hH) => [(0, (.ref 22)), (1, (.int x1)), (2, (.int x2)), (3, (.int x3)), (4, (.int x4))]) (fun (p1 : hH) => []) (fun (p1 : hH) => p1) ?_ (fun p1 => ?_)
  · refine hp_cI (L0 := [(0, (.ref 22)), (1, (.int x1)), (2, (.int x2)), (3, (.int x3)), (4, (.int x4))]) (s0 := []) 9 29 ?_ (fun c6 => ?_) (fun c6 => ?_)
    · refine hp_nor ?_
      refine hp_if_ne hm (at1 0 rfl) rfl (by exact trivial) (pc' := 1) rfl 1 rfl (tgt := 9) rfl (fun c3 => ?_) (fun c3 => ?_)
      · exact hp_l0 (fun _ e => e)
      · refine hp_dec ?_
        refine hp_if_ne hm (at1 1 rfl) rfl (by exact trivial) (pc' := 6) rfl 0 rfl (tgt := 29) rfl (fun c2 => ?_) (fun c2 => ?_)
        · exact hp_l0 (fun _ e => e)
        · exact hp_l0 (fun _ e => e)
    · refine hp_w hm (at1 2 rfl) (L' := [(0, (.ref 22)), (1, (.int x1)), (2, (.int x2)), (3, (.int x3)), (4, (.int x4))]) rfl (by exact og_22) (pc' := 14) rfl (fun h1 => ?_)
      refine hp_w hm (at1 3 rfl) (L' := [(0, (.ref 22)), (1, (.int x1)), (2, (.int x2)), (3, (.int x3)), (4, (.int x4))]) rfl (by exact og_22) (pc' := 19) rfl (fun h2 => ?_)
      refine hp_w hm (at1 4 rfl) (L' := [(0, (.ref 22)), (1, (.int x1)), (2, (.int x2)), (3, (.int x3)), (4, (.int x4))]) rfl (by exact og_22) (pc' := 24) rfl (fun h3 => ?_)
      refine hp_w hm (at1 5 rfl) (L' := [(0, (.ref 22)), (1, (.int x1)), (2, (.int x2)), (3, (.int x3)), (4, (.int x4))]) rfl (by exact og_22) (pc' := 29) rfl (fun h4 => ?_)
      exact hp_lf [0, 1, 2, 3, 4] rfl (fun _ e => e)
    · exact hp_lf [0, 1, 2, 3, 4] rfl (fun _ e => e)
  · refine hp_cI (L0 := [(0, (.ref 22)), (1, (.int x1)), (2, (.int x2)), (3, (.int x3)), (4, (.int x4))]) (s0 := []) 48 38 ?_ (fun c11 => ?_) (fun c11 => ?_)
    · refine hp_and ?_
      refine hp_if_ne hm (at1 6 rfl) rfl (by exact trivial) (pc' := 30) rfl 3 rfl (tgt := 38) rfl (fun c10 => ?_) (fun c10 => ?_)
      · exact hp_l0 (fun _ e => e)
      · refine hp_dec ?_
        refine hp_if_eq hm (at1 7 rfl) rfl (by exact trivial) (pc' := 35) rfl 2 rfl (tgt := 48) rfl (fun c9 => ?_) (fun c9 => ?_)
        · exact hp_l0 (fun _ e => e)
        · exact hp_l0 (fun _ e => e)
    · exact hp_vr hm 4 rfl rfl (fun _ e => e)
    · refine hp_w hm (at1 8 rfl) (L' := [(0, (.ref 22)), (1, (.int x1)), (2, (.int x2)), (3, (.int x3)), (4, (.int x4))]) rfl (by exact og_22) (pc' := 43) rfl (fun h5 => ?_)
      refine hp_w hm (at1 9 rfl) (L' := [(0, (.ref 22)), (1, (.int x1)), (2, (.int x2)), (3, (.int x3)), (4, (.int x4))]) rfl (by exact og_22) (pc' := 48) rfl (fun h6 => ?_)
      exact hp_vr hm 4 rfl rfl (fun _ e => e)
/-! HintHouse$Machine.share(JJ)I -/
def M_Ma_share : hM := (4, ⟨"HintHouse$Machine", "share", "(JJ)I"⟩, prog_6_method_23_code, 10, (Option.some Jvm.ClassFile.FieldType.int), [], [(0, [(.ldc2_w 299, 3, 0, 0, 0, (.long (32768 : Int64))), (.lload_n 0, 1, 0, 0, 0, .null)]), (7, [(.lmul, 1, 0, 0, 0, .null), (.lstore 4, 2, 0, 0, 0, .null)]), (10, [(.iconst 0, 1, 0, 0, 0, (.int (0 : Int32))), (.istore 6, 2, 0, 0, 0, .null), (.sipush 16385, 3, 0, 0, 0, (.int (16385 : Int32))), (.istore 7, 2, 0, 0, 0, .null)]), (18, [(.lload_n 2, 1, 0, 0, 0, .null), (.lconst 0, 1, 0, 0, 0, (.long (0 : Int64))), (.lcmp, 1, 0, 0, 0, .null)]), (24, [(.iload 7, 2, 0, 0, 0, .null), (.iload 6, 2, 0, 0, 0, .null), (.isub, 1, 0, 0, 0, .null), (.iconst 1, 1, 0, 0, 0, (.int (1 : Int32)))]), (33, [(.iload 6, 2, 0, 0, 0, .null), (.iload 7, 2, 0, 0, 0, .null), (.iadd, 1, 0, 0, 0, .null), (.iconst 1, 1, 0, 0, 0, (.int (1 : Int32))), (.ishr, 1, 0, 0, 0, .null), (.i2l, 1, 0, 0, 0, .null), (.lstore 8, 2, 0, 0, 0, .null)]), (43, [(.ldc2_w 287, 3, 0, 0, 0, (.long (2 : Int64))), (.lload 8, 2, 0, 0, 0, .null), (.lmul, 1, 0, 0, 0, .null), (.lconst 1, 1, 0, 0, 0, (.long (1 : Int64))), (.lsub, 1, 0, 0, 0, .null), (.ldc2_w 287, 3, 0, 0, 0, (.long (2 : Int64))), (.lload 8, 2, 0, 0, 0, .null), (.lmul, 1, 0, 0, 0, .null), (.lconst 1, 1, 0, 0, 0, (.long (1 : Int64))), (.lsub, 1, 0, 0, 0, .null), (.lmul, 1, 0, 0, 0, .null), (.lload_n 2, 1, 0, 0, 0, .null), (.lmul, 1, 0, 0, 0, .null), (.lload 4, 2, 0, 0, 0, .null), (.lload 4, 2, 0, 0, 0, .null), (.lmul, 1, 0, 0, 0, .null), (.lcmp, 1, 0, 0, 0, .null)]), (79, [(.lload 8, 2, 0, 0, 0, .null), (.l2i, 1, 0, 0, 0, .null), (.istore 7, 2, 0, 0, 0, .null)]), (71, [(.lload 8, 2, 0, 0, 0, .null), (.l2i, 1, 0, 0, 0, .null), (.istore 6, 2, 0, 0, 0, .null)]), (87, [(.lload_n 0, 1, 0, 0, 0, .null), (.lconst 0, 1, 0, 0, 0, (.long (0 : Int64))), (.lcmp, 1, 0, 0, 0, .null)]), (99, [(.iload 6, 2, 0, 0, 0, .null)]), (93, [(.iload 6, 2, 0, 0, 0, .null), (.ineg, 1, 0, 0, 0, .null)])], [(4, .invokestatic 268, 3), (30, .if_icmp .le 57, 3), (21, .ifCond .le 66, 3), (76, .goto 8, 3), (68, .ifCond .gt 11, 3), (84, .goto (-66), 3), (101, .ireturn, 1), (96, .goto 5, 3), (90, .ifCond .ge 9, 3)])
set_option maxRecDepth 100000 in
theorem m_Ma_share : hx_mok M_Ma_share = true := by decide +kernel
theorem pd_Ma_share : (parseMethodDescriptor M_Ma_share.2.1.desc).map (fun q => q.parameters.length) = some 2 := by decide +kernel
theorem y_Ma_share : hx_okS M_Ma_share := ⟨⟨lw_g (lw_at lw_m6 65 rfl) rfl, lw_g (lw_at lw_m6 64 rfl) rfl, lw_g (lw_at lw_m1 5 rfl) rfl, by decide, by decide⟩, rfl, by decide, plainFor_of_name (by decide), rfl⟩
noncomputable def f_Ma_share (x1 : Int64) (x2 : Int64) : Option Int32 :=
  bP (f_JM_abs x1) fun a1 =>
  lz (A := Int64) ((32768 : Int64) * a1) fun v2 =>
  bP (A := Int32) (
    wh (A := (Int32 × Int32)) (B := Int32) (fun p3 =>
        if (x2 ≤ (0 : Int64) ∨ (p3.2 - p3.1) ≤ (1 : Int32)) then (
          some (.inr p3.1)
        ) else (
          lz (A := Int64) (Int32.toInt64 ((p3.1 + p3.2) >>> ((1 : Int32) &&& 31))) fun v10 =>
          bP (A := (Int32 × Int32)) (
            if (v2 * v2) < (((((2 : Int64) * v10) - (1 : Int64)) * (((2 : Int64) * v10) - (1 : Int64))) * x2) then (
              lz (A := Int32) (Int64.toInt32 v10) fun v12 =>
              some (p3.1, v12)
            ) else (
              lz (A := Int32) (Int64.toInt32 v10) fun v13 =>
              some (v13, p3.2)
            )
          ) fun p11 =>
          some (.inl (p11.1, p11.2))
        )
    ) ((0 : Int32), (16385 : Int32))
  ) fun p4 =>
  if (0 : Int64) ≤ x1 then (
    some p4
  ) else (
    some (-p4)
  )
set_option maxRecDepth 20000 in
theorem k_Ma_share (x1 : Int64) (x2 : Int64) (h : hH) : hx_kP S0 M_Ma_share 2 NT [(.long x1), (.long x2)] h (f_Ma_share x1 x2) cvI := by
  have hm := m_Ma_share
  show hx_P S0 M_Ma_share 2 0 [(0, (.long x1)), (2, (.long x2))] [] NT h (f_Ma_share x1 x2) (hx_Rp cvI NT h)
  unfold f_Ma_share
  refine hp_cSP (M2 := M_JM_abs) hm (at1 0 rfl) (as := [(.long x1)]) (rest := [(.long (32768 : Int64))]) rfl (by exact trivial) (pc' := 4) rfl 0 rfl (lw_g (lw_at lw_m5 238 rfl) rfl) y_JM_abs rfl (d2 := 1) ⟨le_b rfl, pd_JM_abs, le_b rfl⟩ (le_b rfl) (k_JM_abs x1 h) (fun a1 => ?_)
  refine hp_z hm (at1 1 rfl) (fun (v2 : Int64) => [(4, (.long v2)), (0, (.long x1)), (2, (.long x2))]) (fun (v2 : Int64) => []) rfl (by exact trivial) (pc' := 10) rfl (fun v2 => ?_)
  refine hp_b hm (at1 2 rfl) (L' := [(7, (.int (16385 : Int32))), (6, (.int (0 : Int32))), (4, (.long v2)), (0, (.long x1)), (2, (.long x2))]) (st' := []) rfl (by exact trivial) (pc' := 18) rfl ?_
  refine hp_J 87 (fun (p4 : Int32) => [(0, (.long x1)), (6, (.int p4))]) (fun (p4 : Int32) => []) (fun (p4 : Int32) => h) ?_ (fun p4 => ?_)
  · refine hp_s [3, 4, 2, 1, 0] rfl (L' := [(0, (.long x1)), (2, (.long x2)), (4, (.long v2)), (6, (.int (0 : Int32))), (7, (.int (16385 : Int32)))]) ?_
    refine hp_wh (fun (p3 : (Int32 × Int32)) => [(0, (.long x1)), (2, (.long x2)), (4, (.long v2)), (6, (.int p3.1)), (7, (.int p3.2))]) [] (fun (p3 : (Int32 × Int32)) => h) (fun p3 => ?_) ((0 : Int32), (16385 : Int32))
    refine hp_cI (L0 := [(0, (.long x1)), (2, (.long x2)), (4, (.long v2)), (6, (.int p3.1)), (7, (.int p3.2))]) (s0 := []) 87 33 ?_ (fun c9 => ?_) (fun c9 => ?_)
    · refine hp_or ?_
      refine hp_lc_le hm (at1 3 rfl) rfl (by exact trivial) (pc' := 21) rfl 2 rfl (tgt := 87) rfl (fun c8 => ?_) (fun c8 => ?_)
      · exact hp_l0 (fun _ e => e)
      · refine hp_dec ?_
        refine hp_ic_le hm (at1 4 rfl) rfl (by exact trivial) (pc' := 30) rfl 1 rfl (tgt := 87) rfl (fun c7 => ?_) (fun c7 => ?_)
        · exact hp_l0 (fun _ e => e)
        · exact hp_l0 (fun _ e => e)
    · exact hp_lf [0, 3] rfl (fun _ e => e)
    · refine hp_z hm (at1 5 rfl) (fun (v10 : Int64) => [(8, (.long v10)), (0, (.long x1)), (2, (.long x2)), (4, (.long v2)), (6, (.int p3.1)), (7, (.int p3.2))]) (fun (v10 : Int64) => []) rfl (by exact trivial) (pc' := 43) rfl (fun v10 => ?_)
      refine hp_J 84 (fun (p11 : (Int32 × Int32)) => [(0, (.long x1)), (2, (.long x2)), (4, (.long v2)), (6, (.int p11.1)), (7, (.int p11.2))]) (fun (p11 : (Int32 × Int32)) => []) (fun (p11 : (Int32 × Int32)) => h) ?_ (fun p11 => ?_)
      · refine hp_lc_gt hm (at1 6 rfl) rfl (by exact trivial) (pc' := 68) rfl 4 rfl (tgt := 79) rfl (fun c14 => ?_) (fun c14 => ?_)
        · refine hp_z hm (at1 7 rfl) (fun (v12 : Int32) => [(7, (.int v12)), (8, (.long v10)), (0, (.long x1)), (2, (.long x2)), (4, (.long v2)), (6, (.int p3.1))]) (fun (v12 : Int32) => []) rfl (by exact trivial) (pc' := 84) rfl (fun v12 => ?_)
          exact hp_lf [2, 3, 4, 5, 0] rfl (fun _ e => e)
        · refine hp_z hm (at1 8 rfl) (fun (v13 : Int32) => [(6, (.int v13)), (8, (.long v10)), (0, (.long x1)), (2, (.long x2)), (4, (.long v2)), (7, (.int p3.2))]) (fun (v13 : Int32) => []) rfl (by exact trivial) (pc' := 76) rfl (fun v13 => ?_)
          refine hp_goto hm 3 rfl (tgt := 84) rfl ?_
          exact hp_lf [2, 3, 4, 0, 5] rfl (fun _ e => e)
      · refine hp_goto hm 5 rfl (tgt := 18) rfl ?_
        exact hp_lf [0, 1, 2, 3, 4] rfl (fun _ e => e)
  · refine hp_lc_ge hm (at1 9 rfl) rfl (by exact trivial) (pc' := 90) rfl 8 rfl (tgt := 99) rfl (fun c15 => ?_) (fun c15 => ?_)
    · refine hp_b hm (at1 10 rfl) (L' := [(0, (.long x1)), (6, (.int p4))]) (st' := [(.int p4)]) rfl (by exact trivial) (pc' := 101) rfl ?_
      exact hp_ir hm at0 rfl (by exact trivial) (pc' := 101) rfl 6 rfl rfl (vp_nar_int _) (fun _ e => e)
    · refine hp_b hm (at1 11 rfl) (L' := [(0, (.long x1)), (6, (.int p4))]) (st' := [(.int (-p4))]) rfl (by exact trivial) (pc' := 96) rfl ?_
      refine hp_goto hm 7 rfl (tgt := 101) rfl ?_
      exact hp_ir hm at0 rfl (by exact trivial) (pc' := 101) rfl 6 rfl rfl (vp_nar_int _) (fun _ e => e)
/-! HintHouse$Machine.direct(IIZ)V -/
def M_Ma_direct : hM := (4, ⟨"HintHouse$Machine", "direct", "(IIZ)V"⟩, prog_6_method_22_code, 9, (Option.none : Option Jvm.ClassFile.FieldType), [], [(0, [(.iload_n 1, 1, 0, 0, 0, .null), (.i2l, 1, 0, 0, 0, .null), (.lstore 4, 2, 0, 0, 0, .null)]), (4, [(.iload_n 2, 1, 0, 0, 0, .null), (.i2l, 1, 0, 0, 0, .null), (.lstore 6, 2, 0, 0, 0, .null)]), (8, [(.lload 4, 2, 0, 0, 0, .null)]), (13, [(.ldc2_w 285, 3, 0, 0, 0, (.long (30000 : Int64))), (.lcmp, 1, 0, 0, 0, .null)]), (20, [(.lload 6, 2, 0, 0, 0, .null)]), (25, [(.ldc2_w 285, 3, 0, 0, 0, (.long (30000 : Int64))), (.lcmp, 1, 0, 0, 0, .null)]), (32, [(.lload 4, 2, 0, 0, 0, .null), (.ldc2_w 287, 3, 0, 0, 0, (.long (2 : Int64))), (.ldiv, 1, 0, 0, 0, .null), (.lstore 4, 2, 0, 0, 0, .null)]), (40, [(.lload 6, 2, 0, 0, 0, .null), (.ldc2_w 287, 3, 0, 0, 0, (.long (2 : Int64))), (.ldiv, 1, 0, 0, 0, .null), (.lstore 6, 2, 0, 0, 0, .null)]), (51, [(.aload_n 0, 1, 0, 0, 0, .null), (.lload 4, 2, 0, 0, 0, .null), (.lconst 0, 1, 0, 0, 0, (.long (0 : Int64))), (.lcmp, 1, 0, 0, 0, .null)]), (59, [(.lload 6, 2, 0, 0, 0, .null), (.lconst 0, 1, 0, 0, 0, (.long (0 : Int64))), (.lcmp, 1, 0, 0, 0, .null)]), (66, [(.sipush 16384, 3, 0, 0, 0, (.int (16384 : Int32)))]), (72, [(.lload 4, 2, 0, 0, 0, .null), (.lload 4, 2, 0, 0, 0, .null), (.lload 4, 2, 0, 0, 0, .null), (.lmul, 1, 0, 0, 0, .null), (.lload 6, 2, 0, 0, 0, .null), (.lload 6, 2, 0, 0, 0, .null), (.lmul, 1, 0, 0, 0, .null), (.ladd, 1, 0, 0, 0, .null)]), (88, [(.putfield 293, 3, 4, 34, 0, .null)]), (91, [(.aload_n 0, 1, 0, 0, 0, .null), (.lload 6, 2, 0, 0, 0, .null), (.lload 4, 2, 0, 0, 0, .null), (.lload 4, 2, 0, 0, 0, .null), (.lmul, 1, 0, 0, 0, .null), (.lload 6, 2, 0, 0, 0, .null), (.lload 6, 2, 0, 0, 0, .null), (.lmul, 1, 0, 0, 0, .null), (.ladd, 1, 0, 0, 0, .null)]), (108, [(.putfield 296, 3, 4, 35, 0, .null)]), (111, [(.iload_n 3, 1, 0, 0, 0, .null)]), (115, [(.aload_n 0, 1, 0, 0, 0, .null), (.getfield 293, 3, 4, 34, 0, .null), (.istore 8, 2, 0, 0, 0, .null)]), (121, [(.aload_n 0, 1, 0, 0, 0, .null), (.aload_n 0, 1, 0, 0, 0, .null), (.getfield 296, 3, 4, 35, 0, .null), (.ineg, 1, 0, 0, 0, .null), (.putfield 293, 3, 4, 34, 0, .null)]), (130, [(.aload_n 0, 1, 0, 0, 0, .null), (.iload 8, 2, 0, 0, 0, .null), (.putfield 296, 3, 4, 35, 0, .null)])], [(10, .invokestatic 268, 3), (22, .invokestatic 268, 3), (29, .ifCond .le 22, 3), (17, .ifCond .gt 15, 3), (48, .goto (-40), 3), (63, .ifCond .ne 9, 3), (56, .ifCond .ne 16, 3), (69, .goto 19, 3), (85, .invokestatic 289, 3), (105, .invokestatic 289, 3), (136, .return_, 1), (112, .ifCond .eq 24, 3)])
set_option maxRecDepth 100000 in
theorem m_Ma_direct : hx_mok M_Ma_direct = true := by decide +kernel
theorem pd_Ma_direct : (parseMethodDescriptor M_Ma_direct.2.1.desc).map (fun q => q.parameters.length) = some 3 := by decide +kernel
theorem y_Ma_direct : hx_okV M_Ma_direct := ⟨⟨lw_g (lw_at lw_m6 60 rfl) rfl, lw_g (lw_at lw_m6 59 rfl) rfl, qs59, lw_g (lw_at lw_m1 5 rfl) rfl, rfl, by decide, by decide, by decide⟩, rfl, by decide, plainFor_of_name (by decide)⟩
noncomputable def f_Ma_direct (x1 : Int32) (x2 : Int32) (x3 : Int32) (h : hH) : Option (Unit × hH) :=
  lz (A := Int64) (Int32.toInt64 x1) fun v1 =>
  lz (A := Int64) (Int32.toInt64 x2) fun v2 =>
  bP (A := (Int64 × Int64)) (
    wh (A := (Int64 × Int64)) (B := (Int64 × Int64)) (fun p3 =>
        bP (f_JM_abs p3.1) fun a5 =>
        cO (
          if (30000 : Int64) < a5 then (
            some true
          ) else (
            bP (f_JM_abs p3.2) fun a6 =>
            if a6 ≤ (30000 : Int64) then (
              some false
            ) else (
              some true
            )
          )
        ) (
          lz (A := Int64) (p3.1 / (2 : Int64)) fun v12 =>
          lz (A := Int64) (p3.2 / (2 : Int64)) fun v13 =>
          some (.inl (v12, v13))
        ) (
          some (.inr (p3.1, p3.2))
        )
    ) (v1, v2)
  ) fun p4 =>
  bP (A := Int32) (
    if (p4.1 = (0 : Int64) ∧ p4.2 = (0 : Int64)) then (
      some (16384 : Int32)
    ) else (
      bP (f_Ma_share p4.1 ((p4.1 * p4.1) + (p4.2 * p4.2))) fun a20 =>
      some a20
    )
  ) fun p14 =>
  lz (wrI h 22 34 p14) fun h1 =>
  bP (f_Ma_share p4.2 ((p4.1 * p4.1) + (p4.2 * p4.2))) fun a21 =>
  lz (wrI h1 22 35 a21) fun h2 =>
  if x3 = 0 then (
    some ((), h2)
  ) else (
    lz (A := Int32) (rdI h2 22 34) fun v22 =>
    lz (wrI h2 22 34 (-(rdI h2 22 35))) fun h3 =>
    lz (wrI h3 22 35 v22) fun h4 =>
    some ((), h4)
  )
set_option maxRecDepth 20000 in
theorem k_Ma_direct (x1 : Int32) (x2 : Int32) (x3 : Int32) (h : hH) : hx_kS S0 M_Ma_direct 3 NT [(.ref 22), (.int x1), (.int x2), (.int x3)] h (f_Ma_direct x1 x2 x3 h) cvU := by
  have hm := m_Ma_direct
  show hx_P S0 M_Ma_direct 3 0 [(0, (.ref 22)), (1, (.int x1)), (2, (.int x2)), (3, (.int x3))] [] NT h (f_Ma_direct x1 x2 x3 h) (hx_Rc cvU NT)
  unfold f_Ma_direct
  refine hp_z hm (at1 0 rfl) (fun (v1 : Int64) => [(4, (.long v1)), (0, (.ref 22)), (1, (.int x1)), (2, (.int x2)), (3, (.int x3))]) (fun (v1 : Int64) => []) rfl (by exact trivial) (pc' := 4) rfl (fun v1 => ?_)
  refine hp_z hm (at1 1 rfl) (fun (v2 : Int64) => [(6, (.long v2)), (4, (.long v1)), (0, (.ref 22)), (1, (.int x1)), (2, (.int x2)), (3, (.int x3))]) (fun (v2 : Int64) => []) rfl (by exact trivial) (pc' := 8) rfl (fun v2 => ?_)
  refine hp_J 51 (fun (p4 : (Int64 × Int64)) => [(0, (.ref 22)), (3, (.int x3)), (4, (.long p4.1)), (6, (.long p4.2))]) (fun (p4 : (Int64 × Int64)) => []) (fun (p4 : (Int64 × Int64)) => h) ?_ (fun p4 => ?_)
  · refine hp_s [2, 5, 1, 0] rfl (L' := [(0, (.ref 22)), (3, (.int x3)), (4, (.long v1)), (6, (.long v2))]) ?_
    refine hp_wh (fun (p3 : (Int64 × Int64)) => [(0, (.ref 22)), (3, (.int x3)), (4, (.long p3.1)), (6, (.long p3.2))]) [] (fun (p3 : (Int64 × Int64)) => h) (fun p3 => ?_) (v1, v2)
    refine hp_cSP (M2 := M_JM_abs) hm (at1 2 rfl) (as := [(.long p3.1)]) (rest := []) rfl (by exact trivial) (pc' := 10) rfl 0 rfl (lw_g (lw_at lw_m5 238 rfl) rfl) y_JM_abs rfl (d2 := 1) ⟨le_b rfl, pd_JM_abs, le_b rfl⟩ (le_b rfl) (k_JM_abs p3.1 h) (fun a5 => ?_)
    refine hp_cO (L0 := [(0, (.ref 22)), (3, (.int x3)), (4, (.long p3.1)), (6, (.long p3.2))]) (s0 := []) 32 51 ?_ ?_ ?_
    · refine hp_lc_gt hm (at1 3 rfl) rfl (by exact trivial) (pc' := 17) rfl 3 rfl (tgt := 32) rfl (fun c8 => ?_) (fun c8 => ?_)
      · exact hp_l0 (fun _ e => e)
      · refine hp_cSP (M2 := M_JM_abs) hm (at1 4 rfl) (as := [(.long p3.2)]) (rest := []) rfl (by exact trivial) (pc' := 22) rfl 1 rfl (lw_g (lw_at lw_m5 238 rfl) rfl) y_JM_abs rfl (d2 := 1) ⟨le_b rfl, pd_JM_abs, le_b rfl⟩ (le_b rfl) (k_JM_abs p3.2 h) (fun a6 => ?_)
        refine hp_lc_le hm (at1 5 rfl) rfl (by exact trivial) (pc' := 29) rfl 2 rfl (tgt := 51) rfl (fun c7 => ?_) (fun c7 => ?_)
        · exact hp_l0 (fun _ e => e)
        · exact hp_l0 (fun _ e => e)
    · refine hp_z hm (at1 6 rfl) (fun (v12 : Int64) => [(4, (.long v12)), (0, (.ref 22)), (3, (.int x3)), (6, (.long p3.2))]) (fun (v12 : Int64) => []) rfl (by exact (show ¬ (2 : Int64) = 0 by decide)) (pc' := 40) rfl (fun v12 => ?_)
      refine hp_z hm (at1 7 rfl) (fun (v13 : Int64) => [(6, (.long v13)), (4, (.long v12)), (0, (.ref 22)), (3, (.int x3))]) (fun (v13 : Int64) => []) rfl (by exact (show ¬ (2 : Int64) = 0 by decide)) (pc' := 48) rfl (fun v13 => ?_)
      refine hp_goto hm 4 rfl (tgt := 8) rfl ?_
      exact hp_lf [2, 3, 1, 0] rfl (fun _ e => e)
    · exact hp_lf [0, 1, 2, 3] rfl (fun _ e => e)
  · refine hp_J 88 (fun (p14 : Int32) => [(0, (.ref 22)), (3, (.int x3)), (4, (.long p4.1)), (6, (.long p4.2))]) (fun (p14 : Int32) => [(.int p14), (.ref 22)]) (fun (p14 : Int32) => h) ?_ (fun p14 => ?_)
    · refine hp_cI (L0 := [(0, (.ref 22)), (3, (.int x3)), (4, (.long p4.1)), (6, (.long p4.2))]) (s0 := [(.ref 22)]) 66 72 ?_ (fun c19 => ?_) (fun c19 => ?_)
      · refine hp_and ?_
        refine hp_lc_ne hm (at1 8 rfl) rfl (by exact trivial) (pc' := 56) rfl 6 rfl (tgt := 72) rfl (fun c16 => ?_) (fun c16 => ?_)
        · exact hp_l0 (fun _ e => e)
        · refine hp_dec ?_
          refine hp_lc_ne hm (at1 9 rfl) rfl (by exact trivial) (pc' := 63) rfl 5 rfl (tgt := 72) rfl (fun c15 => ?_) (fun c15 => ?_)
          · exact hp_l0 (fun _ e => e)
          · exact hp_l0 (fun _ e => e)
      · refine hp_b hm (at1 10 rfl) (L' := [(0, (.ref 22)), (3, (.int x3)), (4, (.long p4.1)), (6, (.long p4.2))]) (st' := [(.int (16384 : Int32)), (.ref 22)]) rfl (by exact trivial) (pc' := 69) rfl ?_
        refine hp_goto hm 7 rfl (tgt := 88) rfl ?_
        exact hp_lf [0, 1, 2, 3] rfl (fun _ e => e)
      · refine hp_cSP (M2 := M_Ma_share) hm (at1 11 rfl) (as := [(.long p4.1), (.long ((p4.1 * p4.1) + (p4.2 * p4.2)))]) (rest := [(.ref 22)]) rfl (by exact trivial) (pc' := 85) rfl 8 rfl (lw_g (lw_at lw_m6 63 rfl) rfl) y_Ma_share rfl (d2 := 2) ⟨le_b rfl, pd_Ma_share, le_b rfl⟩ (le_b rfl) (k_Ma_share p4.1 ((p4.1 * p4.1) + (p4.2 * p4.2)) h) (fun a20 => ?_)
        exact hp_lf [0, 1, 2, 3] rfl (fun _ e => e)
    · refine hp_w hm (at1 12 rfl) (L' := [(0, (.ref 22)), (3, (.int x3)), (4, (.long p4.1)), (6, (.long p4.2))]) rfl (by exact og_22) (pc' := 91) rfl (fun h1 => ?_)
      refine hp_cSP (M2 := M_Ma_share) hm (at1 13 rfl) (as := [(.long p4.2), (.long ((p4.1 * p4.1) + (p4.2 * p4.2)))]) (rest := [(.ref 22)]) rfl (by exact trivial) (pc' := 105) rfl 9 rfl (lw_g (lw_at lw_m6 63 rfl) rfl) y_Ma_share rfl (d2 := 2) ⟨le_b rfl, pd_Ma_share, le_b rfl⟩ (le_b rfl) (k_Ma_share p4.2 ((p4.1 * p4.1) + (p4.2 * p4.2)) h1) (fun a21 => ?_)
      refine hp_w hm (at1 14 rfl) (L' := [(0, (.ref 22)), (3, (.int x3)), (4, (.long p4.1)), (6, (.long p4.2))]) rfl (by exact og_22) (pc' := 111) rfl (fun h2 => ?_)
      refine hp_if_eq hm (at1 15 rfl) rfl (by exact trivial) (pc' := 112) rfl 11 rfl (tgt := 136) rfl (fun c23 => ?_) (fun c23 => ?_)
      · exact hp_vr hm 10 rfl rfl (fun _ e => e)
      · refine hp_z hm (at1 16 rfl) (fun (v22 : Int32) => [(8, (.int v22)), (0, (.ref 22)), (3, (.int x3)), (4, (.long p4.1)), (6, (.long p4.2))]) (fun (v22 : Int32) => []) rfl (by exact og_22) (pc' := 121) rfl (fun v22 => ?_)
        refine hp_w hm (at1 17 rfl) (L' := [(8, (.int v22)), (0, (.ref 22)), (3, (.int x3)), (4, (.long p4.1)), (6, (.long p4.2))]) rfl (by exact ⟨og_22, og_22⟩) (pc' := 130) rfl (fun h3 => ?_)
        refine hp_w hm (at1 18 rfl) (L' := [(8, (.int v22)), (0, (.ref 22)), (3, (.int x3)), (4, (.long p4.1)), (6, (.long p4.2))]) rfl (by exact og_22) (pc' := 136) rfl (fun h4 => ?_)
        exact hp_vr hm 10 rfl rfl (fun _ e => e)
/-! HintHouse$Machine.ownOf(I)I -/
def M_Ma_ownOf : hM := (4, ⟨"HintHouse$Machine", "ownOf", "(I)I"⟩, prog_6_method_35_code, 3, (Option.some Jvm.ClassFile.FieldType.int), [], [(0, [(.iconst 0, 1, 0, 0, 0, (.int (0 : Int32))), (.istore_n 2, 1, 0, 0, 0, .null)]), (2, [(.iload_n 2, 1, 0, 0, 0, .null), (.aload_n 0, 1, 0, 0, 0, .null), (.getfield 90, 3, 4, 24, 0, .null)]), (26, [(.iload_n 2, 1, 0, 0, 0, .null)]), (10, [(.aload_n 0, 1, 0, 0, 0, .null), (.getfield 58, 3, 4, 25, 4, .null), (.iload_n 2, 1, 0, 0, 0, .null), (.iaload, 1, 0, 0, 0, .null), (.iload_n 1, 1, 0, 0, 0, .null)]), (20, [(.iinc 2 1, 3, 0, 0, 0, (.int (1 : Int32)))])], [(27, .ireturn, 1), (23, .goto (-21), 3), (17, .if_icmp .eq 9, 3), (7, .if_icmp .ge 19, 3)])
set_option maxRecDepth 100000 in
theorem m_Ma_ownOf : hx_mok M_Ma_ownOf = true := by decide +kernel
theorem pd_Ma_ownOf : (parseMethodDescriptor M_Ma_ownOf.2.1.desc).map (fun q => q.parameters.length) = some 1 := by decide +kernel
theorem y_Ma_ownOf : hx_okV M_Ma_ownOf := ⟨⟨lw_g (lw_at lw_m6 78 rfl) rfl, lw_g (lw_at lw_m6 77 rfl) rfl, qs62, lw_g (lw_at lw_m1 5 rfl) rfl, rfl, by decide, by decide, by decide⟩, rfl, by decide, plainFor_of_name (by decide)⟩
noncomputable def f_Ma_ownOf (x1 : Int32) (h : hH) : Option Int32 :=
  wh (A := Int32) (B := Int32) (fun p1 =>
      if (rdI h 22 24) ≤ p1 then (
        some (.inr p1)
      ) else (
        gd (vp_in p1 16) <|
        if (rdI h 51 (Int32.toNatClampNeg p1)) = x1 then (
          some (.inr p1)
        ) else (
          lz (A := Int32) (p1 + (1 : Int32)) fun v3 =>
          some (.inl v3)
        )
      )
  ) (0 : Int32)
set_option maxRecDepth 20000 in
theorem k_Ma_ownOf (x1 : Int32) (h : hH) : hx_kP S0 M_Ma_ownOf 1 NT [(.ref 22), (.int x1)] h (f_Ma_ownOf x1 h) cvI := by
  have hm := m_Ma_ownOf
  show hx_P S0 M_Ma_ownOf 1 0 [(0, (.ref 22)), (1, (.int x1))] [] NT h (f_Ma_ownOf x1 h) (hx_Rp cvI NT h)
  unfold f_Ma_ownOf
  refine hp_b hm (at1 0 rfl) (L' := [(2, (.int (0 : Int32))), (0, (.ref 22)), (1, (.int x1))]) (st' := []) rfl (by exact trivial) (pc' := 2) rfl ?_
  refine hp_s [1, 2, 0] rfl (L' := [(0, (.ref 22)), (1, (.int x1)), (2, (.int (0 : Int32)))]) ?_
  refine hp_wh (fun (p1 : Int32) => [(0, (.ref 22)), (1, (.int x1)), (2, (.int p1))]) [] (fun (p1 : Int32) => h) (fun p1 => ?_) (0 : Int32)
  refine hp_ic_ge hm (at1 1 rfl) rfl (by exact og_22) (pc' := 7) rfl 3 rfl (tgt := 26) rfl (fun c5 => ?_) (fun c5 => ?_)
  · exact hp_ir hm (at1 2 rfl) rfl (by exact trivial) (pc' := 27) rfl 0 rfl rfl (vp_nar_int _) (fun _ e => e)
  · refine hp_G hm (at1 3 rfl) (L' := [(0, (.ref 22)), (1, (.int x1)), (2, (.int p1))]) (st' := [(.int x1), (.int (rdI h 51 (Int32.toNatClampNeg p1)))]) rfl (fun hP => (by exact ⟨og_22, ⟨og_51, hP⟩⟩)) (pc' := 17) rfl (fun q2 => ?_)
    refine hp_ic_eq hm at0 rfl (by exact trivial) (pc' := 17) rfl 2 rfl (tgt := 26) rfl (fun c4 => ?_) (fun c4 => ?_)
    · exact hp_ir hm (at1 2 rfl) rfl (by exact trivial) (pc' := 27) rfl 0 rfl rfl (vp_nar_int _) (fun _ e => e)
    · refine hp_z hm (at1 4 rfl) (fun (v3 : Int32) => [(2, (.int v3)), (0, (.ref 22)), (1, (.int x1))]) (fun (v3 : Int32) => []) rfl (by exact trivial) (pc' := 23) rfl (fun v3 => ?_)
      refine hp_goto hm 1 rfl (tgt := 2) rfl ?_
      exact hp_lf [1, 2, 0] rfl (fun _ e => e)
/-! HintHouse$Machine.call(III)V -/
def M_Ma_call : hM := (4, ⟨"HintHouse$Machine", "call", "(III)V"⟩, prog_6_method_31_code, 4, (Option.none : Option Jvm.ClassFile.FieldType), [], [(0, [(.iload_n 3, 1, 0, 0, 0, .null), (.iconst 1, 1, 0, 0, 0, (.int (1 : Int32)))]), (6, [(.aload_n 0, 1, 0, 0, 0, .null), (.aload_n 0, 1, 0, 0, 0, .null), (.getfield 173, 3, 4, 16, 0, .null), (.bipush 32, 2, 0, 0, 0, (.int (32 : Int32)))]), (20, [(.iconst 0, 1, 0, 0, 0, (.int (0 : Int32)))]), (16, [(.iconst 1, 1, 0, 0, 0, (.int (1 : Int32)))]), (21, [(.bipush 9, 2, 0, 0, 0, (.int (9 : Int32)))]), (26, [(.aload_n 0, 1, 0, 0, 0, .null), (.getfield 37, 3, 4, 17, 4, .null), (.aload_n 0, 1, 0, 0, 0, .null), (.getfield 173, 3, 4, 16, 0, .null), (.aload_n 0, 1, 0, 0, 0, .null), (.getfield 158, 3, 4, 7, 0, .null), (.iastore, 1, 0, 0, 0, .null)]), (39, [(.aload_n 0, 1, 0, 0, 0, .null), (.getfield 40, 3, 4, 18, 4, .null), (.aload_n 0, 1, 0, 0, 0, .null), (.getfield 173, 3, 4, 16, 0, .null), (.aload_n 0, 1, 0, 0, 0, .null), (.getfield 164, 3, 4, 11, 0, .null), (.iastore, 1, 0, 0, 0, .null)]), (52, [(.aload_n 0, 1, 0, 0, 0, .null), (.getfield 43, 3, 4, 19, 4, .null), (.aload_n 0, 1, 0, 0, 0, .null), (.getfield 173, 3, 4, 16, 0, .null), (.iload_n 3, 1, 0, 0, 0, .null), (.iconst 1, 1, 0, 0, 0, (.int (1 : Int32))), (.isub, 1, 0, 0, 0, .null), (.iastore, 1, 0, 0, 0, .null)]), (64, [(.aload_n 0, 1, 0, 0, 0, .null), (.getfield 46, 3, 4, 20, 4, .null), (.aload_n 0, 1, 0, 0, 0, .null), (.getfield 173, 3, 4, 16, 0, .null), (.iload_n 2, 1, 0, 0, 0, .null), (.iastore, 1, 0, 0, 0, .null)]), (74, [(.aload_n 0, 1, 0, 0, 0, .null), (.getfield 49, 3, 4, 21, 4, .null), (.aload_n 0, 1, 0, 0, 0, .null), (.getfield 173, 3, 4, 16, 0, .null), (.iload_n 1, 1, 0, 0, 0, .null), (.iastore, 1, 0, 0, 0, .null)]), (84, [(.aload_n 0, 1, 0, 0, 0, .null), (.dup, 1, 0, 0, 0, .null), (.getfield 173, 3, 4, 16, 0, .null), (.iconst 1, 1, 0, 0, 0, (.int (1 : Int32))), (.iadd, 1, 0, 0, 0, .null), (.putfield 173, 3, 4, 16, 0, .null)]), (94, [(.aload_n 0, 1, 0, 0, 0, .null), (.iload_n 1, 1, 0, 0, 0, .null), (.putfield 158, 3, 4, 7, 0, .null)]), (99, [(.aload_n 0, 1, 0, 0, 0, .null), (.iload_n 2, 1, 0, 0, 0, .null), (.putfield 164, 3, 4, 11, 0, .null)])], [(17, .goto 4, 3), (13, .if_icmp .ge 7, 3), (23, .invokevirtual 187, 3), (104, .return_, 1), (5, .return_, 1), (2, .if_icmp .ge 4, 3)])
set_option maxRecDepth 100000 in
theorem m_Ma_call : hx_mok M_Ma_call = true := by decide +kernel
theorem pd_Ma_call : (parseMethodDescriptor M_Ma_call.2.1.desc).map (fun q => q.parameters.length) = some 3 := by decide +kernel
theorem y_Ma_call : hx_okV M_Ma_call := ⟨⟨lw_g (lw_at lw_m6 82 rfl) rfl, lw_g (lw_at lw_m6 81 rfl) rfl, qs63, lw_g (lw_at lw_m1 5 rfl) rfl, rfl, by decide, by decide, by decide⟩, rfl, by decide, plainFor_of_name (by decide)⟩
noncomputable def f_Ma_call (x1 : Int32) (x2 : Int32) (x3 : Int32) (h : hH) : Option (hH ⊕ (Unit × hH)) :=
  if (1 : Int32) ≤ x3 then (
    lz (A := Int32) (if (32 : Int32) ≤ (rdI h 22 16) then (0 : Int32) else (1 : Int32)) fun p1 =>
    bT (f_Ma_want p1 (9 : Int32) h) fun _ h1 =>
    gd (vp_in (rdI h1 22 16) 32) <|
    lz (wrI h1 44 (Int32.toNatClampNeg (rdI h1 22 16)) (rdI h1 22 7)) fun h2 =>
    gd (vp_in (rdI h2 22 16) 32) <|
    lz (wrI h2 45 (Int32.toNatClampNeg (rdI h2 22 16)) (rdI h2 22 11)) fun h3 =>
    gd (vp_in (rdI h3 22 16) 32) <|
    lz (wrI h3 46 (Int32.toNatClampNeg (rdI h3 22 16)) (x3 - (1 : Int32))) fun h4 =>
    gd (vp_in (rdI h4 22 16) 32) <|
    lz (wrI h4 47 (Int32.toNatClampNeg (rdI h4 22 16)) x2) fun h5 =>
    gd (vp_in (rdI h5 22 16) 32) <|
    lz (wrI h5 48 (Int32.toNatClampNeg (rdI h5 22 16)) x1) fun h6 =>
    lz (wrI h6 22 16 ((rdI h6 22 16) + (1 : Int32))) fun h7 =>
    lz (wrI h7 22 7 x1) fun h8 =>
    lz (wrI h8 22 11 x2) fun h9 =>
    some (.inr ((), h9))
  ) else (
    some (.inr ((), h))
  )
set_option maxRecDepth 20000 in
theorem k_Ma_call (x1 : Int32) (x2 : Int32) (x3 : Int32) (h : hH) : hx_kT S0 M_Ma_call 7 NT [(.ref 22), (.int x1), (.int x2), (.int x3)] h (f_Ma_call x1 x2 x3 h) cvU := by
  have hm := m_Ma_call
  show hx_P S0 M_Ma_call 7 0 [(0, (.ref 22)), (1, (.int x1)), (2, (.int x2)), (3, (.int x3))] [] NT h (f_Ma_call x1 x2 x3 h) (hx_T NT (hx_Rc cvU NT))
  unfold f_Ma_call
  refine hp_ic_ge hm (at1 0 rfl) rfl (by exact trivial) (pc' := 2) rfl 5 rfl (tgt := 6) rfl (fun c8 => ?_) (fun c8 => ?_)
  · refine hp_JZ 21 (fun (p1 : Int32) => [(0, (.ref 22)), (1, (.int x1)), (2, (.int x2)), (3, (.int x3))]) (fun (p1 : Int32) => [(.int p1), (.ref 22)]) (fun (p1 : Int32) => h) ?_ (fun p1 => ?_)
    · refine hp_sv0 ?_
      refine hp_ic_ge hm (at1 1 rfl) rfl (by exact og_22) (pc' := 13) rfl 1 rfl (tgt := 20) rfl (fun c2 => ?_) (fun c2 => ?_)
      · refine hp_b hm (at1 2 rfl) (L' := [(0, (.ref 22)), (1, (.int x1)), (2, (.int x2)), (3, (.int x3))]) (st' := [(.int (0 : Int32)), (.ref 22)]) rfl (by exact trivial) (pc' := 21) rfl ?_
        exact hp_lf [0, 1, 2, 3] rfl (fun _ e => e)
      · refine hp_b hm (at1 3 rfl) (L' := [(0, (.ref 22)), (1, (.int x1)), (2, (.int x2)), (3, (.int x3))]) (st' := [(.int (1 : Int32)), (.ref 22)]) rfl (by exact trivial) (pc' := 17) rfl ?_
        refine hp_goto hm 0 rfl (tgt := 21) rfl ?_
        exact hp_lf [0, 1, 2, 3] rfl (fun _ e => e)
    · refine hp_cVT (M2 := M_Ma_want) hm (at1 4 rfl) (as := [(.int p1), (.int (9 : Int32))]) (rest := []) (z := 22) rfl (by exact trivial) (pc' := 23) rfl 2 rfl (lw_g (lw_at lw_m5 139 rfl) rfl) y_Ma_want rfl (d2 := 6) ⟨le_b rfl, pd_Ma_want, le_b rfl⟩ (le_b rfl) og_22 rfl (k_Ma_want p1 (9 : Int32) h) (fun _ h1 => ?_)
      refine hp_GW hm (at1 5 rfl) (L' := [(0, (.ref 22)), (1, (.int x1)), (2, (.int x2)), (3, (.int x3))]) rfl (fun hP => (by exact ⟨⟨⟨og_22, og_22⟩, og_22⟩, ⟨og_44, hP⟩⟩)) (pc' := 39) rfl (fun q3 h2 => ?_)
      refine hp_GW hm (at1 6 rfl) (L' := [(0, (.ref 22)), (1, (.int x1)), (2, (.int x2)), (3, (.int x3))]) rfl (fun hP => (by exact ⟨⟨⟨og_22, og_22⟩, og_22⟩, ⟨og_45, hP⟩⟩)) (pc' := 52) rfl (fun q4 h3 => ?_)
      refine hp_GW hm (at1 7 rfl) (L' := [(0, (.ref 22)), (1, (.int x1)), (2, (.int x2)), (3, (.int x3))]) rfl (fun hP => (by exact ⟨⟨og_22, og_22⟩, ⟨og_46, hP⟩⟩)) (pc' := 64) rfl (fun q5 h4 => ?_)
      refine hp_GW hm (at1 8 rfl) (L' := [(0, (.ref 22)), (1, (.int x1)), (2, (.int x2)), (3, (.int x3))]) rfl (fun hP => (by exact ⟨⟨og_22, og_22⟩, ⟨og_47, hP⟩⟩)) (pc' := 74) rfl (fun q6 h5 => ?_)
      refine hp_GW hm (at1 9 rfl) (L' := [(0, (.ref 22)), (1, (.int x1)), (2, (.int x2)), (3, (.int x3))]) rfl (fun hP => (by exact ⟨⟨og_22, og_22⟩, ⟨og_48, hP⟩⟩)) (pc' := 84) rfl (fun q7 h6 => ?_)
      refine hp_w hm (at1 10 rfl) (L' := [(0, (.ref 22)), (1, (.int x1)), (2, (.int x2)), (3, (.int x3))]) rfl (by exact ⟨og_22, og_22⟩) (pc' := 94) rfl (fun h7 => ?_)
      refine hp_w hm (at1 11 rfl) (L' := [(0, (.ref 22)), (1, (.int x1)), (2, (.int x2)), (3, (.int x3))]) rfl (by exact og_22) (pc' := 99) rfl (fun h8 => ?_)
      refine hp_w hm (at1 12 rfl) (L' := [(0, (.ref 22)), (1, (.int x1)), (2, (.int x2)), (3, (.int x3))]) rfl (by exact og_22) (pc' := 104) rfl (fun h9 => ?_)
      exact hp_vr hm 3 rfl rfl (fun _ e => e)
  · exact hp_vr hm 4 rfl rfl (fun _ e => e)
/-! HintHouse$Machine.unknown(I)V -/
def M_Ma_unknown : hM := (4, ⟨"HintHouse$Machine", "unknown", "(I)V"⟩, prog_6_method_36_code, 3, (Option.none : Option Jvm.ClassFile.FieldType), [], [(0, [(.aload_n 0, 1, 0, 0, 0, .null), (.iload_n 1, 1, 0, 0, 0, .null)]), (5, [(.istore_n 2, 1, 0, 0, 0, .null), (.aload_n 0, 1, 0, 0, 0, .null), (.iload_n 2, 1, 0, 0, 0, .null), (.aload_n 0, 1, 0, 0, 0, .null), (.getfield 90, 3, 4, 24, 0, .null)]), (19, [(.iconst 0, 1, 0, 0, 0, (.int (0 : Int32)))]), (15, [(.iconst 1, 1, 0, 0, 0, (.int (1 : Int32)))]), (20, [(.iconst 3, 1, 0, 0, 0, (.int (3 : Int32)))]), (24, [(.aload_n 0, 1, 0, 0, 0, .null), (.aload_n 0, 1, 0, 0, 0, .null), (.getfield 61, 3, 4, 26, 4, .null), (.iload_n 2, 1, 0, 0, 0, .null), (.iaload, 1, 0, 0, 0, .null), (.aload_n 0, 1, 0, 0, 0, .null), (.getfield 64, 3, 4, 27, 4, .null), (.iload_n 2, 1, 0, 0, 0, .null), (.iaload, 1, 0, 0, 0, .null), (.iconst 1, 1, 0, 0, 0, (.int (1 : Int32)))])], [(2, .invokevirtual 346, 3), (16, .goto 4, 3), (12, .if_icmp .ge 7, 3), (21, .invokevirtual 187, 3), (38, .invokevirtual 355, 3), (41, .return_, 1)])
set_option maxRecDepth 100000 in
theorem m_Ma_unknown : hx_mok M_Ma_unknown = true := by decide +kernel
theorem pd_Ma_unknown : (parseMethodDescriptor M_Ma_unknown.2.1.desc).map (fun q => q.parameters.length) = some 1 := by decide +kernel
theorem y_Ma_unknown : hx_okV M_Ma_unknown := ⟨⟨lw_g (lw_at lw_m6 74 rfl) rfl, lw_g (lw_at lw_m6 73 rfl) rfl, qs61, lw_g (lw_at lw_m1 5 rfl) rfl, rfl, by decide, by decide, by decide⟩, rfl, by decide, plainFor_of_name (by decide)⟩
noncomputable def f_Ma_unknown (x1 : Int32) (h : hH) : Option (hH ⊕ (Unit × hH)) :=
  bP (f_Ma_ownOf x1 h) fun a1 =>
  lz (A := Int32) (if (rdI h 22 24) ≤ a1 then (0 : Int32) else (1 : Int32)) fun p2 =>
  bT (f_Ma_want p2 (3 : Int32) h) fun _ h1 =>
  gd (vp_in a1 16) <|
  bT (f_Ma_call (rdI h1 52 (Int32.toNatClampNeg a1)) (rdI h1 53 (Int32.toNatClampNeg a1)) (1 : Int32) h1) fun _ h2 =>
  some (.inr ((), h2))
set_option maxRecDepth 20000 in
theorem k_Ma_unknown (x1 : Int32) (h : hH) : hx_kT S0 M_Ma_unknown 8 NT [(.ref 22), (.int x1)] h (f_Ma_unknown x1 h) cvU := by
  have hm := m_Ma_unknown
  show hx_P S0 M_Ma_unknown 8 0 [(0, (.ref 22)), (1, (.int x1))] [] NT h (f_Ma_unknown x1 h) (hx_T NT (hx_Rc cvU NT))
  unfold f_Ma_unknown
  refine hp_cVP (M2 := M_Ma_ownOf) hm (at1 0 rfl) (as := [(.int x1)]) (rest := []) (z := 22) rfl (by exact trivial) (pc' := 2) rfl 0 rfl (lw_g (lw_at lw_m6 75 rfl) rfl) y_Ma_ownOf rfl (d2 := 1) ⟨le_b rfl, pd_Ma_ownOf, le_b rfl⟩ (le_b rfl) og_22 (k_Ma_ownOf x1 h) (fun a1 => ?_)
  refine hp_b hm (at1 1 rfl) (L' := [(2, (.int a1)), (0, (.ref 22)), (1, (.int x1))]) (st' := [(.int (rdI h 22 24)), (.int a1), (.ref 22)]) rfl (by exact og_22) (pc' := 12) rfl ?_
  refine hp_JZ 20 (fun (p2 : Int32) => [(0, (.ref 22)), (2, (.int a1))]) (fun (p2 : Int32) => [(.int p2), (.ref 22)]) (fun (p2 : Int32) => h) ?_ (fun p2 => ?_)
  · refine hp_sv0 ?_
    refine hp_ic_ge hm at0 rfl (by exact trivial) (pc' := 12) rfl 2 rfl (tgt := 19) rfl (fun c3 => ?_) (fun c3 => ?_)
    · refine hp_b hm (at1 2 rfl) (L' := [(2, (.int a1)), (0, (.ref 22)), (1, (.int x1))]) (st' := [(.int (0 : Int32)), (.ref 22)]) rfl (by exact trivial) (pc' := 20) rfl ?_
      exact hp_lf [1, 0] rfl (fun _ e => e)
    · refine hp_b hm (at1 3 rfl) (L' := [(2, (.int a1)), (0, (.ref 22)), (1, (.int x1))]) (st' := [(.int (1 : Int32)), (.ref 22)]) rfl (by exact trivial) (pc' := 16) rfl ?_
      refine hp_goto hm 1 rfl (tgt := 20) rfl ?_
      exact hp_lf [1, 0] rfl (fun _ e => e)
  · refine hp_cVT (M2 := M_Ma_want) hm (at1 4 rfl) (as := [(.int p2), (.int (3 : Int32))]) (rest := []) (z := 22) rfl (by exact trivial) (pc' := 21) rfl 3 rfl (lw_g (lw_at lw_m5 139 rfl) rfl) y_Ma_want rfl (d2 := 6) ⟨le_b rfl, pd_Ma_want, le_b rfl⟩ (le_b rfl) og_22 rfl (k_Ma_want p2 (3 : Int32) h) (fun _ h1 => ?_)
    refine hp_G hm (at1 5 rfl) (L' := [(0, (.ref 22)), (2, (.int a1))]) (st' := [(.int (1 : Int32)), (.int (rdI h1 53 (Int32.toNatClampNeg a1))), (.int (rdI h1 52 (Int32.toNatClampNeg a1))), (.ref 22)]) rfl (fun hP => (by exact ⟨⟨⟨og_22, ⟨og_52, hP⟩⟩, og_22⟩, ⟨og_53, hP⟩⟩)) (pc' := 38) rfl (fun q4 => ?_)
    refine hp_cVT (M2 := M_Ma_call) hm at0 (as := [(.int (rdI h1 52 (Int32.toNatClampNeg a1))), (.int (rdI h1 53 (Int32.toNatClampNeg a1))), (.int (1 : Int32))]) (rest := []) (z := 22) rfl (by exact trivial) (pc' := 38) rfl 4 rfl (lw_g (lw_at lw_m6 79 rfl) rfl) y_Ma_call rfl (d2 := 7) ⟨le_b rfl, pd_Ma_call, le_b rfl⟩ (le_b rfl) og_22 rfl (k_Ma_call (rdI h1 52 (Int32.toNatClampNeg a1)) (rdI h1 53 (Int32.toNatClampNeg a1)) (1 : Int32) h1) (fun _ h2 => ?_)
    exact hp_vr hm 5 rfl rfl (fun _ e => e)
/-! HintHouse$Machine.vectors(I)V -/
def M_Ma_vectors : hM := (4, ⟨"HintHouse$Machine", "vectors", "(I)V"⟩, prog_6_method_40_code, 2, (Option.none : Option Jvm.ClassFile.FieldType), [], [(0, [(.iload_n 1, 1, 0, 0, 0, .null)]), (28, [(.aload_n 0, 1, 0, 0, 0, .null), (.aload_n 0, 1, 0, 0, 0, .null), (.getfield 206, 3, 4, 30, 0, .null), (.i2l, 1, 0, 0, 0, .null)]), (37, [(.aload_n 0, 1, 0, 0, 0, .null), (.aload_n 0, 1, 0, 0, 0, .null), (.getfield 209, 3, 4, 31, 0, .null), (.i2l, 1, 0, 0, 0, .null)]), (49, [(.aload_n 0, 1, 0, 0, 0, .null), (.aload_n 0, 1, 0, 0, 0, .null), (.getfield 200, 3, 4, 28, 0, .null), (.i2l, 1, 0, 0, 0, .null)]), (58, [(.aload_n 0, 1, 0, 0, 0, .null), (.aload_n 0, 1, 0, 0, 0, .null), (.getfield 203, 3, 4, 29, 0, .null), (.i2l, 1, 0, 0, 0, .null)]), (70, [(.aload_n 0, 1, 0, 0, 0, .null), (.aload_n 0, 1, 0, 0, 0, .null), (.getfield 206, 3, 4, 30, 0, .null), (.putfield 200, 3, 4, 28, 0, .null)]), (78, [(.aload_n 0, 1, 0, 0, 0, .null), (.aload_n 0, 1, 0, 0, 0, .null), (.getfield 209, 3, 4, 31, 0, .null), (.putfield 203, 3, 4, 29, 0, .null)]), (89, [(.aload_n 0, 1, 0, 0, 0, .null), (.iload_n 1, 1, 0, 0, 0, .null)])], [(1, .tableswitch 88 12 14 #[27, 48, 69], 27), (34, .invokevirtual 242, 3), (43, .invokevirtual 242, 3), (94, .return_, 1), (46, .goto 48, 3), (55, .invokevirtual 242, 3), (64, .invokevirtual 242, 3), (67, .goto 27, 3), (86, .goto 8, 3), (91, .invokevirtual 383, 3)])
set_option maxRecDepth 100000 in
theorem m_Ma_vectors : hx_mok M_Ma_vectors = true := by decide +kernel
theorem pd_Ma_vectors : (parseMethodDescriptor M_Ma_vectors.2.1.desc).map (fun q => q.parameters.length) = some 1 := by decide +kernel
theorem y_Ma_vectors : hx_okV M_Ma_vectors := ⟨⟨lw_g (lw_at lw_m6 70 rfl) rfl, lw_g (lw_at lw_m6 69 rfl) rfl, qs60, lw_g (lw_at lw_m1 5 rfl) rfl, rfl, by decide, by decide, by decide⟩, rfl, by decide, plainFor_of_name (by decide)⟩
noncomputable def f_Ma_vectors (x1 : Int32) (h : hH) : Option (hH ⊕ (Unit × hH)) :=
  if x1 = (12 : Int32) then (
    bT (f_Ma_push (Int32.toInt64 (rdI h 22 30)) h) fun _ h1 =>
    bT (f_Ma_push (Int32.toInt64 (rdI h1 22 31)) h1) fun _ h2 =>
    some (.inr ((), h2))
  ) else (
    if x1 = (13 : Int32) then (
      bT (f_Ma_push (Int32.toInt64 (rdI h 22 28)) h) fun _ h3 =>
      bT (f_Ma_push (Int32.toInt64 (rdI h3 22 29)) h3) fun _ h4 =>
      some (.inr ((), h4))
    ) else (
      if x1 = (14 : Int32) then (
        lz (wrI h 22 28 (rdI h 22 30)) fun h5 =>
        lz (wrI h5 22 29 (rdI h5 22 31)) fun h6 =>
        some (.inr ((), h6))
      ) else (
        bT (f_Ma_unknown x1 h) fun _ h7 =>
        some (.inr ((), h7))
      )
    )
  )
set_option maxRecDepth 20000 in
theorem k_Ma_vectors (x1 : Int32) (h : hH) : hx_kT S0 M_Ma_vectors 9 NT [(.ref 22), (.int x1)] h (f_Ma_vectors x1 h) cvU := by
  have hm := m_Ma_vectors
  show hx_P S0 M_Ma_vectors 9 0 [(0, (.ref 22)), (1, (.int x1))] [] NT h (f_Ma_vectors x1 h) (hx_T NT (hx_Rc cvU NT))
  unfold f_Ma_vectors
  refine hp_b hm (at1 0 rfl) (L' := [(0, (.ref 22)), (1, (.int x1))]) (st' := [(.int x1)]) rfl (by exact trivial) (pc' := 1) rfl ?_
  refine hp_sw hm 0 rfl (cs := [12]) (off := 27) (by decide) (tgt := 28) rfl (sw1 _ _) ?_ (fun c1 => ?_)
  · refine hp_cVT (M2 := M_Ma_push) hm (at1 1 rfl) (as := [(.long (Int32.toInt64 (rdI h 22 30)))]) (rest := []) (z := 22) rfl (by exact og_22) (pc' := 34) rfl 1 rfl (lw_g (lw_at lw_m6 42 rfl) rfl) y_Ma_push rfl (d2 := 7) ⟨le_b rfl, pd_Ma_push, le_b rfl⟩ (le_b rfl) og_22 rfl (k_Ma_push (Int32.toInt64 (rdI h 22 30)) h) (fun _ h1 => ?_)
    refine hp_cVT (M2 := M_Ma_push) hm (at1 2 rfl) (as := [(.long (Int32.toInt64 (rdI h1 22 31)))]) (rest := []) (z := 22) rfl (by exact og_22) (pc' := 43) rfl 2 rfl (lw_g (lw_at lw_m6 42 rfl) rfl) y_Ma_push rfl (d2 := 7) ⟨le_b rfl, pd_Ma_push, le_b rfl⟩ (le_b rfl) og_22 rfl (k_Ma_push (Int32.toInt64 (rdI h1 22 31)) h1) (fun _ h2 => ?_)
    refine hp_goto hm 4 rfl (tgt := 94) rfl ?_
    exact hp_vr hm 3 rfl rfl (fun _ e => e)
  · refine hp_sw hm 0 rfl (cs := [13]) (off := 48) (by decide) (tgt := 49) rfl (sw1 _ _) ?_ (fun c2 => ?_)
    · refine hp_cVT (M2 := M_Ma_push) hm (at1 3 rfl) (as := [(.long (Int32.toInt64 (rdI h 22 28)))]) (rest := []) (z := 22) rfl (by exact og_22) (pc' := 55) rfl 5 rfl (lw_g (lw_at lw_m6 42 rfl) rfl) y_Ma_push rfl (d2 := 7) ⟨le_b rfl, pd_Ma_push, le_b rfl⟩ (le_b rfl) og_22 rfl (k_Ma_push (Int32.toInt64 (rdI h 22 28)) h) (fun _ h3 => ?_)
      refine hp_cVT (M2 := M_Ma_push) hm (at1 4 rfl) (as := [(.long (Int32.toInt64 (rdI h3 22 29)))]) (rest := []) (z := 22) rfl (by exact og_22) (pc' := 64) rfl 6 rfl (lw_g (lw_at lw_m6 42 rfl) rfl) y_Ma_push rfl (d2 := 7) ⟨le_b rfl, pd_Ma_push, le_b rfl⟩ (le_b rfl) og_22 rfl (k_Ma_push (Int32.toInt64 (rdI h3 22 29)) h3) (fun _ h4 => ?_)
      refine hp_goto hm 7 rfl (tgt := 94) rfl ?_
      exact hp_vr hm 3 rfl rfl (fun _ e => e)
    · refine hp_sw hm 0 rfl (cs := [14]) (off := 69) (by decide) (tgt := 70) rfl (sw1 _ _) ?_ (fun c3 => ?_)
      · refine hp_w hm (at1 5 rfl) (L' := [(0, (.ref 22)), (1, (.int x1))]) rfl (by exact ⟨og_22, og_22⟩) (pc' := 78) rfl (fun h5 => ?_)
        refine hp_w hm (at1 6 rfl) (L' := [(0, (.ref 22)), (1, (.int x1))]) rfl (by exact ⟨og_22, og_22⟩) (pc' := 86) rfl (fun h6 => ?_)
        refine hp_goto hm 8 rfl (tgt := 94) rfl ?_
        exact hp_vr hm 3 rfl rfl (fun _ e => e)
      · refine hp_sd2 hm 0 rfl (css := [[12], [13], [14]]) (by decide) (by decide) (List.forall_mem_cons.mpr ⟨c1, (List.forall_mem_cons.mpr ⟨c2, (List.forall_mem_cons.mpr ⟨c3, (fun _ h => absurd h List.not_mem_nil)⟩)⟩)⟩) (tgt := 89) rfl ?_
        refine hp_cVT (M2 := M_Ma_unknown) hm (at1 7 rfl) (as := [(.int x1)]) (rest := []) (z := 22) rfl (by exact trivial) (pc' := 91) rfl 9 rfl (lw_g (lw_at lw_m6 71 rfl) rfl) y_Ma_unknown rfl (d2 := 8) ⟨le_b rfl, pd_Ma_unknown, le_b rfl⟩ (le_b rfl) og_22 rfl (k_Ma_unknown x1 h) (fun _ h7 => ?_)
        exact hp_vr hm 3 rfl rfl (fun _ e => e)
/-! HintHouse$Machine.pointers(I)V -/
def M_Ma_pointers : hM := (4, ⟨"HintHouse$Machine", "pointers", "(I)V"⟩, prog_6_method_41_code, 4, (Option.none : Option Jvm.ClassFile.FieldType), [], [(0, [(.aload_n 0, 1, 0, 0, 0, .null), (.iconst 1, 1, 0, 0, 0, (.int (1 : Int32)))]), (5, [(.aload_n 0, 1, 0, 0, 0, .null)]), (9, [(.istore_n 2, 1, 0, 0, 0, .null), (.iload_n 1, 1, 0, 0, 0, .null), (.bipush 19, 2, 0, 0, 0, (.int (19 : Int32)))]), (27, [(.aload_n 0, 1, 0, 0, 0, .null), (.iload_n 2, 1, 0, 0, 0, .null), (.iconst 1, 1, 0, 0, 0, (.int (1 : Int32)))]), (48, [(.iconst 1, 1, 0, 0, 0, (.int (1 : Int32)))]), (33, [(.iload_n 2, 1, 0, 0, 0, .null)]), (52, [(.iconst 0, 1, 0, 0, 0, (.int (0 : Int32)))]), (37, [(.aload_n 0, 1, 0, 0, 0, .null), (.getfield 73, 3, 4, 0, 4, .null), (.getfield 386, 3, 2, 9, 0, .null), (.iconst 2, 1, 0, 0, 0, (.int (2 : Int32)))]), (53, [(.iconst 5, 1, 0, 0, 0, (.int (5 : Int32)))]), (57, [(.iconst 0, 1, 0, 0, 0, (.int (0 : Int32))), (.istore_n 3, 1, 0, 0, 0, .null)]), (59, [(.iload_n 3, 1, 0, 0, 0, .null), (.iconst 3, 1, 0, 0, 0, (.int (3 : Int32)))]), (64, [(.aload_n 0, 1, 0, 0, 0, .null), (.getfield 70, 3, 4, 37, 4, .null), (.iload_n 3, 1, 0, 0, 0, .null), (.iload_n 1, 1, 0, 0, 0, .null), (.bipush 22, 2, 0, 0, 0, (.int (22 : Int32)))]), (83, [(.iload_n 2, 1, 0, 0, 0, .null)]), (75, [(.iload_n 3, 1, 0, 0, 0, .null), (.iload_n 1, 1, 0, 0, 0, .null), (.bipush 19, 2, 0, 0, 0, (.int (19 : Int32))), (.isub, 1, 0, 0, 0, .null)]), (87, [(.aload_n 0, 1, 0, 0, 0, .null), (.getfield 70, 3, 4, 37, 4, .null), (.iload_n 3, 1, 0, 0, 0, .null), (.iaload, 1, 0, 0, 0, .null)]), (93, [(.iastore, 1, 0, 0, 0, .null)]), (94, [(.iinc 3 1, 3, 0, 0, 0, (.int (1 : Int32)))]), (16, [(.aload_n 0, 1, 0, 0, 0, .null), (.getfield 67, 3, 4, 36, 4, .null), (.iload_n 1, 1, 0, 0, 0, .null), (.bipush 16, 2, 0, 0, 0, (.int (16 : Int32))), (.isub, 1, 0, 0, 0, .null), (.iload_n 2, 1, 0, 0, 0, .null), (.iastore, 1, 0, 0, 0, .null)])], [(2, .invokevirtual 334, 3), (6, .invokevirtual 337, 3), (49, .goto 4, 3), (45, .if_icmp .ne 7, 3), (34, .ifCond .ne 18, 3), (30, .if_icmp .eq 18, 3), (54, .invokevirtual 187, 3), (84, .goto 9, 3), (80, .if_icmp .ne 7, 3), (72, .if_icmp .eq 11, 3), (97, .goto (-38), 3), (61, .if_icmp .ge 39, 3), (100, .return_, 1), (26, .return_, 1), (13, .if_icmp .ge 14, 3)])
set_option maxRecDepth 100000 in
theorem m_Ma_pointers : hx_mok M_Ma_pointers = true := by decide +kernel
theorem pd_Ma_pointers : (parseMethodDescriptor M_Ma_pointers.2.1.desc).map (fun q => q.parameters.length) = some 1 := by decide +kernel
theorem y_Ma_pointers : hx_okV M_Ma_pointers := ⟨⟨lw_g (lw_at lw_m6 86 rfl) rfl, lw_g (lw_at lw_m6 85 rfl) rfl, qs64, lw_g (lw_at lw_m1 5 rfl) rfl, rfl, by decide, by decide, by decide⟩, rfl, by decide, plainFor_of_name (by decide)⟩
noncomputable def f_Ma_pointers (x1 : Int32) (h : hH) : Option (hH ⊕ (Unit × hH)) :=
  bT (f_Ma_need (1 : Int32) h) fun _ h1 =>
  bS (f_Ma_pop h1) fun a1 h2 =>
  if (19 : Int32) ≤ x1 then (
    lz (A := Int32) (if a1 = (1 : Int32) then (1 : Int32) else (if a1 = 0 then (if (rdI h2 4 9) = (2 : Int32) then (1 : Int32) else (0 : Int32)) else (0 : Int32))) fun p2 =>
    bT (f_Ma_want p2 (5 : Int32) h2) fun _ h3 =>
    bJT (P := hH) (
      whT (A := (Int32 × hH)) (B := hH) (fun p6 =>
          if (3 : Int32) ≤ p6.1 then (
            some (.inr (.inr p6.2))
          ) else (
            bJT (P := Int32) (
              if x1 = (22 : Int32) then (
                some (.inr a1)
              ) else (
                if p6.1 = (x1 - (19 : Int32)) then (
                  some (.inr a1)
                ) else (
                  gd (vp_in p6.1 3) <|
                  some (.inr (rdI p6.2 55 (Int32.toNatClampNeg p6.1)))
                )
              )
            ) fun p8 =>
            gd (vp_in p6.1 3) <|
            lz (wrI p6.2 55 (Int32.toNatClampNeg p6.1) p8) fun h4 =>
            lz (A := Int32) (p6.1 + (1 : Int32)) fun v13 =>
            some (.inr (.inl (v13, h4)))
          )
      ) ((0 : Int32), h3)
    ) fun p7 =>
    some (.inr ((), p7))
  ) else (
    gd (vp_in (x1 - (16 : Int32)) 3) <|
    lz (wrI h2 54 (Int32.toNatClampNeg (x1 - (16 : Int32))) a1) fun h5 =>
    some (.inr ((), h5))
  )
set_option maxRecDepth 20000 in
theorem k_Ma_pointers (x1 : Int32) (h : hH) : hx_kT S0 M_Ma_pointers 8 NT [(.ref 22), (.int x1)] h (f_Ma_pointers x1 h) cvU := by
  have hm := m_Ma_pointers
  show hx_P S0 M_Ma_pointers 8 0 [(0, (.ref 22)), (1, (.int x1))] [] NT h (f_Ma_pointers x1 h) (hx_T NT (hx_Rc cvU NT))
  unfold f_Ma_pointers
  refine hp_cVT (M2 := M_Ma_need) hm (at1 0 rfl) (as := [(.int (1 : Int32))]) (rest := []) (z := 22) rfl (by exact trivial) (pc' := 2) rfl 0 rfl (lw_g (lw_at lw_m5 217 rfl) rfl) y_Ma_need rfl (d2 := 7) ⟨le_b rfl, pd_Ma_need, le_b rfl⟩ (le_b rfl) og_22 rfl (k_Ma_need (1 : Int32) h) (fun _ h1 => ?_)
  refine hp_cVS (M2 := M_Ma_pop) hm (at1 1 rfl) (as := []) (rest := []) (z := 22) rfl (by exact trivial) (pc' := 6) rfl 1 rfl (lw_g (lw_at lw_m5 221 rfl) rfl) y_Ma_pop rfl (d2 := 1) ⟨le_b rfl, pd_Ma_pop, le_b rfl⟩ (le_b rfl) og_22 (k_Ma_pop h1) (fun a1 h2 => ?_)
  refine hp_b hm (at1 2 rfl) (L' := [(2, (.int a1)), (0, (.ref 22)), (1, (.int x1))]) (st' := [(.int (19 : Int32)), (.int x1)]) rfl (by exact trivial) (pc' := 13) rfl ?_
  refine hp_ic_ge hm at0 rfl (by exact trivial) (pc' := 13) rfl 14 rfl (tgt := 27) rfl (fun c16 => ?_) (fun c16 => ?_)
  · refine hp_JZ 53 (fun (p2 : Int32) => [(0, (.ref 22)), (1, (.int x1)), (2, (.int a1))]) (fun (p2 : Int32) => [(.int p2), (.ref 22)]) (fun (p2 : Int32) => h2) ?_ (fun p2 => ?_)
    · refine hp_sv0 ?_
      refine hp_ic_eq hm (at1 3 rfl) rfl (by exact trivial) (pc' := 30) rfl 5 rfl (tgt := 48) rfl (fun c5 => ?_) (fun c5 => ?_)
      · refine hp_b hm (at1 4 rfl) (L' := [(2, (.int a1)), (0, (.ref 22)), (1, (.int x1))]) (st' := [(.int (1 : Int32)), (.ref 22)]) rfl (by exact trivial) (pc' := 49) rfl ?_
        refine hp_goto hm 2 rfl (tgt := 53) rfl ?_
        exact hp_lf [1, 2, 0] rfl (fun _ e => e)
      · refine hp_sv0 ?_
        refine hp_if_ne hm (at1 5 rfl) rfl (by exact trivial) (pc' := 34) rfl 4 rfl (tgt := 52) rfl (fun c4 => ?_) (fun c4 => ?_)
        · refine hp_b hm (at1 6 rfl) (L' := [(2, (.int a1)), (0, (.ref 22)), (1, (.int x1))]) (st' := [(.int (0 : Int32)), (.ref 22)]) rfl (by exact trivial) (pc' := 53) rfl ?_
          exact hp_lf [1, 2, 0] rfl (fun _ e => e)
        · refine hp_sv0 ?_
          refine hp_ic_ne hm (at1 7 rfl) rfl (by exact ⟨og_22, og_4⟩) (pc' := 45) rfl 3 rfl (tgt := 52) rfl (fun c3 => ?_) (fun c3 => ?_)
          · refine hp_b hm (at1 6 rfl) (L' := [(2, (.int a1)), (0, (.ref 22)), (1, (.int x1))]) (st' := [(.int (0 : Int32)), (.ref 22)]) rfl (by exact trivial) (pc' := 53) rfl ?_
            exact hp_lf [1, 2, 0] rfl (fun _ e => e)
          · refine hp_b hm (at1 4 rfl) (L' := [(2, (.int a1)), (0, (.ref 22)), (1, (.int x1))]) (st' := [(.int (1 : Int32)), (.ref 22)]) rfl (by exact trivial) (pc' := 49) rfl ?_
            refine hp_goto hm 2 rfl (tgt := 53) rfl ?_
            exact hp_lf [1, 2, 0] rfl (fun _ e => e)
    · refine hp_cVT (M2 := M_Ma_want) hm (at1 8 rfl) (as := [(.int p2), (.int (5 : Int32))]) (rest := []) (z := 22) rfl (by exact trivial) (pc' := 54) rfl 6 rfl (lw_g (lw_at lw_m5 139 rfl) rfl) y_Ma_want rfl (d2 := 6) ⟨le_b rfl, pd_Ma_want, le_b rfl⟩ (le_b rfl) og_22 rfl (k_Ma_want p2 (5 : Int32) h2) (fun _ h3 => ?_)
      refine hp_b hm (at1 9 rfl) (L' := [(3, (.int (0 : Int32))), (0, (.ref 22)), (1, (.int x1)), (2, (.int a1))]) (st' := []) rfl (by exact trivial) (pc' := 59) rfl ?_
      refine hp_JT 100 (fun (p7 : hH) => []) (fun (p7 : hH) => []) (fun (p7 : hH) => p7) ?_ (fun p7 => ?_)
      · refine hp_s [1, 2, 3, 0] rfl (L' := [(0, (.ref 22)), (1, (.int x1)), (2, (.int a1)), (3, (.int (0 : Int32)))]) ?_
        refine hp_whT (fun (p6 : (Int32 × hH)) => [(0, (.ref 22)), (1, (.int x1)), (2, (.int a1)), (3, (.int p6.1))]) [] (fun (p6 : (Int32 × hH)) => p6.2) (fun p6 => ?_) ((0 : Int32), h3)
        refine hp_ic_ge hm (at1 10 rfl) rfl (by exact trivial) (pc' := 61) rfl 11 rfl (tgt := 100) rfl (fun c14 => ?_) (fun c14 => ?_)
        · exact hp_lf [] rfl (fun _ e => e)
        · refine hp_JT 93 (fun (p8 : Int32) => [(0, (.ref 22)), (1, (.int x1)), (2, (.int a1)), (3, (.int p6.1))]) (fun (p8 : Int32) => [(.int p8), (.int p6.1), (.ref 55)]) (fun (p8 : Int32) => p6.2) ?_ (fun p8 => ?_)
          · refine hp_ic_eq hm (at1 11 rfl) rfl (by exact og_22) (pc' := 72) rfl 9 rfl (tgt := 83) rfl (fun c11 => ?_) (fun c11 => ?_)
            · refine hp_b hm (at1 12 rfl) (L' := [(0, (.ref 22)), (1, (.int x1)), (2, (.int a1)), (3, (.int p6.1))]) (st' := [(.int a1), (.int p6.1), (.ref 55)]) rfl (by exact trivial) (pc' := 84) rfl ?_
              refine hp_goto hm 7 rfl (tgt := 93) rfl ?_
              exact hp_lf [0, 1, 2, 3] rfl (fun _ e => e)
            · refine hp_ic_ne hm (at1 13 rfl) rfl (by exact trivial) (pc' := 80) rfl 8 rfl (tgt := 87) rfl (fun c10 => ?_) (fun c10 => ?_)
              · refine hp_G hm (at1 14 rfl) (L' := [(0, (.ref 22)), (1, (.int x1)), (2, (.int a1)), (3, (.int p6.1))]) (st' := [(.int (rdI p6.2 55 (Int32.toNatClampNeg p6.1))), (.int p6.1), (.ref 55)]) rfl (fun hP => (by exact ⟨og_22, ⟨og_55, hP⟩⟩)) (pc' := 93) rfl (fun q9 => ?_)
                exact hp_lf [0, 1, 2, 3] rfl (fun _ e => e)
              · refine hp_b hm (at1 12 rfl) (L' := [(0, (.ref 22)), (1, (.int x1)), (2, (.int a1)), (3, (.int p6.1))]) (st' := [(.int a1), (.int p6.1), (.ref 55)]) rfl (by exact trivial) (pc' := 84) rfl ?_
                refine hp_goto hm 7 rfl (tgt := 93) rfl ?_
                exact hp_lf [0, 1, 2, 3] rfl (fun _ e => e)
          · refine hp_GW hm (at1 15 rfl) (L' := [(0, (.ref 22)), (1, (.int x1)), (2, (.int a1)), (3, (.int p6.1))]) rfl (fun hP => (by exact ⟨og_55, hP⟩)) (pc' := 94) rfl (fun q12 h4 => ?_)
            refine hp_z hm (at1 16 rfl) (fun (v13 : Int32) => [(3, (.int v13)), (0, (.ref 22)), (1, (.int x1)), (2, (.int a1))]) (fun (v13 : Int32) => []) rfl (by exact trivial) (pc' := 97) rfl (fun v13 => ?_)
            refine hp_goto hm 10 rfl (tgt := 59) rfl ?_
            exact hp_lf [1, 2, 3, 0] rfl (fun _ e => e)
      · exact hp_vr hm 12 rfl rfl (fun _ e => e)
  · refine hp_GW hm (at1 17 rfl) (L' := [(2, (.int a1)), (0, (.ref 22)), (1, (.int x1))]) rfl (fun hP => (by exact ⟨og_22, ⟨og_54, hP⟩⟩)) (pc' := 26) rfl (fun q15 h5 => ?_)
    exact hp_vr hm 13 rfl rfl (fun _ e => e)
/-! HintHouse$Machine.lengthAt(I)I -/
def M_Ma_lengthAt : hM := (4, ⟨"HintHouse$Machine", "lengthAt", "(I)I"⟩, prog_6_method_27_code, 4, (Option.some Jvm.ClassFile.FieldType.int), [], [(0, [(.aload_n 0, 1, 0, 0, 0, .null), (.iload_n 1, 1, 0, 0, 0, .null)]), (5, [(.istore_n 2, 1, 0, 0, 0, .null), (.iload_n 2, 1, 0, 0, 0, .null), (.bipush 64, 2, 0, 0, 0, (.int (64 : Int32)))]), (24, [(.iload_n 2, 1, 0, 0, 0, .null), (.bipush 65, 2, 0, 0, 0, (.int (65 : Int32)))]), (44, [(.iload_n 2, 1, 0, 0, 0, .null), (.sipush 176, 3, 0, 0, 0, (.int (176 : Int32)))]), (51, [(.iload_n 2, 1, 0, 0, 0, .null), (.sipush 184, 3, 0, 0, 0, (.int (184 : Int32)))]), (66, [(.iload_n 2, 1, 0, 0, 0, .null), (.sipush 184, 3, 0, 0, 0, (.int (184 : Int32)))]), (92, [(.iconst 1, 1, 0, 0, 0, (.int (1 : Int32)))]), (73, [(.iload_n 2, 1, 0, 0, 0, .null), (.sipush 192, 3, 0, 0, 0, (.int (192 : Int32)))]), (80, [(.iconst 1, 1, 0, 0, 0, (.int (1 : Int32))), (.iconst 2, 1, 0, 0, 0, (.int (2 : Int32))), (.iload_n 2, 1, 0, 0, 0, .null), (.sipush 183, 3, 0, 0, 0, (.int (183 : Int32))), (.isub, 1, 0, 0, 0, .null), (.imul, 1, 0, 0, 0, .null), (.iadd, 1, 0, 0, 0, .null)]), (58, [(.iload_n 2, 1, 0, 0, 0, .null), (.sipush 174, 3, 0, 0, 0, (.int (174 : Int32))), (.isub, 1, 0, 0, 0, .null)]), (30, [(.iconst 2, 1, 0, 0, 0, (.int (2 : Int32))), (.iconst 2, 1, 0, 0, 0, (.int (2 : Int32))), (.aload_n 0, 1, 0, 0, 0, .null), (.iload_n 1, 1, 0, 0, 0, .null), (.iconst 1, 1, 0, 0, 0, (.int (1 : Int32))), (.iadd, 1, 0, 0, 0, .null)]), (39, [(.imul, 1, 0, 0, 0, .null), (.iadd, 1, 0, 0, 0, .null)]), (12, [(.iconst 2, 1, 0, 0, 0, (.int (2 : Int32))), (.aload_n 0, 1, 0, 0, 0, .null), (.iload_n 1, 1, 0, 0, 0, .null), (.iconst 1, 1, 0, 0, 0, (.int (1 : Int32))), (.iadd, 1, 0, 0, 0, .null)]), (20, [(.iadd, 1, 0, 0, 0, .null)]), (93, [(.istore_n 3, 1, 0, 0, 0, .null), (.aload_n 0, 1, 0, 0, 0, .null), (.iload_n 1, 1, 0, 0, 0, .null), (.iload_n 3, 1, 0, 0, 0, .null), (.iadd, 1, 0, 0, 0, .null), (.aload_n 0, 1, 0, 0, 0, .null), (.getfield 31, 3, 4, 10, 4, .null), (.aload_n 0, 1, 0, 0, 0, .null), (.getfield 158, 3, 4, 7, 0, .null), (.iaload, 1, 0, 0, 0, .null)]), (114, [(.iconst 0, 1, 0, 0, 0, (.int (0 : Int32)))]), (110, [(.iconst 1, 1, 0, 0, 0, (.int (1 : Int32)))]), (115, [(.iconst 4, 1, 0, 0, 0, (.int (4 : Int32)))]), (119, [(.iload_n 3, 1, 0, 0, 0, .null)])], [(2, .invokevirtual 197, 3), (55, .if_icmp .ge 11, 3), (48, .if_icmp .lt 18, 3), (89, .goto 4, 3), (77, .if_icmp .ge 15, 3), (70, .if_icmp .lt 22, 3), (63, .goto 30, 3), (36, .invokevirtual 197, 3), (41, .goto 52, 3), (27, .if_icmp .ne 17, 3), (17, .invokevirtual 197, 3), (21, .goto 72, 3), (9, .if_icmp .ne 15, 3), (111, .goto 4, 3), (107, .if_icmp .gt 7, 3), (116, .invokevirtual 187, 3), (120, .ireturn, 1)])
set_option maxRecDepth 100000 in
theorem m_Ma_lengthAt : hx_mok M_Ma_lengthAt = true := by decide +kernel
theorem pd_Ma_lengthAt : (parseMethodDescriptor M_Ma_lengthAt.2.1.desc).map (fun q => q.parameters.length) = some 1 := by decide +kernel
theorem y_Ma_lengthAt : hx_okV M_Ma_lengthAt := ⟨⟨lw_g (lw_at lw_m6 98 rfl) rfl, lw_g (lw_at lw_m6 97 rfl) rfl, qs67, lw_g (lw_at lw_m1 5 rfl) rfl, rfl, by decide, by decide, by decide⟩, rfl, by decide, plainFor_of_name (by decide)⟩
noncomputable def f_Ma_lengthAt (x1 : Int32) (h : hH) : Option (hH ⊕ (Int32 × hH)) :=
  bT (f_Ma_byteAt x1 h) fun a1 h1 =>
  bJT (P := (Int32 × hH)) (
    if a1 = (64 : Int32) then (
      bT (f_Ma_byteAt (x1 + (1 : Int32)) h1) fun a12 h3 =>
      some (.inr (((2 : Int32) + a12), h3))
    ) else (
      if a1 = (65 : Int32) then (
        bT (f_Ma_byteAt (x1 + (1 : Int32)) h1) fun a10 h2 =>
        some (.inr (((2 : Int32) + ((2 : Int32) * a10)), h2))
      ) else (
        if (a1 < (176 : Int32) ∨ (184 : Int32) ≤ a1) then (
          if a1 < (184 : Int32) then (
            some (.inr ((1 : Int32), h1))
          ) else (
            if (192 : Int32) ≤ a1 then (
              some (.inr ((1 : Int32), h1))
            ) else (
              some (.inr (((1 : Int32) + ((2 : Int32) * (a1 - (183 : Int32)))), h1))
            )
          )
        ) else (
          some (.inr ((a1 - (174 : Int32)), h1))
        )
      )
    )
  ) fun p2 =>
  gd (vp_in (rdI p2.2 22 7) 3) <|
  lz (A := Int32) (if (rdI p2.2 42 (Int32.toNatClampNeg (rdI p2.2 22 7))) < (x1 + p2.1) then (0 : Int32) else (1 : Int32)) fun p15 =>
  bT (f_Ma_want p15 (4 : Int32) p2.2) fun _ h4 =>
  some (.inr (p2.1, h4))
set_option maxRecDepth 20000 in
theorem k_Ma_lengthAt (x1 : Int32) (h : hH) : hx_kT S0 M_Ma_lengthAt 8 NT [(.ref 22), (.int x1)] h (f_Ma_lengthAt x1 h) cvI := by
  have hm := m_Ma_lengthAt
  show hx_P S0 M_Ma_lengthAt 8 0 [(0, (.ref 22)), (1, (.int x1))] [] NT h (f_Ma_lengthAt x1 h) (hx_T NT (hx_Rc cvI NT))
  unfold f_Ma_lengthAt
  refine hp_cVT (M2 := M_Ma_byteAt) hm (at1 0 rfl) (as := [(.int x1)]) (rest := []) (z := 22) rfl (by exact trivial) (pc' := 2) rfl 0 rfl (lw_g (lw_at lw_m5 208 rfl) rfl) y_Ma_byteAt rfl (d2 := 7) ⟨le_b rfl, pd_Ma_byteAt, le_b rfl⟩ (le_b rfl) og_22 rfl (k_Ma_byteAt x1 h) (fun a1 h1 => ?_)
  refine hp_b hm (at1 1 rfl) (L' := [(2, (.int a1)), (0, (.ref 22)), (1, (.int x1))]) (st' := [(.int (64 : Int32)), (.int a1)]) rfl (by exact trivial) (pc' := 9) rfl ?_
  refine hp_JT 93 (fun (p2 : (Int32 × hH)) => [(0, (.ref 22)), (1, (.int x1))]) (fun (p2 : (Int32 × hH)) => [(.int p2.1)]) (fun (p2 : (Int32 × hH)) => p2.2) ?_ (fun p2 => ?_)
  · refine hp_ic_ne hm at0 rfl (by exact trivial) (pc' := 9) rfl 12 rfl (tgt := 24) rfl (fun c13 => ?_) (fun c13 => ?_)
    · refine hp_ic_ne hm (at1 2 rfl) rfl (by exact trivial) (pc' := 27) rfl 9 rfl (tgt := 44) rfl (fun c11 => ?_) (fun c11 => ?_)
      · refine hp_cI (L0 := [(2, (.int a1)), (0, (.ref 22)), (1, (.int x1))]) (s0 := []) 66 58 ?_ (fun c7 => ?_) (fun c7 => ?_)
        · refine hp_or ?_
          refine hp_ic_lt hm (at1 3 rfl) rfl (by exact trivial) (pc' := 48) rfl 2 rfl (tgt := 66) rfl (fun c6 => ?_) (fun c6 => ?_)
          · exact hp_l0 (fun _ e => e)
          · refine hp_dec ?_
            refine hp_ic_ge hm (at1 4 rfl) rfl (by exact trivial) (pc' := 55) rfl 1 rfl (tgt := 66) rfl (fun c5 => ?_) (fun c5 => ?_)
            · exact hp_l0 (fun _ e => e)
            · exact hp_l0 (fun _ e => e)
        · refine hp_ic_lt hm (at1 5 rfl) rfl (by exact trivial) (pc' := 70) rfl 5 rfl (tgt := 92) rfl (fun c9 => ?_) (fun c9 => ?_)
          · refine hp_b hm (at1 6 rfl) (L' := [(2, (.int a1)), (0, (.ref 22)), (1, (.int x1))]) (st' := [(.int (1 : Int32))]) rfl (by exact trivial) (pc' := 93) rfl ?_
            exact hp_lf [1, 2] rfl (fun _ e => e)
          · refine hp_ic_ge hm (at1 7 rfl) rfl (by exact trivial) (pc' := 77) rfl 4 rfl (tgt := 92) rfl (fun c8 => ?_) (fun c8 => ?_)
            · refine hp_b hm (at1 6 rfl) (L' := [(2, (.int a1)), (0, (.ref 22)), (1, (.int x1))]) (st' := [(.int (1 : Int32))]) rfl (by exact trivial) (pc' := 93) rfl ?_
              exact hp_lf [1, 2] rfl (fun _ e => e)
            · refine hp_b hm (at1 8 rfl) (L' := [(2, (.int a1)), (0, (.ref 22)), (1, (.int x1))]) (st' := [(.int ((1 : Int32) + ((2 : Int32) * (a1 - (183 : Int32)))))]) rfl (by exact trivial) (pc' := 89) rfl ?_
              refine hp_goto hm 3 rfl (tgt := 93) rfl ?_
              exact hp_lf [1, 2] rfl (fun _ e => e)
        · refine hp_b hm (at1 9 rfl) (L' := [(2, (.int a1)), (0, (.ref 22)), (1, (.int x1))]) (st' := [(.int (a1 - (174 : Int32)))]) rfl (by exact trivial) (pc' := 63) rfl ?_
          refine hp_goto hm 6 rfl (tgt := 93) rfl ?_
          exact hp_lf [1, 2] rfl (fun _ e => e)
      · refine hp_cVT (M2 := M_Ma_byteAt) hm (at1 10 rfl) (as := [(.int (x1 + (1 : Int32)))]) (rest := [(.int (2 : Int32)), (.int (2 : Int32))]) (z := 22) rfl (by exact trivial) (pc' := 36) rfl 7 rfl (lw_g (lw_at lw_m5 208 rfl) rfl) y_Ma_byteAt rfl (d2 := 7) ⟨le_b rfl, pd_Ma_byteAt, le_b rfl⟩ (le_b rfl) og_22 rfl (k_Ma_byteAt (x1 + (1 : Int32)) h1) (fun a10 h2 => ?_)
        refine hp_b hm (at1 11 rfl) (L' := [(2, (.int a1)), (0, (.ref 22)), (1, (.int x1))]) (st' := [(.int ((2 : Int32) + ((2 : Int32) * a10)))]) rfl (by exact trivial) (pc' := 41) rfl ?_
        refine hp_goto hm 8 rfl (tgt := 93) rfl ?_
        exact hp_lf [1, 2] rfl (fun _ e => e)
    · refine hp_cVT (M2 := M_Ma_byteAt) hm (at1 12 rfl) (as := [(.int (x1 + (1 : Int32)))]) (rest := [(.int (2 : Int32))]) (z := 22) rfl (by exact trivial) (pc' := 17) rfl 10 rfl (lw_g (lw_at lw_m5 208 rfl) rfl) y_Ma_byteAt rfl (d2 := 7) ⟨le_b rfl, pd_Ma_byteAt, le_b rfl⟩ (le_b rfl) og_22 rfl (k_Ma_byteAt (x1 + (1 : Int32)) h1) (fun a12 h3 => ?_)
      refine hp_b hm (at1 13 rfl) (L' := [(2, (.int a1)), (0, (.ref 22)), (1, (.int x1))]) (st' := [(.int ((2 : Int32) + a12))]) rfl (by exact trivial) (pc' := 21) rfl ?_
      refine hp_goto hm 11 rfl (tgt := 93) rfl ?_
      exact hp_lf [1, 2] rfl (fun _ e => e)
  · refine hp_G hm (at1 14 rfl) (L' := [(3, (.int p2.1)), (0, (.ref 22)), (1, (.int x1))]) (st' := [(.int (rdI p2.2 42 (Int32.toNatClampNeg (rdI p2.2 22 7)))), (.int (x1 + p2.1)), (.ref 22)]) rfl (fun hP => (by exact ⟨⟨og_22, og_22⟩, ⟨og_42, hP⟩⟩)) (pc' := 107) rfl (fun q14 => ?_)
    refine hp_JZ 115 (fun (p15 : Int32) => [(3, (.int p2.1))]) (fun (p15 : Int32) => [(.int p15), (.ref 22)]) (fun (p15 : Int32) => p2.2) ?_ (fun p15 => ?_)
    · refine hp_sv0 ?_
      refine hp_ic_gt hm at0 rfl (by exact trivial) (pc' := 107) rfl 14 rfl (tgt := 114) rfl (fun c16 => ?_) (fun c16 => ?_)
      · refine hp_b hm (at1 15 rfl) (L' := [(3, (.int p2.1)), (0, (.ref 22)), (1, (.int x1))]) (st' := [(.int (0 : Int32)), (.ref 22)]) rfl (by exact trivial) (pc' := 115) rfl ?_
        exact hp_lf [0] rfl (fun _ e => e)
      · refine hp_b hm (at1 16 rfl) (L' := [(3, (.int p2.1)), (0, (.ref 22)), (1, (.int x1))]) (st' := [(.int (1 : Int32)), (.ref 22)]) rfl (by exact trivial) (pc' := 111) rfl ?_
        refine hp_goto hm 13 rfl (tgt := 115) rfl ?_
        exact hp_lf [0] rfl (fun _ e => e)
    · refine hp_cVT (M2 := M_Ma_want) hm (at1 17 rfl) (as := [(.int p15), (.int (4 : Int32))]) (rest := []) (z := 22) rfl (by exact trivial) (pc' := 116) rfl 15 rfl (lw_g (lw_at lw_m5 139 rfl) rfl) y_Ma_want rfl (d2 := 6) ⟨le_b rfl, pd_Ma_want, le_b rfl⟩ (le_b rfl) og_22 rfl (k_Ma_want p15 (4 : Int32) p2.2) (fun _ h4 => ?_)
      exact hp_ir hm (at1 18 rfl) rfl (by exact trivial) (pc' := 120) rfl 16 rfl rfl (vp_nar_int _) (fun _ e => e)
/-! HintHouse$Machine.passIf(Z)V -/
def M_Ma_passIf : hM := (4, ⟨"HintHouse$Machine", "passIf", "(Z)V"⟩, prog_6_method_28_code, 4, (Option.none : Option Jvm.ClassFile.FieldType), [], [(0, [(.iconst 1, 1, 0, 0, 0, (.int (1 : Int32))), (.istore_n 2, 1, 0, 0, 0, .null)]), (2, [(.iload_n 2, 1, 0, 0, 0, .null)]), (6, [(.aload_n 0, 1, 0, 0, 0, .null), (.aload_n 0, 1, 0, 0, 0, .null), (.getfield 164, 3, 4, 11, 0, .null)]), (14, [(.istore_n 3, 1, 0, 0, 0, .null), (.aload_n 0, 1, 0, 0, 0, .null), (.dup, 1, 0, 0, 0, .null), (.getfield 164, 3, 4, 11, 0, .null), (.aload_n 0, 1, 0, 0, 0, .null), (.aload_n 0, 1, 0, 0, 0, .null), (.getfield 164, 3, 4, 11, 0, .null)]), (28, [(.iadd, 1, 0, 0, 0, .null), (.putfield 164, 3, 4, 11, 0, .null)]), (32, [(.iload_n 2, 1, 0, 0, 0, .null), (.iload_n 3, 1, 0, 0, 0, .null), (.bipush 88, 2, 0, 0, 0, (.int (88 : Int32)))]), (43, [(.iload_n 3, 1, 0, 0, 0, .null), (.bipush 89, 2, 0, 0, 0, (.int (89 : Int32)))]), (53, [(.iconst 0, 1, 0, 0, 0, (.int (0 : Int32)))]), (49, [(.iconst (-1), 1, 0, 0, 0, (.int (-1 : Int32)))]), (39, [(.iconst 1, 1, 0, 0, 0, (.int (1 : Int32)))]), (54, [(.iadd, 1, 0, 0, 0, .null), (.istore_n 2, 1, 0, 0, 0, .null)]), (56, [(.iload_n 1, 1, 0, 0, 0, .null)]), (75, [(.iload_n 2, 1, 0, 0, 0, .null)]), (60, [(.iload_n 3, 1, 0, 0, 0, .null), (.bipush 27, 2, 0, 0, 0, (.int (27 : Int32)))]), (66, [(.iload_n 2, 1, 0, 0, 0, .null), (.iconst 1, 1, 0, 0, 0, (.int (1 : Int32)))]), (71, [(.iconst 0, 1, 0, 0, 0, (.int (0 : Int32)))]), (76, [(.istore_n 2, 1, 0, 0, 0, .null)])], [(11, .invokevirtual 197, 3), (25, .invokevirtual 328, 3), (50, .goto 4, 3), (46, .if_icmp .ne 7, 3), (40, .goto 14, 3), (36, .if_icmp .ne 7, 3), (72, .goto 4, 3), (68, .if_icmp .ne 7, 3), (63, .if_icmp .ne 12, 3), (57, .ifCond .eq 18, 3), (77, .goto (-75), 3), (3, .ifCond .le 77, 3), (80, .return_, 1)])
set_option maxRecDepth 100000 in
theorem m_Ma_passIf : hx_mok M_Ma_passIf = true := by decide +kernel
theorem pd_Ma_passIf : (parseMethodDescriptor M_Ma_passIf.2.1.desc).map (fun q => q.parameters.length) = some 1 := by decide +kernel
theorem y_Ma_passIf : hx_okV M_Ma_passIf := ⟨⟨lw_g (lw_at lw_m6 94 rfl) rfl, lw_g (lw_at lw_m6 93 rfl) rfl, qs66, lw_g (lw_at lw_m1 5 rfl) rfl, rfl, by decide, by decide, by decide⟩, rfl, by decide, plainFor_of_name (by decide)⟩
noncomputable def f_Ma_passIf (x1 : Int32) (h : hH) : Option (hH ⊕ (Unit × hH)) :=
  bJT (P := hH) (
    whT (A := (Int32 × hH)) (B := hH) (fun p1 =>
        if p1.1 ≤ 0 then (
          some (.inr (.inr p1.2))
        ) else (
          bT (f_Ma_byteAt (rdI p1.2 22 11) p1.2) fun a3 h1 =>
          bT (f_Ma_lengthAt (rdI h1 22 11) h1) fun a4 h2 =>
          lz (wrI h2 22 11 ((rdI h1 22 11) + a4)) fun h3 =>
          lz (A := Int32) (if a3 = (88 : Int32) then (1 : Int32) else (if a3 = (89 : Int32) then (-1 : Int32) else (0 : Int32))) fun p5 =>
          lz (A := Int32) (p1.1 + p5) fun v8 =>
          lz (A := Int32) (if x1 = 0 then v8 else (if a3 = (27 : Int32) then (if v8 = (1 : Int32) then (0 : Int32) else v8) else v8)) fun p9 =>
          some (.inr (.inl (p9, h3)))
        )
    ) ((1 : Int32), h)
  ) fun p2 =>
  some (.inr ((), p2))
set_option maxRecDepth 20000 in
theorem k_Ma_passIf (x1 : Int32) (h : hH) : hx_kT S0 M_Ma_passIf 9 NT [(.ref 22), (.int x1)] h (f_Ma_passIf x1 h) cvU := by
  have hm := m_Ma_passIf
  show hx_P S0 M_Ma_passIf 9 0 [(0, (.ref 22)), (1, (.int x1))] [] NT h (f_Ma_passIf x1 h) (hx_T NT (hx_Rc cvU NT))
  unfold f_Ma_passIf
  refine hp_b hm (at1 0 rfl) (L' := [(2, (.int (1 : Int32))), (0, (.ref 22)), (1, (.int x1))]) (st' := []) rfl (by exact trivial) (pc' := 2) rfl ?_
  refine hp_JT 80 (fun (p2 : hH) => []) (fun (p2 : hH) => []) (fun (p2 : hH) => p2) ?_ (fun p2 => ?_)
  · refine hp_s [1, 2, 0] rfl (L' := [(0, (.ref 22)), (1, (.int x1)), (2, (.int (1 : Int32)))]) ?_
    refine hp_whT (fun (p1 : (Int32 × hH)) => [(0, (.ref 22)), (1, (.int x1)), (2, (.int p1.1))]) [] (fun (p1 : (Int32 × hH)) => p1.2) (fun p1 => ?_) ((1 : Int32), h)
    refine hp_if_le hm (at1 1 rfl) rfl (by exact trivial) (pc' := 3) rfl 11 rfl (tgt := 80) rfl (fun c13 => ?_) (fun c13 => ?_)
    · exact hp_lf [] rfl (fun _ e => e)
    · refine hp_cVT (M2 := M_Ma_byteAt) hm (at1 2 rfl) (as := [(.int (rdI p1.2 22 11))]) (rest := []) (z := 22) rfl (by exact og_22) (pc' := 11) rfl 0 rfl (lw_g (lw_at lw_m5 208 rfl) rfl) y_Ma_byteAt rfl (d2 := 7) ⟨le_b rfl, pd_Ma_byteAt, le_b rfl⟩ (le_b rfl) og_22 rfl (k_Ma_byteAt (rdI p1.2 22 11) p1.2) (fun a3 h1 => ?_)
      refine hp_b hm (at1 3 rfl) (L' := [(3, (.int a3)), (0, (.ref 22)), (1, (.int x1)), (2, (.int p1.1))]) (st' := [(.int (rdI h1 22 11)), (.ref 22), (.int (rdI h1 22 11)), (.ref 22)]) rfl (by exact ⟨og_22, og_22⟩) (pc' := 25) rfl ?_
      refine hp_cVT (M2 := M_Ma_lengthAt) hm at0 (as := [(.int (rdI h1 22 11))]) (rest := [(.int (rdI h1 22 11)), (.ref 22)]) (z := 22) rfl (by exact trivial) (pc' := 25) rfl 1 rfl (lw_g (lw_at lw_m6 95 rfl) rfl) y_Ma_lengthAt rfl (d2 := 8) ⟨le_b rfl, pd_Ma_lengthAt, le_b rfl⟩ (le_b rfl) og_22 rfl (k_Ma_lengthAt (rdI h1 22 11) h1) (fun a4 h2 => ?_)
      refine hp_w hm (at1 4 rfl) (L' := [(3, (.int a3)), (0, (.ref 22)), (1, (.int x1)), (2, (.int p1.1))]) rfl (by exact og_22) (pc' := 32) rfl (fun h3 => ?_)
      refine hp_JZ 54 (fun (p5 : Int32) => [(0, (.ref 22)), (1, (.int x1)), (3, (.int a3))]) (fun (p5 : Int32) => [(.int p5), (.int p1.1)]) (fun (p5 : Int32) => h3) ?_ (fun p5 => ?_)
      · refine hp_sv0 ?_
        refine hp_ic_ne hm (at1 5 rfl) rfl (by exact trivial) (pc' := 36) rfl 5 rfl (tgt := 43) rfl (fun c7 => ?_) (fun c7 => ?_)
        · refine hp_sv0 ?_
          refine hp_ic_ne hm (at1 6 rfl) rfl (by exact trivial) (pc' := 46) rfl 3 rfl (tgt := 53) rfl (fun c6 => ?_) (fun c6 => ?_)
          · refine hp_b hm (at1 7 rfl) (L' := [(3, (.int a3)), (0, (.ref 22)), (1, (.int x1)), (2, (.int p1.1))]) (st' := [(.int (0 : Int32)), (.int p1.1)]) rfl (by exact trivial) (pc' := 54) rfl ?_
            exact hp_lf [1, 2, 0] rfl (fun _ e => e)
          · refine hp_b hm (at1 8 rfl) (L' := [(3, (.int a3)), (0, (.ref 22)), (1, (.int x1)), (2, (.int p1.1))]) (st' := [(.int (-1 : Int32)), (.int p1.1)]) rfl (by exact trivial) (pc' := 50) rfl ?_
            refine hp_goto hm 2 rfl (tgt := 54) rfl ?_
            exact hp_lf [1, 2, 0] rfl (fun _ e => e)
        · refine hp_b hm (at1 9 rfl) (L' := [(3, (.int a3)), (0, (.ref 22)), (1, (.int x1)), (2, (.int p1.1))]) (st' := [(.int (1 : Int32)), (.int p1.1)]) rfl (by exact trivial) (pc' := 40) rfl ?_
          refine hp_goto hm 4 rfl (tgt := 54) rfl ?_
          exact hp_lf [1, 2, 0] rfl (fun _ e => e)
      · refine hp_z hm (at1 10 rfl) (fun (v8 : Int32) => [(2, (.int v8)), (0, (.ref 22)), (1, (.int x1)), (3, (.int a3))]) (fun (v8 : Int32) => []) rfl (by exact trivial) (pc' := 56) rfl (fun v8 => ?_)
        refine hp_JZ 76 (fun (p9 : Int32) => [(0, (.ref 22)), (1, (.int x1))]) (fun (p9 : Int32) => [(.int p9)]) (fun (p9 : Int32) => h3) ?_ (fun p9 => ?_)
        · refine hp_sv0 ?_
          refine hp_if_eq hm (at1 11 rfl) rfl (by exact trivial) (pc' := 57) rfl 9 rfl (tgt := 75) rfl (fun c12 => ?_) (fun c12 => ?_)
          · refine hp_b hm (at1 12 rfl) (L' := [(2, (.int v8)), (0, (.ref 22)), (1, (.int x1)), (3, (.int a3))]) (st' := [(.int v8)]) rfl (by exact trivial) (pc' := 76) rfl ?_
            exact hp_lf [1, 2] rfl (fun _ e => e)
          · refine hp_sv0 ?_
            refine hp_ic_ne hm (at1 13 rfl) rfl (by exact trivial) (pc' := 63) rfl 8 rfl (tgt := 75) rfl (fun c11 => ?_) (fun c11 => ?_)
            · refine hp_b hm (at1 12 rfl) (L' := [(2, (.int v8)), (0, (.ref 22)), (1, (.int x1)), (3, (.int a3))]) (st' := [(.int v8)]) rfl (by exact trivial) (pc' := 76) rfl ?_
              exact hp_lf [1, 2] rfl (fun _ e => e)
            · refine hp_sv0 ?_
              refine hp_ic_ne hm (at1 14 rfl) rfl (by exact trivial) (pc' := 68) rfl 7 rfl (tgt := 75) rfl (fun c10 => ?_) (fun c10 => ?_)
              · refine hp_b hm (at1 12 rfl) (L' := [(2, (.int v8)), (0, (.ref 22)), (1, (.int x1)), (3, (.int a3))]) (st' := [(.int v8)]) rfl (by exact trivial) (pc' := 76) rfl ?_
                exact hp_lf [1, 2] rfl (fun _ e => e)
              · refine hp_b hm (at1 15 rfl) (L' := [(2, (.int v8)), (0, (.ref 22)), (1, (.int x1)), (3, (.int a3))]) (st' := [(.int (0 : Int32))]) rfl (by exact trivial) (pc' := 72) rfl ?_
                refine hp_goto hm 6 rfl (tgt := 76) rfl ?_
                exact hp_lf [1, 2] rfl (fun _ e => e)
        · refine hp_b hm (at1 16 rfl) (L' := [(2, (.int p9)), (0, (.ref 22)), (1, (.int x1))]) (st' := []) rfl (by exact trivial) (pc' := 77) rfl ?_
          refine hp_goto hm 10 rfl (tgt := 2) rfl ?_
          exact hp_lf [1, 2, 0] rfl (fun _ e => e)
  · exact hp_vr hm 12 rfl rfl (fun _ e => e)
/-! HintHouse$Machine.jump(J)V -/
def M_Ma_jump : hM := (4, ⟨"HintHouse$Machine", "jump", "(J)V"⟩, prog_6_method_30_code, 3, (Option.none : Option Jvm.ClassFile.FieldType), [], [(0, [(.aload_n 0, 1, 0, 0, 0, .null), (.aload_n 0, 1, 0, 0, 0, .null), (.getfield 167, 3, 4, 12, 0, .null), (.i2l, 1, 0, 0, 0, .null), (.lload_n 1, 1, 0, 0, 0, .null), (.ladd, 1, 0, 0, 0, .null), (.lconst 0, 1, 0, 0, 0, (.long (0 : Int64))), (.aload_n 0, 1, 0, 0, 0, .null), (.getfield 31, 3, 4, 10, 4, .null), (.aload_n 0, 1, 0, 0, 0, .null), (.getfield 158, 3, 4, 7, 0, .null), (.iaload, 1, 0, 0, 0, .null), (.i2l, 1, 0, 0, 0, .null)]), (22, [(.bipush 8, 2, 0, 0, 0, (.int (8 : Int32)))]), (27, [(.aload_n 0, 1, 0, 0, 0, .null), (.aload_n 0, 1, 0, 0, 0, .null), (.getfield 167, 3, 4, 12, 0, .null), (.i2l, 1, 0, 0, 0, .null), (.lload_n 1, 1, 0, 0, 0, .null), (.ladd, 1, 0, 0, 0, .null), (.l2i, 1, 0, 0, 0, .null), (.putfield 164, 3, 4, 11, 0, .null)])], [(19, .invokestatic 246, 3), (24, .invokevirtual 187, 3), (39, .return_, 1)])
set_option maxRecDepth 100000 in
theorem m_Ma_jump : hx_mok M_Ma_jump = true := by decide +kernel
theorem pd_Ma_jump : (parseMethodDescriptor M_Ma_jump.2.1.desc).map (fun q => q.parameters.length) = some 1 := by decide +kernel
theorem y_Ma_jump : hx_okV M_Ma_jump := ⟨⟨lw_g (lw_at lw_m6 103 rfl) rfl, lw_g (lw_at lw_m6 102 rfl) rfl, qs68, lw_g (lw_at lw_m1 5 rfl) rfl, rfl, by decide, by decide, by decide⟩, rfl, by decide, plainFor_of_name (by decide)⟩
noncomputable def f_Ma_jump (x1 : Int64) (h : hH) : Option (hH ⊕ (Unit × hH)) :=
  gd (vp_in (rdI h 22 7) 3) <|
  bP (f_HH_within ((Int32.toInt64 (rdI h 22 12)) + x1) (0 : Int64) (Int32.toInt64 (rdI h 42 (Int32.toNatClampNeg (rdI h 22 7))))) fun a2 =>
  bT (f_Ma_want a2 (8 : Int32) h) fun _ h1 =>
  lz (wrI h1 22 11 (Int64.toInt32 ((Int32.toInt64 (rdI h1 22 12)) + x1))) fun h2 =>
  some (.inr ((), h2))
set_option maxRecDepth 20000 in
theorem k_Ma_jump (x1 : Int64) (h : hH) : hx_kT S0 M_Ma_jump 7 NT [(.ref 22), (.long x1)] h (f_Ma_jump x1 h) cvU := by
  have hm := m_Ma_jump
  show hx_P S0 M_Ma_jump 7 0 [(0, (.ref 22)), (1, (.long x1))] [] NT h (f_Ma_jump x1 h) (hx_T NT (hx_Rc cvU NT))
  unfold f_Ma_jump
  refine hp_G hm (at1 0 rfl) (L' := [(0, (.ref 22)), (1, (.long x1))]) (st' := [(.long (Int32.toInt64 (rdI h 42 (Int32.toNatClampNeg (rdI h 22 7))))), (.long (0 : Int64)), (.long ((Int32.toInt64 (rdI h 22 12)) + x1)), (.ref 22)]) rfl (fun hP => (by exact ⟨⟨⟨og_22, og_22⟩, og_22⟩, ⟨og_42, hP⟩⟩)) (pc' := 19) rfl (fun q1 => ?_)
  refine hp_cNP (M2 := M_HH_within) hm at0 (as := [(.long ((Int32.toInt64 (rdI h 22 12)) + x1)), (.long (0 : Int64)), (.long (Int32.toInt64 (rdI h 42 (Int32.toNatClampNeg (rdI h 22 7)))))]) (rest := [(.ref 22)]) rfl (by exact trivial) (pc' := 19) rfl 0 rfl (hmn_4_246) y_HH_within rfl (d2 := 1) ⟨le_b rfl, pd_HH_within, le_b rfl⟩ (le_b rfl) (k_HH_within ((Int32.toInt64 (rdI h 22 12)) + x1) (0 : Int64) (Int32.toInt64 (rdI h 42 (Int32.toNatClampNeg (rdI h 22 7)))) h) (fun a2 => ?_)
  refine hp_cVT (M2 := M_Ma_want) hm (at1 1 rfl) (as := [(.int a2), (.int (8 : Int32))]) (rest := []) (z := 22) rfl (by exact trivial) (pc' := 24) rfl 1 rfl (lw_g (lw_at lw_m5 139 rfl) rfl) y_Ma_want rfl (d2 := 6) ⟨le_b rfl, pd_Ma_want, le_b rfl⟩ (le_b rfl) og_22 rfl (k_Ma_want a2 (8 : Int32) h) (fun _ h1 => ?_)
  refine hp_w hm (at1 2 rfl) (L' := [(0, (.ref 22)), (1, (.long x1))]) rfl (by exact ⟨og_22, og_22⟩) (pc' := 39) rfl (fun h2 => ?_)
  exact hp_vr hm 2 rfl rfl (fun _ e => e)
/-! HintHouse$Machine.kept(I)V -/
def M_Ma_kept : hM := (4, ⟨"HintHouse$Machine", "kept", "(I)V"⟩, prog_6_method_42_code, 4, (Option.none : Option Jvm.ClassFile.FieldType), [], [(0, [(.aload_n 0, 1, 0, 0, 0, .null), (.getfield 12, 3, 4, 1, 4, .null), (.getfield 134, 3, 5, 5, 4, .null), (.astore_n 2, 1, 0, 0, 0, .null), (.iload_n 1, 1, 0, 0, 0, .null), (.bipush 24, 2, 0, 0, 0, (.int (24 : Int32)))]), (14, [(.iload_n 1, 1, 0, 0, 0, .null), (.bipush 25, 2, 0, 0, 0, (.int (25 : Int32)))]), (20, [(.aload_n 0, 1, 0, 0, 0, .null), (.bipush 64, 2, 0, 0, 0, (.int (64 : Int32))), (.iload_n 1, 1, 0, 0, 0, .null), (.bipush 24, 2, 0, 0, 0, (.int (24 : Int32)))]), (33, [(.bipush 32, 2, 0, 0, 0, (.int (32 : Int32)))]), (29, [(.iconst 0, 1, 0, 0, 0, (.int (0 : Int32)))]), (35, [(.bipush 32, 2, 0, 0, 0, (.int (32 : Int32)))]), (41, [(.iload_n 1, 1, 0, 0, 0, .null), (.bipush 27, 2, 0, 0, 0, (.int (27 : Int32)))]), (53, [(.aload_n 0, 1, 0, 0, 0, .null), (.iconst 1, 1, 0, 0, 0, (.int (1 : Int32)))]), (58, [(.aload_n 0, 1, 0, 0, 0, .null)]), (62, [(.istore_n 3, 1, 0, 0, 0, .null), (.iload_n 1, 1, 0, 0, 0, .null)]), (112, [(.aload_n 0, 1, 0, 0, 0, .null), (.iload_n 3, 1, 0, 0, 0, .null), (.i2l, 1, 0, 0, 0, .null), (.lconst 1, 1, 0, 0, 0, (.long (1 : Int64))), (.ldc2_w 393, 3, 0, 0, 0, (.long (65535 : Int64)))]), (122, [(.bipush 11, 2, 0, 0, 0, (.int (11 : Int32)))]), (127, [(.aload_n 0, 1, 0, 0, 0, .null), (.iload_n 3, 1, 0, 0, 0, .null), (.putfield 180, 3, 4, 38, 0, .null)]), (135, [(.aload_n 2, 1, 0, 0, 0, .null), (.iload_n 3, 1, 0, 0, 0, .null), (.putfield 395, 3, 7, 3, 0, .null)]), (143, [(.aload_n 0, 1, 0, 0, 0, .null), (.iload_n 3, 1, 0, 0, 0, .null), (.i2l, 1, 0, 0, 0, .null)]), (152, [(.aload_n 2, 1, 0, 0, 0, .null), (.iload_n 3, 1, 0, 0, 0, .null), (.putfield 401, 3, 7, 0, 0, .null)]), (160, [(.aload_n 2, 1, 0, 0, 0, .null), (.iload_n 3, 1, 0, 0, 0, .null), (.putfield 404, 3, 7, 2, 0, .null)]), (168, [(.aload_n 2, 1, 0, 0, 0, .null), (.aload_n 0, 1, 0, 0, 0, .null), (.iload_n 3, 1, 0, 0, 0, .null), (.i2l, 1, 0, 0, 0, .null)]), (175, [(.putfield 407, 3, 7, 1, 0, .null)]), (47, [(.aload_n 0, 1, 0, 0, 0, .null), (.iconst 0, 1, 0, 0, 0, (.int (0 : Int32)))])], [(17, .if_icmp .ne 24, 3), (11, .if_icmp .eq 9, 3), (30, .goto 5, 3), (26, .if_icmp .ne 7, 3), (37, .invokevirtual 183, 3), (40, .return_, 1), (55, .invokevirtual 334, 3), (59, .invokevirtual 337, 3), (64, .tableswitch 104 23 30 #[48, 104, 104, 71, 104, 79, 88, 96], 48), (119, .invokestatic 246, 3), (124, .invokevirtual 187, 3), (178, .return_, 1), (132, .goto 46, 3), (140, .goto 38, 3), (146, .invokevirtual 398, 3), (149, .goto 29, 3), (157, .goto 21, 3), (165, .goto 13, 3), (172, .invokevirtual 122, 3), (49, .invokevirtual 389, 3), (52, .return_, 1), (44, .if_icmp .ne 9, 3)])
set_option maxRecDepth 100000 in
theorem m_Ma_kept : hx_mok M_Ma_kept = true := by decide +kernel
theorem pd_Ma_kept : (parseMethodDescriptor M_Ma_kept.2.1.desc).map (fun q => q.parameters.length) = some 1 := by decide +kernel
theorem y_Ma_kept : hx_okV M_Ma_kept := ⟨⟨lw_g (lw_at lw_m6 90 rfl) rfl, lw_g (lw_at lw_m6 89 rfl) rfl, qs65, lw_g (lw_at lw_m1 5 rfl) rfl, rfl, by decide, by decide, by decide⟩, rfl, by decide, plainFor_of_name (by decide)⟩
noncomputable def f_Ma_kept (x1 : Int32) (h : hH) : Option (hH ⊕ (Unit × hH)) :=
  if (x1 = (24 : Int32) ∨ x1 = (25 : Int32)) then (
    lz (A := Int32) (if x1 = (24 : Int32) then (0 : Int32) else (32 : Int32)) fun p6 =>
    bS (f_Ma_rounding (64 : Int32) p6 (32 : Int32) h) fun _ h1 =>
    some (.inr ((), h1))
  ) else (
    if x1 = (27 : Int32) then (
      bT (f_Ma_passIf (0 : Int32) h) fun _ h11 =>
      some (.inr ((), h11))
    ) else (
      bT (f_Ma_need (1 : Int32) h) fun _ h2 =>
      bS (f_Ma_pop h2) fun a8 h3 =>
      bET (P := Unit) (X := (Unit × hH)) (
        if x1 = (23 : Int32) then (
          bP (f_HH_within (Int32.toInt64 a8) (1 : Int64) (65535 : Int64)) fun a10 =>
          bT (f_Ma_want a10 (11 : Int32) h3) fun _ h4 =>
          lz (wrI h4 22 38 a8) fun h5 =>
          some (.inr (.inr ((), h5)))
        ) else (
          if x1 = (26 : Int32) then (
            lz (wrI h3 33 3 a8) fun h6 =>
            some (.inr (.inr ((), h6)))
          ) else (
            if x1 = (28 : Int32) then (
              bT (f_Ma_jump (Int32.toInt64 a8) h3) fun _ h7 =>
              some (.inr (.inr ((), h7)))
            ) else (
              if x1 = (29 : Int32) then (
                lz (wrI h3 33 0 a8) fun h8 =>
                some (.inr (.inr ((), h8)))
              ) else (
                if x1 = (30 : Int32) then (
                  lz (wrI h3 33 2 a8) fun h9 =>
                  some (.inr (.inr ((), h9)))
                ) else (
                  some (.inr (.inl ()))
                )
              )
            )
          )
        )
      ) fun p9 =>
      bP (f_Ma_scaled (Int32.toInt64 a8) h3) fun a16 =>
      lz (wrI h3 33 1 a16) fun h10 =>
      some (.inr ((), h10))
    )
  )
set_option maxRecDepth 20000 in
theorem k_Ma_kept (x1 : Int32) (h : hH) : hx_kT S0 M_Ma_kept 10 NT [(.ref 22), (.int x1)] h (f_Ma_kept x1 h) cvU := by
  have hm := m_Ma_kept
  show hx_P S0 M_Ma_kept 10 0 [(0, (.ref 22)), (1, (.int x1))] [] NT h (f_Ma_kept x1 h) (hx_T NT (hx_Rc cvU NT))
  unfold f_Ma_kept
  refine hp_b hm (at1 0 rfl) (L' := [(2, (.ref 33)), (0, (.ref 22)), (1, (.int x1))]) (st' := [(.int (24 : Int32)), (.int x1)]) rfl (by exact ⟨og_22, og_23⟩) (pc' := 11) rfl ?_
  refine hp_cI (L0 := [(2, (.ref 33)), (0, (.ref 22)), (1, (.int x1))]) (s0 := []) 20 41 ?_ (fun c5 => ?_) (fun c5 => ?_)
  · refine hp_or ?_
    refine hp_ic_eq hm at0 rfl (by exact trivial) (pc' := 11) rfl 1 rfl (tgt := 20) rfl (fun c2 => ?_) (fun c2 => ?_)
    · exact hp_l0 (fun _ e => e)
    · refine hp_dec ?_
      refine hp_ic_ne hm (at1 1 rfl) rfl (by exact trivial) (pc' := 17) rfl 0 rfl (tgt := 41) rfl (fun c1 => ?_) (fun c1 => ?_)
      · exact hp_l0 (fun _ e => e)
      · exact hp_l0 (fun _ e => e)
  · refine hp_JZ 35 (fun (p6 : Int32) => []) (fun (p6 : Int32) => [(.int p6), (.int (64 : Int32)), (.ref 22)]) (fun (p6 : Int32) => h) ?_ (fun p6 => ?_)
    · refine hp_sv0 ?_
      refine hp_ic_ne hm (at1 2 rfl) rfl (by exact trivial) (pc' := 26) rfl 3 rfl (tgt := 33) rfl (fun c7 => ?_) (fun c7 => ?_)
      · refine hp_b hm (at1 3 rfl) (L' := [(2, (.ref 33)), (0, (.ref 22)), (1, (.int x1))]) (st' := [(.int (32 : Int32)), (.int (64 : Int32)), (.ref 22)]) rfl (by exact trivial) (pc' := 35) rfl ?_
        exact hp_lf [] rfl (fun _ e => e)
      · refine hp_b hm (at1 4 rfl) (L' := [(2, (.ref 33)), (0, (.ref 22)), (1, (.int x1))]) (st' := [(.int (0 : Int32)), (.int (64 : Int32)), (.ref 22)]) rfl (by exact trivial) (pc' := 30) rfl ?_
        refine hp_goto hm 2 rfl (tgt := 35) rfl ?_
        exact hp_lf [] rfl (fun _ e => e)
    · refine hp_cVS (M2 := M_Ma_rounding) hm (at1 5 rfl) (as := [(.int (64 : Int32)), (.int p6), (.int (32 : Int32))]) (rest := []) (z := 22) rfl (by exact trivial) (pc' := 37) rfl 4 rfl (lw_g (lw_at lw_m5 135 rfl) rfl) y_Ma_rounding rfl (d2 := 1) ⟨le_b rfl, pd_Ma_rounding, le_b rfl⟩ (le_b rfl) og_22 (k_Ma_rounding (64 : Int32) p6 (32 : Int32) h) (fun _ h1 => ?_)
      exact hp_vr hm 5 rfl rfl (fun _ e => e)
  · refine hp_ic_ne hm (at1 6 rfl) rfl (by exact trivial) (pc' := 44) rfl 21 rfl (tgt := 53) rfl (fun c17 => ?_) (fun c17 => ?_)
    · refine hp_cVT (M2 := M_Ma_need) hm (at1 7 rfl) (as := [(.int (1 : Int32))]) (rest := []) (z := 22) rfl (by exact trivial) (pc' := 55) rfl 6 rfl (lw_g (lw_at lw_m5 217 rfl) rfl) y_Ma_need rfl (d2 := 7) ⟨le_b rfl, pd_Ma_need, le_b rfl⟩ (le_b rfl) og_22 rfl (k_Ma_need (1 : Int32) h) (fun _ h2 => ?_)
      refine hp_cVS (M2 := M_Ma_pop) hm (at1 8 rfl) (as := []) (rest := []) (z := 22) rfl (by exact trivial) (pc' := 59) rfl 7 rfl (lw_g (lw_at lw_m5 221 rfl) rfl) y_Ma_pop rfl (d2 := 1) ⟨le_b rfl, pd_Ma_pop, le_b rfl⟩ (le_b rfl) og_22 (k_Ma_pop h2) (fun a8 h3 => ?_)
      refine hp_ET 168 (fun (p9 : Unit) => [(0, (.ref 22)), (2, (.ref 33)), (3, (.int a8))]) (fun (p9 : Unit) => []) (fun (p9 : Unit) => h3) ?_ (fun p9 => ?_)
      · refine hp_b hm (at1 9 rfl) (L' := [(3, (.int a8)), (2, (.ref 33)), (0, (.ref 22)), (1, (.int x1))]) (st' := [(.int x1)]) rfl (by exact trivial) (pc' := 64) rfl ?_
        refine hp_sw hm 8 rfl (cs := [23]) (off := 48) (by decide) (tgt := 112) rfl (sw1 _ _) ?_ (fun c11 => ?_)
        · refine hp_cNP (M2 := M_HH_within) hm (at1 10 rfl) (as := [(.long (Int32.toInt64 a8)), (.long (1 : Int64)), (.long (65535 : Int64))]) (rest := [(.ref 22)]) rfl (by exact trivial) (pc' := 119) rfl 9 rfl (hmn_4_246) y_HH_within rfl (d2 := 1) ⟨le_b rfl, pd_HH_within, le_b rfl⟩ (le_b rfl) (k_HH_within (Int32.toInt64 a8) (1 : Int64) (65535 : Int64) h3) (fun a10 => ?_)
          refine hp_cVT (M2 := M_Ma_want) hm (at1 11 rfl) (as := [(.int a10), (.int (11 : Int32))]) (rest := []) (z := 22) rfl (by exact trivial) (pc' := 124) rfl 10 rfl (lw_g (lw_at lw_m5 139 rfl) rfl) y_Ma_want rfl (d2 := 6) ⟨le_b rfl, pd_Ma_want, le_b rfl⟩ (le_b rfl) og_22 rfl (k_Ma_want a10 (11 : Int32) h3) (fun _ h4 => ?_)
          refine hp_w hm (at1 12 rfl) (L' := [(3, (.int a8)), (2, (.ref 33)), (0, (.ref 22)), (1, (.int x1))]) rfl (by exact og_22) (pc' := 132) rfl (fun h5 => ?_)
          refine hp_goto hm 12 rfl (tgt := 178) rfl ?_
          exact hp_vr hm 11 rfl rfl (fun _ e => e)
        · refine hp_sw hm 8 rfl (cs := [26]) (off := 71) (by decide) (tgt := 135) rfl (sw1 _ _) ?_ (fun c12 => ?_)
          · refine hp_w hm (at1 13 rfl) (L' := [(3, (.int a8)), (2, (.ref 33)), (0, (.ref 22)), (1, (.int x1))]) rfl (by exact og_33) (pc' := 140) rfl (fun h6 => ?_)
            refine hp_goto hm 13 rfl (tgt := 178) rfl ?_
            exact hp_vr hm 11 rfl rfl (fun _ e => e)
          · refine hp_sw hm 8 rfl (cs := [28]) (off := 79) (by decide) (tgt := 143) rfl (sw1 _ _) ?_ (fun c13 => ?_)
            · refine hp_cVT (M2 := M_Ma_jump) hm (at1 14 rfl) (as := [(.long (Int32.toInt64 a8))]) (rest := []) (z := 22) rfl (by exact trivial) (pc' := 146) rfl 14 rfl (lw_g (lw_at lw_m6 100 rfl) rfl) y_Ma_jump rfl (d2 := 7) ⟨le_b rfl, pd_Ma_jump, le_b rfl⟩ (le_b rfl) og_22 rfl (k_Ma_jump (Int32.toInt64 a8) h3) (fun _ h7 => ?_)
              refine hp_goto hm 15 rfl (tgt := 178) rfl ?_
              exact hp_vr hm 11 rfl rfl (fun _ e => e)
            · refine hp_sw hm 8 rfl (cs := [29]) (off := 88) (by decide) (tgt := 152) rfl (sw1 _ _) ?_ (fun c14 => ?_)
              · refine hp_w hm (at1 15 rfl) (L' := [(3, (.int a8)), (2, (.ref 33)), (0, (.ref 22)), (1, (.int x1))]) rfl (by exact og_33) (pc' := 157) rfl (fun h8 => ?_)
                refine hp_goto hm 16 rfl (tgt := 178) rfl ?_
                exact hp_vr hm 11 rfl rfl (fun _ e => e)
              · refine hp_sw hm 8 rfl (cs := [30]) (off := 96) (by decide) (tgt := 160) rfl (sw1 _ _) ?_ (fun c15 => ?_)
                · refine hp_w hm (at1 16 rfl) (L' := [(3, (.int a8)), (2, (.ref 33)), (0, (.ref 22)), (1, (.int x1))]) rfl (by exact og_33) (pc' := 165) rfl (fun h9 => ?_)
                  refine hp_goto hm 17 rfl (tgt := 178) rfl ?_
                  exact hp_vr hm 11 rfl rfl (fun _ e => e)
                · refine hp_sd2 hm 8 rfl (css := [[23], [26], [28], [29], [30]]) (by decide) (by decide) (List.forall_mem_cons.mpr ⟨c11, (List.forall_mem_cons.mpr ⟨c12, (List.forall_mem_cons.mpr ⟨c13, (List.forall_mem_cons.mpr ⟨c14, (List.forall_mem_cons.mpr ⟨c15, (fun _ h => absurd h List.not_mem_nil)⟩)⟩)⟩)⟩)⟩) (tgt := 168) rfl ?_
                  exact hp_lf [2, 1, 0] rfl (fun _ e => e)
      · refine hp_cVP (M2 := M_Ma_scaled) hm (at1 17 rfl) (as := [(.long (Int32.toInt64 a8))]) (rest := [(.ref 33)]) (z := 22) rfl (by exact trivial) (pc' := 172) rfl 18 rfl (lw_g (lw_at lw_m5 103 rfl) rfl) y_Ma_scaled rfl (d2 := 3) ⟨le_b rfl, pd_Ma_scaled, le_b rfl⟩ (le_b rfl) og_22 (k_Ma_scaled (Int32.toInt64 a8) h3) (fun a16 => ?_)
        refine hp_w hm (at1 18 rfl) (L' := [(0, (.ref 22)), (2, (.ref 33)), (3, (.int a8))]) rfl (by exact og_33) (pc' := 178) rfl (fun h10 => ?_)
        exact hp_vr hm 11 rfl rfl (fun _ e => e)
    · refine hp_cVT (M2 := M_Ma_passIf) hm (at1 19 rfl) (as := [(.int (0 : Int32))]) (rest := []) (z := 22) rfl (by exact trivial) (pc' := 49) rfl 19 rfl (lw_g (lw_at lw_m6 91 rfl) rfl) y_Ma_passIf rfl (d2 := 9) ⟨le_b rfl, pd_Ma_passIf, le_b rfl⟩ (le_b rfl) og_22 rfl (k_Ma_passIf (0 : Int32) h) (fun _ h11 => ?_)
      exact hp_vr hm 20 rfl rfl (fun _ e => e)
/-! HintHouse$Machine.settings(I)V -/
def M_Ma_settings : hM := (4, ⟨"HintHouse$Machine", "settings", "(I)V"⟩, prog_6_method_39_code, 6, (Option.none : Option Jvm.ClassFile.FieldType), [], [(0, [(.iload_n 1, 1, 0, 0, 0, .null), (.bipush 6, 2, 0, 0, 0, (.int (6 : Int32)))]), (68, [(.iload_n 1, 1, 0, 0, 0, .null), (.bipush 10, 2, 0, 0, 0, (.int (10 : Int32)))]), (192, [(.iload_n 1, 1, 0, 0, 0, .null), (.bipush 12, 2, 0, 0, 0, (.int (12 : Int32)))]), (249, [(.iload_n 1, 1, 0, 0, 0, .null), (.bipush 16, 2, 0, 0, 0, (.int (16 : Int32)))]), (263, [(.iload_n 1, 1, 0, 0, 0, .null), (.bipush 23, 2, 0, 0, 0, (.int (23 : Int32)))]), (277, [(.aload_n 0, 1, 0, 0, 0, .null), (.iload_n 1, 1, 0, 0, 0, .null)]), (269, [(.aload_n 0, 1, 0, 0, 0, .null), (.iload_n 1, 1, 0, 0, 0, .null)]), (255, [(.aload_n 0, 1, 0, 0, 0, .null), (.iload_n 1, 1, 0, 0, 0, .null)]), (198, [(.aload_n 0, 1, 0, 0, 0, .null), (.iconst 2, 1, 0, 0, 0, (.int (2 : Int32)))]), (203, [(.aload_n 0, 1, 0, 0, 0, .null)]), (207, [(.i2s, 1, 0, 0, 0, .null), (.istore_n 2, 1, 0, 0, 0, .null)]), (209, [(.aload_n 0, 1, 0, 0, 0, .null)]), (213, [(.i2s, 1, 0, 0, 0, .null), (.istore_n 3, 1, 0, 0, 0, .null)]), (215, [(.aload_n 0, 1, 0, 0, 0, .null), (.iload_n 3, 1, 0, 0, 0, .null), (.iload_n 2, 1, 0, 0, 0, .null), (.iconst 0, 1, 0, 0, 0, (.int (0 : Int32)))]), (222, [(.aload_n 0, 1, 0, 0, 0, .null), (.aload_n 0, 1, 0, 0, 0, .null), (.getfield 293, 3, 4, 34, 0, .null), (.aload_n 0, 1, 0, 0, 0, .null), (.getfield 296, 3, 4, 35, 0, .null), (.iconst 0, 1, 0, 0, 0, (.int (0 : Int32))), (.iload_n 1, 1, 0, 0, 0, .null), (.bipush 11, 2, 0, 0, 0, (.int (11 : Int32)))]), (242, [(.iconst 0, 1, 0, 0, 0, (.int (0 : Int32)))]), (238, [(.iconst 1, 1, 0, 0, 0, (.int (1 : Int32)))]), (74, [(.aload_n 0, 1, 0, 0, 0, .null), (.iconst 2, 1, 0, 0, 0, (.int (2 : Int32)))]), (79, [(.aload_n 0, 1, 0, 0, 0, .null)]), (83, [(.istore_n 2, 1, 0, 0, 0, .null), (.aload_n 0, 1, 0, 0, 0, .null)]), (88, [(.istore_n 3, 1, 0, 0, 0, .null), (.aload_n 0, 1, 0, 0, 0, .null), (.iconst 1, 1, 0, 0, 0, (.int (1 : Int32)))]), (94, [(.astore 4, 2, 0, 0, 0, .null), (.aload_n 0, 1, 0, 0, 0, .null), (.iconst 2, 1, 0, 0, 0, (.int (2 : Int32)))]), (101, [(.astore 5, 2, 0, 0, 0, .null), (.aload_n 0, 1, 0, 0, 0, .null), (.aload 4, 2, 0, 0, 0, .null), (.iload_n 3, 1, 0, 0, 0, .null)]), (110, [(.pop, 1, 0, 0, 0, .null), (.aload_n 0, 1, 0, 0, 0, .null), (.aload 5, 2, 0, 0, 0, .null), (.iload_n 2, 1, 0, 0, 0, .null)]), (118, [(.pop, 1, 0, 0, 0, .null), (.aload_n 0, 1, 0, 0, 0, .null), (.aload 4, 2, 0, 0, 0, .null), (.getfield 252, 3, 6, 2, 4, .null), (.iload_n 3, 1, 0, 0, 0, .null), (.iaload, 1, 0, 0, 0, .null), (.aload 5, 2, 0, 0, 0, .null), (.getfield 252, 3, 6, 2, 4, .null), (.iload_n 2, 1, 0, 0, 0, .null), (.iaload, 1, 0, 0, 0, .null), (.isub, 1, 0, 0, 0, .null), (.aload 4, 2, 0, 0, 0, .null), (.getfield 255, 3, 6, 3, 4, .null), (.iload_n 3, 1, 0, 0, 0, .null), (.iaload, 1, 0, 0, 0, .null), (.aload 5, 2, 0, 0, 0, .null), (.getfield 255, 3, 6, 3, 4, .null), (.iload_n 2, 1, 0, 0, 0, .null), (.iaload, 1, 0, 0, 0, .null), (.isub, 1, 0, 0, 0, .null), (.iload_n 1, 1, 0, 0, 0, .null), (.iconst 1, 1, 0, 0, 0, (.int (1 : Int32))), (.iand, 1, 0, 0, 0, .null), (.iconst 1, 1, 0, 0, 0, (.int (1 : Int32)))]), (161, [(.iconst 0, 1, 0, 0, 0, (.int (0 : Int32)))]), (157, [(.iconst 1, 1, 0, 0, 0, (.int (1 : Int32)))]), (165, [(.aload_n 0, 1, 0, 0, 0, .null), (.aload_n 0, 1, 0, 0, 0, .null), (.getfield 293, 3, 4, 34, 0, .null), (.aload_n 0, 1, 0, 0, 0, .null), (.getfield 296, 3, 4, 35, 0, .null), (.iconst 0, 1, 0, 0, 0, (.int (0 : Int32))), (.iload_n 1, 1, 0, 0, 0, .null), (.bipush 8, 2, 0, 0, 0, (.int (8 : Int32)))]), (185, [(.iconst 0, 1, 0, 0, 0, (.int (0 : Int32)))]), (181, [(.iconst 1, 1, 0, 0, 0, (.int (1 : Int32)))]), (6, [(.iload_n 1, 1, 0, 0, 0, .null), (.iconst 1, 1, 0, 0, 0, (.int (1 : Int32))), (.iand, 1, 0, 0, 0, .null), (.iconst 1, 1, 0, 0, 0, (.int (1 : Int32)))]), (17, [(.iconst 0, 1, 0, 0, 0, (.int (0 : Int32)))]), (13, [(.iconst 1, 1, 0, 0, 0, (.int (1 : Int32)))]), (18, [(.istore_n 2, 1, 0, 0, 0, .null), (.aload_n 0, 1, 0, 0, 0, .null), (.iload_n 2, 1, 0, 0, 0, .null)]), (30, [(.iconst 0, 1, 0, 0, 0, (.int (0 : Int32)))]), (24, [(.sipush 16384, 3, 0, 0, 0, (.int (16384 : Int32)))]), (31, [(.iload_n 2, 1, 0, 0, 0, .null)]), (39, [(.sipush 16384, 3, 0, 0, 0, (.int (16384 : Int32)))]), (35, [(.iconst 0, 1, 0, 0, 0, (.int (0 : Int32)))]), (42, [(.iload_n 1, 1, 0, 0, 0, .null), (.iconst 2, 1, 0, 0, 0, (.int (2 : Int32)))]), (51, [(.iconst 0, 1, 0, 0, 0, (.int (0 : Int32)))]), (47, [(.iconst 1, 1, 0, 0, 0, (.int (1 : Int32)))]), (52, [(.iload_n 1, 1, 0, 0, 0, .null), (.iconst 4, 1, 0, 0, 0, (.int (4 : Int32)))]), (61, [(.iconst 0, 1, 0, 0, 0, (.int (0 : Int32)))]), (57, [(.iconst 1, 1, 0, 0, 0, (.int (1 : Int32)))])], [(279, .invokevirtual 380, 3), (282, .return_, 1), (271, .invokevirtual 377, 3), (274, .goto 8, 3), (266, .if_icmp .ge 11, 3), (257, .invokevirtual 374, 3), (260, .goto 22, 3), (252, .if_icmp .ge 11, 3), (200, .invokevirtual 334, 3), (204, .invokevirtual 337, 3), (210, .invokevirtual 337, 3), (219, .invokevirtual 370, 3), (239, .goto 4, 3), (235, .if_icmp .ne 7, 3), (243, .invokevirtual 358, 3), (246, .goto 36, 3), (195, .if_icmp .ge 54, 3), (76, .invokevirtual 334, 3), (80, .invokevirtual 337, 3), (85, .invokevirtual 337, 3), (91, .invokevirtual 362, 3), (98, .invokevirtual 362, 3), (107, .invokevirtual 366, 3), (115, .invokevirtual 366, 3), (158, .goto 4, 3), (154, .if_icmp .ne 7, 3), (162, .invokevirtual 370, 3), (182, .goto 4, 3), (178, .if_icmp .lt 7, 3), (186, .invokevirtual 358, 3), (189, .goto 93, 3), (71, .if_icmp .ge 121, 3), (14, .goto 4, 3), (10, .if_icmp .ne 7, 3), (27, .goto 4, 3), (21, .ifCond .eq 9, 3), (36, .goto 6, 3), (32, .ifCond .eq 7, 3), (48, .goto 4, 3), (44, .if_icmp .ge 7, 3), (58, .goto 4, 3), (54, .if_icmp .lt 7, 3), (62, .invokevirtual 358, 3), (65, .goto 217, 3), (3, .if_icmp .ge 65, 3)])
set_option maxRecDepth 100000 in
theorem m_Ma_settings : hx_mok M_Ma_settings = true := by decide +kernel
theorem pd_Ma_settings : (parseMethodDescriptor M_Ma_settings.2.1.desc).map (fun q => q.parameters.length) = some 1 := by decide +kernel
theorem y_Ma_settings : hx_okV M_Ma_settings := ⟨⟨lw_g (lw_at lw_m6 52 rfl) rfl, lw_g (lw_at lw_m6 51 rfl) rfl, qs57, lw_g (lw_at lw_m1 5 rfl) rfl, rfl, by decide, by decide, by decide⟩, rfl, by decide, plainFor_of_name (by decide)⟩
noncomputable def f_Ma_settings (x1 : Int32) (h : hH) : Option (hH ⊕ (Unit × hH)) :=
  if (6 : Int32) ≤ x1 then (
    if (10 : Int32) ≤ x1 then (
      if (12 : Int32) ≤ x1 then (
        if (16 : Int32) ≤ x1 then (
          if (23 : Int32) ≤ x1 then (
            bT (f_Ma_kept x1 h) fun _ h1 =>
            some (.inr ((), h1))
          ) else (
            bT (f_Ma_pointers x1 h) fun _ h2 =>
            some (.inr ((), h2))
          )
        ) else (
          bT (f_Ma_vectors x1 h) fun _ h3 =>
          some (.inr ((), h3))
        )
      ) else (
        bT (f_Ma_need (2 : Int32) h) fun _ h4 =>
        bS (f_Ma_pop h4) fun a3 h5 =>
        lz (A := Int32) (Int16.toInt32 (Int32.toInt16 a3)) fun v4 =>
        bS (f_Ma_pop h5) fun a5 h6 =>
        lz (A := Int32) (Int16.toInt32 (Int32.toInt16 a5)) fun v6 =>
        bS (f_Ma_direct v6 v4 (0 : Int32) h6) fun _ h7 =>
        lz (A := Int32) (if x1 = (11 : Int32) then (1 : Int32) else (0 : Int32)) fun p7 =>
        bS (f_Ma_setVectors (rdI h7 22 34) (rdI h7 22 35) (0 : Int32) p7 h7) fun _ h8 =>
        some (.inr ((), h8))
      )
    ) else (
      bT (f_Ma_need (2 : Int32) h) fun _ h9 =>
      bS (f_Ma_pop h9) fun a10 h10 =>
      bS (f_Ma_pop h10) fun a11 h11 =>
      bP (f_Ma_zone (1 : Int32) h11) fun a12 =>
      bP (f_Ma_zone (2 : Int32) h11) fun a13 =>
      gd (isA 6 a12) <|
      bT (f_Ma_point a12 a11 h11) fun a15 h12 =>
      gd (isA 6 a13) <|
      bT (f_Ma_point a13 a10 h12) fun a17 h13 =>
      gd (vp_in a11 (zr a12) ∧ vp_in a10 (zr a13)) <|
      lz (A := Int32) (if (x1 &&& (1 : Int32)) = (1 : Int32) then (1 : Int32) else (0 : Int32)) fun p19 =>
      bS (f_Ma_direct ((rdI h13 (rf a12 2) (Int32.toNatClampNeg a11)) - (rdI h13 (rf a13 2) (Int32.toNatClampNeg a10))) ((rdI h13 (rf a12 3) (Int32.toNatClampNeg a11)) - (rdI h13 (rf a13 3) (Int32.toNatClampNeg a10))) p19 h13) fun _ h14 =>
      lz (A := Int32) (if x1 < (8 : Int32) then (0 : Int32) else (1 : Int32)) fun p21 =>
      bS (f_Ma_setVectors (rdI h14 22 34) (rdI h14 22 35) (0 : Int32) p21 h14) fun _ h15 =>
      some (.inr ((), h15))
    )
  ) else (
    lz (A := Int32) (if (x1 &&& (1 : Int32)) = (1 : Int32) then (1 : Int32) else (0 : Int32)) fun p24 =>
    lz (A := Int32) (if p24 = 0 then (0 : Int32) else (16384 : Int32)) fun p26 =>
    lz (A := Int32) (if p24 = 0 then (16384 : Int32) else (0 : Int32)) fun p28 =>
    lz (A := Int32) (if (2 : Int32) ≤ x1 then (0 : Int32) else (1 : Int32)) fun p30 =>
    lz (A := Int32) (if x1 < (4 : Int32) then (0 : Int32) else (1 : Int32)) fun p32 =>
    bS (f_Ma_setVectors p26 p28 p30 p32 h) fun _ h16 =>
    some (.inr ((), h16))
  )
set_option maxRecDepth 20000 in
theorem k_Ma_settings (x1 : Int32) (h : hH) : hx_kT S0 M_Ma_settings 11 NT [(.ref 22), (.int x1)] h (f_Ma_settings x1 h) cvU := by
  have hm := m_Ma_settings
  show hx_P S0 M_Ma_settings 11 0 [(0, (.ref 22)), (1, (.int x1))] [] NT h (f_Ma_settings x1 h) (hx_T NT (hx_Rc cvU NT))
  unfold f_Ma_settings
  refine hp_ic_ge hm (at1 0 rfl) rfl (by exact trivial) (pc' := 3) rfl 44 rfl (tgt := 68) rfl (fun c34 => ?_) (fun c34 => ?_)
  · refine hp_ic_ge hm (at1 1 rfl) rfl (by exact trivial) (pc' := 71) rfl 31 rfl (tgt := 192) rfl (fun c23 => ?_) (fun c23 => ?_)
    · refine hp_ic_ge hm (at1 2 rfl) rfl (by exact trivial) (pc' := 195) rfl 16 rfl (tgt := 249) rfl (fun c9 => ?_) (fun c9 => ?_)
      · refine hp_ic_ge hm (at1 3 rfl) rfl (by exact trivial) (pc' := 252) rfl 7 rfl (tgt := 263) rfl (fun c2 => ?_) (fun c2 => ?_)
        · refine hp_ic_ge hm (at1 4 rfl) rfl (by exact trivial) (pc' := 266) rfl 4 rfl (tgt := 277) rfl (fun c1 => ?_) (fun c1 => ?_)
          · refine hp_cVT (M2 := M_Ma_kept) hm (at1 5 rfl) (as := [(.int x1)]) (rest := []) (z := 22) rfl (by exact trivial) (pc' := 279) rfl 0 rfl (lw_g (lw_at lw_m6 87 rfl) rfl) y_Ma_kept rfl (d2 := 10) ⟨le_b rfl, pd_Ma_kept, le_b rfl⟩ (le_b rfl) og_22 rfl (k_Ma_kept x1 h) (fun _ h1 => ?_)
            exact hp_vr hm 1 rfl rfl (fun _ e => e)
          · refine hp_cVT (M2 := M_Ma_pointers) hm (at1 6 rfl) (as := [(.int x1)]) (rest := []) (z := 22) rfl (by exact trivial) (pc' := 271) rfl 2 rfl (lw_g (lw_at lw_m6 83 rfl) rfl) y_Ma_pointers rfl (d2 := 8) ⟨le_b rfl, pd_Ma_pointers, le_b rfl⟩ (le_b rfl) og_22 rfl (k_Ma_pointers x1 h) (fun _ h2 => ?_)
            refine hp_goto hm 3 rfl (tgt := 282) rfl ?_
            exact hp_vr hm 1 rfl rfl (fun _ e => e)
        · refine hp_cVT (M2 := M_Ma_vectors) hm (at1 7 rfl) (as := [(.int x1)]) (rest := []) (z := 22) rfl (by exact trivial) (pc' := 257) rfl 5 rfl (lw_g (lw_at lw_m6 67 rfl) rfl) y_Ma_vectors rfl (d2 := 9) ⟨le_b rfl, pd_Ma_vectors, le_b rfl⟩ (le_b rfl) og_22 rfl (k_Ma_vectors x1 h) (fun _ h3 => ?_)
          refine hp_goto hm 6 rfl (tgt := 282) rfl ?_
          exact hp_vr hm 1 rfl rfl (fun _ e => e)
      · refine hp_cVT (M2 := M_Ma_need) hm (at1 8 rfl) (as := [(.int (2 : Int32))]) (rest := []) (z := 22) rfl (by exact trivial) (pc' := 200) rfl 8 rfl (lw_g (lw_at lw_m5 217 rfl) rfl) y_Ma_need rfl (d2 := 7) ⟨le_b rfl, pd_Ma_need, le_b rfl⟩ (le_b rfl) og_22 rfl (k_Ma_need (2 : Int32) h) (fun _ h4 => ?_)
        refine hp_cVS (M2 := M_Ma_pop) hm (at1 9 rfl) (as := []) (rest := []) (z := 22) rfl (by exact trivial) (pc' := 204) rfl 9 rfl (lw_g (lw_at lw_m5 221 rfl) rfl) y_Ma_pop rfl (d2 := 1) ⟨le_b rfl, pd_Ma_pop, le_b rfl⟩ (le_b rfl) og_22 (k_Ma_pop h4) (fun a3 h5 => ?_)
        refine hp_z hm (at1 10 rfl) (fun (v4 : Int32) => [(2, (.int v4)), (0, (.ref 22)), (1, (.int x1))]) (fun (v4 : Int32) => []) rfl (by exact trivial) (pc' := 209) rfl (fun v4 => ?_)
        refine hp_cVS (M2 := M_Ma_pop) hm (at1 11 rfl) (as := []) (rest := []) (z := 22) rfl (by exact trivial) (pc' := 210) rfl 10 rfl (lw_g (lw_at lw_m5 221 rfl) rfl) y_Ma_pop rfl (d2 := 1) ⟨le_b rfl, pd_Ma_pop, le_b rfl⟩ (le_b rfl) og_22 (k_Ma_pop h5) (fun a5 h6 => ?_)
        refine hp_z hm (at1 12 rfl) (fun (v6 : Int32) => [(3, (.int v6)), (2, (.int v4)), (0, (.ref 22)), (1, (.int x1))]) (fun (v6 : Int32) => []) rfl (by exact trivial) (pc' := 215) rfl (fun v6 => ?_)
        refine hp_cVS (M2 := M_Ma_direct) hm (at1 13 rfl) (as := [(.int v6), (.int v4), (.int (0 : Int32))]) (rest := []) (z := 22) rfl (by exact trivial) (pc' := 219) rfl 11 rfl (lw_g (lw_at lw_m6 57 rfl) rfl) y_Ma_direct rfl (d2 := 3) ⟨le_b rfl, pd_Ma_direct, le_b rfl⟩ (le_b rfl) og_22 (k_Ma_direct v6 v4 (0 : Int32) h6) (fun _ h7 => ?_)
        refine hp_JZ 243 (fun (p7 : Int32) => []) (fun (p7 : Int32) => [(.int p7), (.int (0 : Int32)), (.int (rdI h7 22 35)), (.int (rdI h7 22 34)), (.ref 22)]) (fun (p7 : Int32) => h7) ?_ (fun p7 => ?_)
        · refine hp_sv0 ?_
          refine hp_ic_ne hm (at1 14 rfl) rfl (by exact ⟨og_22, og_22⟩) (pc' := 235) rfl 13 rfl (tgt := 242) rfl (fun c8 => ?_) (fun c8 => ?_)
          · refine hp_b hm (at1 15 rfl) (L' := [(3, (.int v6)), (2, (.int v4)), (0, (.ref 22)), (1, (.int x1))]) (st' := [(.int (0 : Int32)), (.int (0 : Int32)), (.int (rdI h7 22 35)), (.int (rdI h7 22 34)), (.ref 22)]) rfl (by exact trivial) (pc' := 243) rfl ?_
            exact hp_lf [] rfl (fun _ e => e)
          · refine hp_b hm (at1 16 rfl) (L' := [(3, (.int v6)), (2, (.int v4)), (0, (.ref 22)), (1, (.int x1))]) (st' := [(.int (1 : Int32)), (.int (0 : Int32)), (.int (rdI h7 22 35)), (.int (rdI h7 22 34)), (.ref 22)]) rfl (by exact trivial) (pc' := 239) rfl ?_
            refine hp_goto hm 12 rfl (tgt := 243) rfl ?_
            exact hp_lf [] rfl (fun _ e => e)
        · refine hp_cVS (M2 := M_Ma_setVectors) hm at0 (as := [(.int (rdI h7 22 34)), (.int (rdI h7 22 35)), (.int (0 : Int32)), (.int p7)]) (rest := []) (z := 22) rfl (by exact trivial) (pc' := 243) rfl 14 rfl (lw_g (lw_at lw_m6 53 rfl) rfl) y_Ma_setVectors rfl (d2 := 1) ⟨le_b rfl, pd_Ma_setVectors, le_b rfl⟩ (le_b rfl) og_22 (k_Ma_setVectors (rdI h7 22 34) (rdI h7 22 35) (0 : Int32) p7 h7) (fun _ h8 => ?_)
          refine hp_goto hm 15 rfl (tgt := 282) rfl ?_
          exact hp_vr hm 1 rfl rfl (fun _ e => e)
    · refine hp_cVT (M2 := M_Ma_need) hm (at1 17 rfl) (as := [(.int (2 : Int32))]) (rest := []) (z := 22) rfl (by exact trivial) (pc' := 76) rfl 17 rfl (lw_g (lw_at lw_m5 217 rfl) rfl) y_Ma_need rfl (d2 := 7) ⟨le_b rfl, pd_Ma_need, le_b rfl⟩ (le_b rfl) og_22 rfl (k_Ma_need (2 : Int32) h) (fun _ h9 => ?_)
      refine hp_cVS (M2 := M_Ma_pop) hm (at1 18 rfl) (as := []) (rest := []) (z := 22) rfl (by exact trivial) (pc' := 80) rfl 18 rfl (lw_g (lw_at lw_m5 221 rfl) rfl) y_Ma_pop rfl (d2 := 1) ⟨le_b rfl, pd_Ma_pop, le_b rfl⟩ (le_b rfl) og_22 (k_Ma_pop h9) (fun a10 h10 => ?_)
      refine hp_b hm (at1 19 rfl) (L' := [(2, (.int a10)), (0, (.ref 22)), (1, (.int x1))]) (st' := [(.ref 22)]) rfl (by exact trivial) (pc' := 85) rfl ?_
      refine hp_cVS (M2 := M_Ma_pop) hm at0 (as := []) (rest := []) (z := 22) rfl (by exact trivial) (pc' := 85) rfl 19 rfl (lw_g (lw_at lw_m5 221 rfl) rfl) y_Ma_pop rfl (d2 := 1) ⟨le_b rfl, pd_Ma_pop, le_b rfl⟩ (le_b rfl) og_22 (k_Ma_pop h10) (fun a11 h11 => ?_)
      refine hp_b hm (at1 20 rfl) (L' := [(3, (.int a11)), (2, (.int a10)), (0, (.ref 22)), (1, (.int x1))]) (st' := [(.int (1 : Int32)), (.ref 22)]) rfl (by exact trivial) (pc' := 91) rfl ?_
      refine hp_cVP (M2 := M_Ma_zone) hm at0 (as := [(.int (1 : Int32))]) (rest := []) (z := 22) rfl (by exact trivial) (pc' := 91) rfl 20 rfl (lw_g (lw_at lw_m5 225 rfl) rfl) y_Ma_zone rfl (d2 := 1) ⟨le_b rfl, pd_Ma_zone, le_b rfl⟩ (le_b rfl) og_22 (k_Ma_zone (1 : Int32) h11) (fun a12 => ?_)
      refine hp_b hm (at1 21 rfl) (L' := [(4, (.ref a12)), (3, (.int a11)), (2, (.int a10)), (0, (.ref 22)), (1, (.int x1))]) (st' := [(.int (2 : Int32)), (.ref 22)]) rfl (by exact trivial) (pc' := 98) rfl ?_
      refine hp_cVP (M2 := M_Ma_zone) hm at0 (as := [(.int (2 : Int32))]) (rest := []) (z := 22) rfl (by exact trivial) (pc' := 98) rfl 21 rfl (lw_g (lw_at lw_m5 225 rfl) rfl) y_Ma_zone rfl (d2 := 1) ⟨le_b rfl, pd_Ma_zone, le_b rfl⟩ (le_b rfl) og_22 (k_Ma_zone (2 : Int32) h11) (fun a13 => ?_)
      refine hp_b hm (at1 22 rfl) (L' := [(5, (.ref a13)), (4, (.ref a12)), (3, (.int a11)), (2, (.int a10)), (0, (.ref 22)), (1, (.int x1))]) (st' := [(.int a11), (.ref a12), (.ref 22)]) rfl (by exact trivial) (pc' := 107) rfl ?_
      refine hp_G0 (fun q14 => ?_)
      refine hp_cVT (M2 := M_Ma_point) hm at0 (as := [(.ref a12), (.int a11)]) (rest := []) (z := 22) rfl (by exact trivial) (pc' := 107) rfl 22 rfl (lw_g (lw_at lw_m5 229 rfl) rfl) y_Ma_point rfl (d2 := 7) ⟨le_b rfl, pd_Ma_point, le_b rfl⟩ (le_b rfl) og_22 rfl (k_Ma_point a12 a11 h11 q14) (fun a15 h12 => ?_)
      refine hp_G0 (fun q16 => ?_)
      refine hp_b hm (at1 23 rfl) (L' := [(5, (.ref a13)), (4, (.ref a12)), (3, (.int a11)), (2, (.int a10)), (0, (.ref 22)), (1, (.int x1))]) (st' := [(.int a10), (.ref a13), (.ref 22)]) rfl (by exact trivial) (pc' := 115) rfl ?_
      refine hp_cVT (M2 := M_Ma_point) hm at0 (as := [(.ref a13), (.int a10)]) (rest := []) (z := 22) rfl (by exact trivial) (pc' := 115) rfl 23 rfl (lw_g (lw_at lw_m5 229 rfl) rfl) y_Ma_point rfl (d2 := 7) ⟨le_b rfl, pd_Ma_point, le_b rfl⟩ (le_b rfl) og_22 rfl (k_Ma_point a13 a10 h12 q16) (fun a17 h13 => ?_)
      refine hp_G hm (at1 24 rfl) (L' := [(5, (.ref a13)), (4, (.ref a12)), (3, (.int a11)), (2, (.int a10)), (0, (.ref 22)), (1, (.int x1))]) (st' := [(.int (1 : Int32)), (.int (x1 &&& (1 : Int32))), (.int ((rdI h13 (rf a12 3) (Int32.toNatClampNeg a11)) - (rdI h13 (rf a13 3) (Int32.toNatClampNeg a10)))), (.int ((rdI h13 (rf a12 2) (Int32.toNatClampNeg a11)) - (rdI h13 (rf a13 2) (Int32.toNatClampNeg a10)))), (.ref 22)]) rfl (fun hP => (by exact ⟨⟨⟨⟨⟨⟨⟨q14, ⟨(rt_6_2 q14), (vp_cst (rl_6_2 q14) hP.1)⟩⟩, q16⟩, ⟨(rt_6_2 q16), (vp_cst (rl_6_2 q16) hP.2)⟩⟩, q14⟩, ⟨(rt_6_3 q14), (vp_cst (rl_6_3 q14) hP.1)⟩⟩, q16⟩, ⟨(rt_6_3 q16), (vp_cst (rl_6_3 q16) hP.2)⟩⟩)) (pc' := 154) rfl (fun q18 => ?_)
      refine hp_JZ 162 (fun (p19 : Int32) => [(0, (.ref 22)), (1, (.int x1))]) (fun (p19 : Int32) => [(.int p19), (.int ((rdI h13 (rf a12 3) (Int32.toNatClampNeg a11)) - (rdI h13 (rf a13 3) (Int32.toNatClampNeg a10)))), (.int ((rdI h13 (rf a12 2) (Int32.toNatClampNeg a11)) - (rdI h13 (rf a13 2) (Int32.toNatClampNeg a10)))), (.ref 22)]) (fun (p19 : Int32) => h13) ?_ (fun p19 => ?_)
      · refine hp_sv0 ?_
        refine hp_ic_ne hm at0 rfl (by exact trivial) (pc' := 154) rfl 25 rfl (tgt := 161) rfl (fun c20 => ?_) (fun c20 => ?_)
        · refine hp_b hm (at1 25 rfl) (L' := [(5, (.ref a13)), (4, (.ref a12)), (3, (.int a11)), (2, (.int a10)), (0, (.ref 22)), (1, (.int x1))]) (st' := [(.int (0 : Int32)), (.int ((rdI h13 (rf a12 3) (Int32.toNatClampNeg a11)) - (rdI h13 (rf a13 3) (Int32.toNatClampNeg a10)))), (.int ((rdI h13 (rf a12 2) (Int32.toNatClampNeg a11)) - (rdI h13 (rf a13 2) (Int32.toNatClampNeg a10)))), (.ref 22)]) rfl (by exact trivial) (pc' := 162) rfl ?_
          exact hp_lf [4, 5] rfl (fun _ e => e)
        · refine hp_b hm (at1 26 rfl) (L' := [(5, (.ref a13)), (4, (.ref a12)), (3, (.int a11)), (2, (.int a10)), (0, (.ref 22)), (1, (.int x1))]) (st' := [(.int (1 : Int32)), (.int ((rdI h13 (rf a12 3) (Int32.toNatClampNeg a11)) - (rdI h13 (rf a13 3) (Int32.toNatClampNeg a10)))), (.int ((rdI h13 (rf a12 2) (Int32.toNatClampNeg a11)) - (rdI h13 (rf a13 2) (Int32.toNatClampNeg a10)))), (.ref 22)]) rfl (by exact trivial) (pc' := 158) rfl ?_
          refine hp_goto hm 24 rfl (tgt := 162) rfl ?_
          exact hp_lf [4, 5] rfl (fun _ e => e)
      · refine hp_cVS (M2 := M_Ma_direct) hm at0 (as := [(.int ((rdI h13 (rf a12 2) (Int32.toNatClampNeg a11)) - (rdI h13 (rf a13 2) (Int32.toNatClampNeg a10)))), (.int ((rdI h13 (rf a12 3) (Int32.toNatClampNeg a11)) - (rdI h13 (rf a13 3) (Int32.toNatClampNeg a10)))), (.int p19)]) (rest := []) (z := 22) rfl (by exact trivial) (pc' := 162) rfl 26 rfl (lw_g (lw_at lw_m6 57 rfl) rfl) y_Ma_direct rfl (d2 := 3) ⟨le_b rfl, pd_Ma_direct, le_b rfl⟩ (le_b rfl) og_22 (k_Ma_direct ((rdI h13 (rf a12 2) (Int32.toNatClampNeg a11)) - (rdI h13 (rf a13 2) (Int32.toNatClampNeg a10))) ((rdI h13 (rf a12 3) (Int32.toNatClampNeg a11)) - (rdI h13 (rf a13 3) (Int32.toNatClampNeg a10))) p19 h13) (fun _ h14 => ?_)
        refine hp_JZ 186 (fun (p21 : Int32) => []) (fun (p21 : Int32) => [(.int p21), (.int (0 : Int32)), (.int (rdI h14 22 35)), (.int (rdI h14 22 34)), (.ref 22)]) (fun (p21 : Int32) => h14) ?_ (fun p21 => ?_)
        · refine hp_sv0 ?_
          refine hp_ic_lt hm (at1 27 rfl) rfl (by exact ⟨og_22, og_22⟩) (pc' := 178) rfl 28 rfl (tgt := 185) rfl (fun c22 => ?_) (fun c22 => ?_)
          · refine hp_b hm (at1 28 rfl) (L' := [(0, (.ref 22)), (1, (.int x1))]) (st' := [(.int (0 : Int32)), (.int (0 : Int32)), (.int (rdI h14 22 35)), (.int (rdI h14 22 34)), (.ref 22)]) rfl (by exact trivial) (pc' := 186) rfl ?_
            exact hp_lf [] rfl (fun _ e => e)
          · refine hp_b hm (at1 29 rfl) (L' := [(0, (.ref 22)), (1, (.int x1))]) (st' := [(.int (1 : Int32)), (.int (0 : Int32)), (.int (rdI h14 22 35)), (.int (rdI h14 22 34)), (.ref 22)]) rfl (by exact trivial) (pc' := 182) rfl ?_
            refine hp_goto hm 27 rfl (tgt := 186) rfl ?_
            exact hp_lf [] rfl (fun _ e => e)
        · refine hp_cVS (M2 := M_Ma_setVectors) hm at0 (as := [(.int (rdI h14 22 34)), (.int (rdI h14 22 35)), (.int (0 : Int32)), (.int p21)]) (rest := []) (z := 22) rfl (by exact trivial) (pc' := 186) rfl 29 rfl (lw_g (lw_at lw_m6 53 rfl) rfl) y_Ma_setVectors rfl (d2 := 1) ⟨le_b rfl, pd_Ma_setVectors, le_b rfl⟩ (le_b rfl) og_22 (k_Ma_setVectors (rdI h14 22 34) (rdI h14 22 35) (0 : Int32) p21 h14) (fun _ h15 => ?_)
          refine hp_goto hm 30 rfl (tgt := 282) rfl ?_
          exact hp_vr hm 1 rfl rfl (fun _ e => e)
  · refine hp_JZ 18 (fun (p24 : Int32) => [(0, (.ref 22)), (1, (.int x1))]) (fun (p24 : Int32) => [(.int p24)]) (fun (p24 : Int32) => h) ?_ (fun p24 => ?_)
    · refine hp_sv0 ?_
      refine hp_ic_ne hm (at1 30 rfl) rfl (by exact trivial) (pc' := 10) rfl 33 rfl (tgt := 17) rfl (fun c25 => ?_) (fun c25 => ?_)
      · refine hp_b hm (at1 31 rfl) (L' := [(0, (.ref 22)), (1, (.int x1))]) (st' := [(.int (0 : Int32))]) rfl (by exact trivial) (pc' := 18) rfl ?_
        exact hp_lf [0, 1] rfl (fun _ e => e)
      · refine hp_b hm (at1 32 rfl) (L' := [(0, (.ref 22)), (1, (.int x1))]) (st' := [(.int (1 : Int32))]) rfl (by exact trivial) (pc' := 14) rfl ?_
        refine hp_goto hm 32 rfl (tgt := 18) rfl ?_
        exact hp_lf [0, 1] rfl (fun _ e => e)
    · refine hp_b hm (at1 33 rfl) (L' := [(2, (.int p24)), (0, (.ref 22)), (1, (.int x1))]) (st' := [(.int p24), (.ref 22)]) rfl (by exact trivial) (pc' := 21) rfl ?_
      refine hp_JZ 31 (fun (p26 : Int32) => [(1, (.int x1)), (2, (.int p24))]) (fun (p26 : Int32) => [(.int p26), (.ref 22)]) (fun (p26 : Int32) => h) ?_ (fun p26 => ?_)
      · refine hp_sv0 ?_
        refine hp_if_eq hm at0 rfl (by exact trivial) (pc' := 21) rfl 35 rfl (tgt := 30) rfl (fun c27 => ?_) (fun c27 => ?_)
        · refine hp_b hm (at1 34 rfl) (L' := [(2, (.int p24)), (0, (.ref 22)), (1, (.int x1))]) (st' := [(.int (0 : Int32)), (.ref 22)]) rfl (by exact trivial) (pc' := 31) rfl ?_
          exact hp_lf [2, 0] rfl (fun _ e => e)
        · refine hp_b hm (at1 35 rfl) (L' := [(2, (.int p24)), (0, (.ref 22)), (1, (.int x1))]) (st' := [(.int (16384 : Int32)), (.ref 22)]) rfl (by exact trivial) (pc' := 27) rfl ?_
          refine hp_goto hm 34 rfl (tgt := 31) rfl ?_
          exact hp_lf [2, 0] rfl (fun _ e => e)
      · refine hp_JZ 42 (fun (p28 : Int32) => [(1, (.int x1))]) (fun (p28 : Int32) => [(.int p28), (.int p26), (.ref 22)]) (fun (p28 : Int32) => h) ?_ (fun p28 => ?_)
        · refine hp_sv0 ?_
          refine hp_if_eq hm (at1 36 rfl) rfl (by exact trivial) (pc' := 32) rfl 37 rfl (tgt := 39) rfl (fun c29 => ?_) (fun c29 => ?_)
          · refine hp_b hm (at1 37 rfl) (L' := [(1, (.int x1)), (2, (.int p24))]) (st' := [(.int (16384 : Int32)), (.int p26), (.ref 22)]) rfl (by exact trivial) (pc' := 42) rfl ?_
            exact hp_lf [0] rfl (fun _ e => e)
          · refine hp_b hm (at1 38 rfl) (L' := [(1, (.int x1)), (2, (.int p24))]) (st' := [(.int (0 : Int32)), (.int p26), (.ref 22)]) rfl (by exact trivial) (pc' := 36) rfl ?_
            refine hp_goto hm 36 rfl (tgt := 42) rfl ?_
            exact hp_lf [0] rfl (fun _ e => e)
        · refine hp_JZ 52 (fun (p30 : Int32) => [(1, (.int x1))]) (fun (p30 : Int32) => [(.int p30), (.int p28), (.int p26), (.ref 22)]) (fun (p30 : Int32) => h) ?_ (fun p30 => ?_)
          · refine hp_sv0 ?_
            refine hp_ic_ge hm (at1 39 rfl) rfl (by exact trivial) (pc' := 44) rfl 39 rfl (tgt := 51) rfl (fun c31 => ?_) (fun c31 => ?_)
            · refine hp_b hm (at1 40 rfl) (L' := [(1, (.int x1))]) (st' := [(.int (0 : Int32)), (.int p28), (.int p26), (.ref 22)]) rfl (by exact trivial) (pc' := 52) rfl ?_
              exact hp_lf [0] rfl (fun _ e => e)
            · refine hp_b hm (at1 41 rfl) (L' := [(1, (.int x1))]) (st' := [(.int (1 : Int32)), (.int p28), (.int p26), (.ref 22)]) rfl (by exact trivial) (pc' := 48) rfl ?_
              refine hp_goto hm 38 rfl (tgt := 52) rfl ?_
              exact hp_lf [0] rfl (fun _ e => e)
          · refine hp_JZ 62 (fun (p32 : Int32) => []) (fun (p32 : Int32) => [(.int p32), (.int p30), (.int p28), (.int p26), (.ref 22)]) (fun (p32 : Int32) => h) ?_ (fun p32 => ?_)
            · refine hp_sv0 ?_
              refine hp_ic_lt hm (at1 42 rfl) rfl (by exact trivial) (pc' := 54) rfl 41 rfl (tgt := 61) rfl (fun c33 => ?_) (fun c33 => ?_)
              · refine hp_b hm (at1 43 rfl) (L' := [(1, (.int x1))]) (st' := [(.int (0 : Int32)), (.int p30), (.int p28), (.int p26), (.ref 22)]) rfl (by exact trivial) (pc' := 62) rfl ?_
                exact hp_lf [] rfl (fun _ e => e)
              · refine hp_b hm (at1 44 rfl) (L' := [(1, (.int x1))]) (st' := [(.int (1 : Int32)), (.int p30), (.int p28), (.int p26), (.ref 22)]) rfl (by exact trivial) (pc' := 58) rfl ?_
                refine hp_goto hm 40 rfl (tgt := 62) rfl ?_
                exact hp_lf [] rfl (fun _ e => e)
            · refine hp_cVS (M2 := M_Ma_setVectors) hm at0 (as := [(.int p26), (.int p28), (.int p30), (.int p32)]) (rest := []) (z := 22) rfl (by exact trivial) (pc' := 62) rfl 42 rfl (lw_g (lw_at lw_m6 53 rfl) rfl) y_Ma_setVectors rfl (d2 := 1) ⟨le_b rfl, pd_Ma_setVectors, le_b rfl⟩ (le_b rfl) og_22 (k_Ma_setVectors p26 p28 p30 p32 h) (fun _ h16 => ?_)
              refine hp_goto hm 43 rfl (tgt := 282) rfl ?_
              exact hp_vr hm 1 rfl rfl (fun _ e => e)
