/-! LAYER 2b: methods (printed by gen/dec.py): HH_within HH_feed HH_wipe By_copy By_u1 By_u2 By_u4 Fo_isDirectory JM_max JM_min Fo_arePlaced By_sum Fo_areSums Fo_find Fo_beginOf Fo_lengthOf Fo_isHead Fo_isMaxp Fo_locaOf Fo_isLoca By_s2 Gl_has By_s1 Gl_readNumbers Gl_readMatrix Gl_readProgram Gl_readParts Gl_readEnds Gl_readFlags Gl_readPlaces Gl_read Fo_read Fo_isBelow -/
/-! HintHouse.within(JJJ)Z -/
def M_HH_within : hM := (0, ⟨"HintHouse", "within", "(JJJ)Z"⟩, prog_1_method_1_code, 6, (Option.some Jvm.ClassFile.FieldType.boolean), [], [(0, [(.lload_n 0, 1, 0, 0, 0, .null), (.lload_n 2, 1, 0, 0, 0, .null), (.lcmp, 1, 0, 0, 0, .null)]), (17, [(.iconst 0, 1, 0, 0, 0, (.int (0 : Int32)))]), (6, [(.lload_n 0, 1, 0, 0, 0, .null), (.lload 4, 2, 0, 0, 0, .null), (.lcmp, 1, 0, 0, 0, .null)]), (13, [(.iconst 1, 1, 0, 0, 0, (.int (1 : Int32)))])], [(18, .ireturn, 1), (14, .goto 4, 3), (10, .ifCond .gt 7, 3), (3, .ifCond .lt 14, 3)])
set_option maxRecDepth 100000 in
theorem m_HH_within : hx_mok M_HH_within = true := by decide +kernel
theorem pd_HH_within : (parseMethodDescriptor M_HH_within.2.1.desc).map (fun q => q.parameters.length) = some 3 := by decide +kernel
theorem y_HH_within : hx_okS M_HH_within := ⟨⟨lw_g (lw_at lw_m4 41 rfl) rfl, lw_g (lw_at lw_m4 40 rfl) rfl, lw_g (lw_at lw_m1 1 rfl) rfl, by decide, by decide⟩, rfl, by decide, plainFor_of_name (by decide), rfl⟩
noncomputable def f_HH_within (x1 : Int64) (x2 : Int64) (x3 : Int64) : Option Int32 :=
  if x1 < x2 then (
    some (0 : Int32)
  ) else (
    if x3 < x1 then (
      some (0 : Int32)
    ) else (
      some (1 : Int32)
    )
  )
set_option maxRecDepth 20000 in
theorem k_HH_within (x1 : Int64) (x2 : Int64) (x3 : Int64) (h : hH) : hx_kP S0 M_HH_within 1 NT [(.long x1), (.long x2), (.long x3)] h (f_HH_within x1 x2 x3) cvI := by
  have hm := m_HH_within
  show hx_P S0 M_HH_within 1 0 [(0, (.long x1)), (2, (.long x2)), (4, (.long x3))] [] NT h (f_HH_within x1 x2 x3) (hx_Rp cvI NT h)
  unfold f_HH_within
  refine hp_lc_lt hm (at1 0 rfl) rfl (by exact trivial) (pc' := 3) rfl 3 rfl (tgt := 17) rfl (fun c2 => ?_) (fun c2 => ?_)
  · refine hp_b hm (at1 1 rfl) (L' := [(0, (.long x1)), (2, (.long x2)), (4, (.long x3))]) (st' := [(.int (0 : Int32))]) rfl (by exact trivial) (pc' := 18) rfl ?_
    exact hp_ir hm at0 rfl (by exact trivial) (pc' := 18) rfl 0 rfl rfl rfl (fun _ e => e)
  · refine hp_lc_gt hm (at1 2 rfl) rfl (by exact trivial) (pc' := 10) rfl 2 rfl (tgt := 17) rfl (fun c1 => ?_) (fun c1 => ?_)
    · refine hp_b hm (at1 1 rfl) (L' := [(0, (.long x1)), (2, (.long x2)), (4, (.long x3))]) (st' := [(.int (0 : Int32))]) rfl (by exact trivial) (pc' := 18) rfl ?_
      exact hp_ir hm at0 rfl (by exact trivial) (pc' := 18) rfl 0 rfl rfl rfl (fun _ e => e)
    · refine hp_b hm (at1 3 rfl) (L' := [(0, (.long x1)), (2, (.long x2)), (4, (.long x3))]) (st' := [(.int (1 : Int32))]) rfl (by exact trivial) (pc' := 14) rfl ?_
      refine hp_goto hm 1 rfl (tgt := 18) rfl ?_
      exact hp_ir hm at0 rfl (by exact trivial) (pc' := 18) rfl 0 rfl rfl rfl (fun _ e => e)
/-! HintHouse.feed(IJ)I -/
def M_HH_feed : hM := (0, ⟨"HintHouse", "feed", "(IJ)I"⟩, prog_1_method_6_code, 5, (Option.some Jvm.ClassFile.FieldType.int), [], [(0, [(.iload_n 1, 1, 0, 0, 0, .null), (.i2l, 1, 0, 0, 0, .null), (.lconst 1, 1, 0, 0, 0, (.long (1 : Int64))), (.ldc2_w 77, 3, 0, 0, 0, (.long (8 : Int64)))]), (15, [(.aload_n 0, 1, 0, 0, 0, .null), (.getfield 20, 3, 0, 0, 4, .null), (.getfield 83, 3, 1, 1, 0, .null), (.iload_n 1, 1, 0, 0, 0, .null), (.iadd, 1, 0, 0, 0, .null), (.sipush 12000, 3, 0, 0, 0, (.int (12000 : Int32)))]), (33, [(.iconst 0, 1, 0, 0, 0, (.int (0 : Int32))), (.istore 4, 2, 0, 0, 0, .null)]), (36, [(.iload 4, 2, 0, 0, 0, .null), (.iload_n 1, 1, 0, 0, 0, .null)]), (42, [(.aload_n 0, 1, 0, 0, 0, .null), (.getfield 20, 3, 0, 0, 4, .null), (.getfield 86, 3, 1, 0, 4, .null), (.aload_n 0, 1, 0, 0, 0, .null), (.getfield 20, 3, 0, 0, 4, .null), (.getfield 83, 3, 1, 1, 0, .null), (.iload 4, 2, 0, 0, 0, .null), (.iadd, 1, 0, 0, 0, .null), (.lload_n 2, 1, 0, 0, 0, .null), (.bipush 8, 2, 0, 0, 0, (.int (8 : Int32))), (.iload_n 1, 1, 0, 0, 0, .null), (.iconst 1, 1, 0, 0, 0, (.int (1 : Int32))), (.isub, 1, 0, 0, 0, .null), (.iload 4, 2, 0, 0, 0, .null), (.isub, 1, 0, 0, 0, .null), (.imul, 1, 0, 0, 0, .null), (.lshr, 1, 0, 0, 0, .null), (.l2i, 1, 0, 0, 0, .null), (.i2b, 1, 0, 0, 0, .null), (.bastore, 1, 102, 0, 0, .null)]), (73, [(.iinc 4 1, 3, 0, 0, 0, (.int (1 : Int32)))]), (79, [(.aload_n 0, 1, 0, 0, 0, .null), (.getfield 20, 3, 0, 0, 4, .null), (.dup, 1, 0, 0, 0, .null), (.getfield 83, 3, 1, 1, 0, .null), (.iload_n 1, 1, 0, 0, 0, .null), (.iadd, 1, 0, 0, 0, .null), (.putfield 83, 3, 1, 1, 0, .null)]), (92, [(.aload_n 0, 1, 0, 0, 0, .null), (.getfield 20, 3, 0, 0, 4, .null), (.getfield 83, 3, 1, 1, 0, .null)]), (30, [(.bipush (-4), 2, 0, 0, 0, (.int (-4 : Int32)))]), (12, [(.bipush (-2), 2, 0, 0, 0, (.int (-2 : Int32)))])], [(6, .invokestatic 79, 3), (76, .goto (-40), 3), (39, .if_icmp .ge 40, 3), (99, .ireturn, 1), (32, .ireturn, 1), (27, .if_icmp .le 6, 3), (14, .ireturn, 1), (9, .ifCond .ne 6, 3)])
set_option maxRecDepth 100000 in
theorem m_HH_feed : hx_mok M_HH_feed = true := by decide +kernel
theorem pd_HH_feed : (parseMethodDescriptor M_HH_feed.2.1.desc).map (fun q => q.parameters.length) = some 2 := by decide +kernel
theorem y_HH_feed : hx_okV M_HH_feed := ⟨⟨lw_g (lw_at lw_m4 37 rfl) rfl, lw_g (lw_at lw_m4 35 rfl) rfl, lw_g (lw_at lw_m4 36 rfl) rfl, lw_g (lw_at lw_m1 1 rfl) rfl, rfl, by decide, by decide, by decide⟩, rfl, by decide, plainFor_of_name (by decide)⟩
noncomputable def f_HH_feed (x1 : Int32) (x2 : Int64) (h : hH) : Option (Int32 × hH) :=
  bP (f_HH_within (Int32.toInt64 x1) (1 : Int64) (8 : Int64)) fun a1 =>
  if a1 = 0 then (
    some ((-2 : Int32), h)
  ) else (
    if ((rdI h 2 1) + x1) ≤ (12000 : Int32) then (
      bP (A := hH) (
        wh (A := (Int32 × hH)) (B := hH) (fun p2 =>
            if x1 ≤ p2.1 then (
              some (.inr p2.2)
            ) else (
              gd (vp_in ((rdI p2.2 2 1) + p2.1) 12000) <|
              lz (wrI p2.2 3 (Int32.toNatClampNeg ((rdI p2.2 2 1) + p2.1)) (Int8.toInt32 (Int32.toInt8 (Int8.toInt32 (Int32.toInt8 (Int64.toInt32 (x2 >>> ((Int32.toInt64 ((8 : Int32) * ((x1 - (1 : Int32)) - p2.1))) &&& 63)))))))) fun h1 =>
              lz (A := Int32) (p2.1 + (1 : Int32)) fun v5 =>
              some (.inl (v5, h1))
            )
        ) ((0 : Int32), h)
      ) fun p3 =>
      lz (wrI p3 2 1 ((rdI p3 2 1) + x1)) fun h2 =>
      some ((rdI h2 2 1), h2)
    ) else (
      some ((-4 : Int32), h)
    )
  )
set_option maxRecDepth 20000 in
theorem k_HH_feed (x1 : Int32) (x2 : Int64) (h : hH) : hx_kS S0 M_HH_feed 2 NT [(.ref 1), (.int x1), (.long x2)] h (f_HH_feed x1 x2 h) cvI := by
  have hm := m_HH_feed
  show hx_P S0 M_HH_feed 2 0 [(0, (.ref 1)), (1, (.int x1)), (2, (.long x2))] [] NT h (f_HH_feed x1 x2 h) (hx_Rc cvI NT)
  unfold f_HH_feed
  refine hp_cSP (M2 := M_HH_within) hm (at1 0 rfl) (as := [(.long (Int32.toInt64 x1)), (.long (1 : Int64)), (.long (8 : Int64))]) (rest := []) rfl (by exact trivial) (pc' := 6) rfl 0 rfl (lw_g (lw_at lw_m4 39 rfl) rfl) y_HH_within rfl (d2 := 1) ⟨le_b rfl, pd_HH_within, le_b rfl⟩ (le_b rfl) (k_HH_within (Int32.toInt64 x1) (1 : Int64) (8 : Int64) h) (fun a1 => ?_)
  refine hp_if_ne hm at0 rfl (by exact trivial) (pc' := 9) rfl 7 rfl (tgt := 15) rfl (fun c8 => ?_) (fun c8 => ?_)
  · refine hp_ic_le hm (at1 1 rfl) rfl (by exact ⟨og_1, og_2⟩) (pc' := 27) rfl 5 rfl (tgt := 33) rfl (fun c7 => ?_) (fun c7 => ?_)
    · refine hp_b hm (at1 2 rfl) (L' := [(4, (.int (0 : Int32))), (0, (.ref 1)), (1, (.int x1)), (2, (.long x2))]) (st' := []) rfl (by exact trivial) (pc' := 36) rfl ?_
      refine hp_J 79 (fun (p3 : hH) => [(0, (.ref 1)), (1, (.int x1))]) (fun (p3 : hH) => []) (fun (p3 : hH) => p3) ?_ (fun p3 => ?_)
      · refine hp_s [1, 2, 3, 0] rfl (L' := [(0, (.ref 1)), (1, (.int x1)), (2, (.long x2)), (4, (.int (0 : Int32)))]) ?_
        refine hp_wh (fun (p2 : (Int32 × hH)) => [(0, (.ref 1)), (1, (.int x1)), (2, (.long x2)), (4, (.int p2.1))]) [] (fun (p2 : (Int32 × hH)) => p2.2) (fun p2 => ?_) ((0 : Int32), h)
        refine hp_ic_ge hm (at1 3 rfl) rfl (by exact trivial) (pc' := 39) rfl 2 rfl (tgt := 79) rfl (fun c6 => ?_) (fun c6 => ?_)
        · exact hp_lf [0, 1] rfl (fun _ e => e)
        · refine hp_GW hm (at1 4 rfl) (L' := [(0, (.ref 1)), (1, (.int x1)), (2, (.long x2)), (4, (.int p2.1))]) rfl (fun hP => (by exact ⟨⟨⟨⟨og_1, og_2⟩, og_1⟩, og_2⟩, ⟨og_3, hP⟩⟩)) (pc' := 73) rfl (fun q4 h1 => ?_)
          refine hp_z hm (at1 5 rfl) (fun (v5 : Int32) => [(4, (.int v5)), (0, (.ref 1)), (1, (.int x1)), (2, (.long x2))]) (fun (v5 : Int32) => []) rfl (by exact trivial) (pc' := 76) rfl (fun v5 => ?_)
          refine hp_goto hm 1 rfl (tgt := 36) rfl ?_
          exact hp_lf [1, 2, 3, 0] rfl (fun _ e => e)
      · refine hp_w hm (at1 6 rfl) (L' := [(0, (.ref 1)), (1, (.int x1))]) rfl (by exact ⟨⟨og_1, og_2⟩, og_2⟩) (pc' := 92) rfl (fun h2 => ?_)
        exact hp_ir hm (at1 7 rfl) rfl (by exact ⟨og_1, og_2⟩) (pc' := 99) rfl 3 rfl rfl (vp_nar_int _) (fun _ e => e)
    · exact hp_ir hm (at1 8 rfl) rfl (by exact trivial) (pc' := 32) rfl 4 rfl rfl (vp_nar_int _) (fun _ e => e)
  · exact hp_ir hm (at1 9 rfl) rfl (by exact trivial) (pc' := 14) rfl 6 rfl rfl (vp_nar_int _) (fun _ e => e)
/-! HintHouse.wipe()I -/
def M_HH_wipe : hM := (0, ⟨"HintHouse", "wipe", "()I"⟩, prog_1_method_7_code, 2, (Option.some Jvm.ClassFile.FieldType.int), [], [(0, [(.aload_n 0, 1, 0, 0, 0, .null), (.getfield 20, 3, 0, 0, 4, .null), (.getfield 83, 3, 1, 1, 0, .null), (.istore_n 1, 1, 0, 0, 0, .null)]), (8, [(.aload_n 0, 1, 0, 0, 0, .null), (.getfield 20, 3, 0, 0, 4, .null), (.iconst 0, 1, 0, 0, 0, (.int (0 : Int32))), (.putfield 83, 3, 1, 1, 0, .null)]), (16, [(.iload_n 1, 1, 0, 0, 0, .null)])], [(17, .ireturn, 1)])
set_option maxRecDepth 100000 in
theorem m_HH_wipe : hx_mok M_HH_wipe = true := by decide +kernel
theorem pd_HH_wipe : (parseMethodDescriptor M_HH_wipe.2.1.desc).map (fun q => q.parameters.length) = some 0 := by decide +kernel
theorem y_HH_wipe : hx_okV M_HH_wipe := ⟨⟨lw_g (lw_at lw_m4 45 rfl) rfl, lw_g (lw_at lw_m4 43 rfl) rfl, lw_g (lw_at lw_m4 44 rfl) rfl, lw_g (lw_at lw_m1 1 rfl) rfl, rfl, by decide, by decide, by decide⟩, rfl, by decide, plainFor_of_name (by decide)⟩
noncomputable def f_HH_wipe (h : hH) : Option (Int32 × hH) :=
  lz (A := Int32) (rdI h 2 1) fun v1 =>
  lz (wrI h 2 1 (0 : Int32)) fun h1 =>
  some (v1, h1)
set_option maxRecDepth 20000 in
theorem k_HH_wipe (h : hH) : hx_kS S0 M_HH_wipe 1 NT [(.ref 1)] h (f_HH_wipe h) cvI := by
  have hm := m_HH_wipe
  show hx_P S0 M_HH_wipe 1 0 [(0, (.ref 1))] [] NT h (f_HH_wipe h) (hx_Rc cvI NT)
  unfold f_HH_wipe
  refine hp_z hm (at1 0 rfl) (fun (v1 : Int32) => [(1, (.int v1)), (0, (.ref 1))]) (fun (v1 : Int32) => []) rfl (by exact ⟨og_1, og_2⟩) (pc' := 8) rfl (fun v1 => ?_)
  refine hp_w hm (at1 1 rfl) (L' := [(1, (.int v1)), (0, (.ref 1))]) rfl (by exact ⟨og_1, og_2⟩) (pc' := 16) rfl (fun h1 => ?_)
  exact hp_ir hm (at1 2 rfl) rfl (by exact trivial) (pc' := 17) rfl 0 rfl rfl (vp_nar_int _) (fun _ e => e)
/-! HintHouse$Bytes.copy(LHintHouse$Bytes;)V -/
def M_By_copy : hM := (1, ⟨"HintHouse$Bytes", "copy", "(LHintHouse$Bytes;)V"⟩, prog_2_method_7_code, 3, (Option.none : Option Jvm.ClassFile.FieldType), [], [(0, [(.aload_n 0, 1, 0, 0, 0, .null), (.aload_n 1, 1, 0, 0, 0, .null), (.getfield 22, 3, 1, 1, 0, .null), (.putfield 22, 3, 1, 1, 0, .null)]), (8, [(.iconst 0, 1, 0, 0, 0, (.int (0 : Int32))), (.istore_n 2, 1, 0, 0, 0, .null)]), (10, [(.iload_n 2, 1, 0, 0, 0, .null), (.aload_n 0, 1, 0, 0, 0, .null), (.getfield 22, 3, 1, 1, 0, .null)]), (18, [(.aload_n 0, 1, 0, 0, 0, .null), (.getfield 9, 3, 1, 0, 4, .null), (.iload_n 2, 1, 0, 0, 0, .null), (.aload_n 1, 1, 0, 0, 0, .null), (.getfield 9, 3, 1, 0, 4, .null), (.iload_n 2, 1, 0, 0, 0, .null), (.baload, 1, 102, 0, 0, .null), (.bastore, 1, 102, 0, 0, .null)]), (30, [(.iinc 2 1, 3, 0, 0, 0, (.int (1 : Int32)))])], [(33, .goto (-23), 3), (15, .if_icmp .ge 21, 3), (36, .return_, 1)])
set_option maxRecDepth 100000 in
theorem m_By_copy : hx_mok M_By_copy = true := by decide +kernel
theorem pd_By_copy : (parseMethodDescriptor M_By_copy.2.1.desc).map (fun q => q.parameters.length) = some 1 := by decide +kernel
theorem y_By_copy : hx_okV M_By_copy := ⟨⟨lw_g (lw_at lw_m4 53 rfl) rfl, lw_g (lw_at lw_m4 51 rfl) rfl, lw_g (lw_at lw_m4 52 rfl) rfl, lw_g (lw_at lw_m1 2 rfl) rfl, rfl, by decide, by decide, by decide⟩, rfl, by decide, plainFor_of_name (by decide)⟩
noncomputable def f_By_copy (z : Nat) (x1 : Nat) (h : hH) : Option (Unit × hH) :=
  lz (wrI h z 1 (rdI h x1 1)) fun h1 =>
  bP (A := hH) (
    wh (A := (Int32 × hH)) (B := hH) (fun p1 =>
        if (rdI p1.2 z 1) ≤ p1.1 then (
          some (.inr p1.2)
        ) else (
          gd (vp_in p1.1 12000) <|
          lz (wrI p1.2 (rf z 0) (Int32.toNatClampNeg p1.1) (Int8.toInt32 (Int32.toInt8 (rdI p1.2 (rf x1 0) (Int32.toNatClampNeg p1.1))))) fun h2 =>
          lz (A := Int32) (p1.1 + (1 : Int32)) fun v4 =>
          some (.inl (v4, h2))
        )
    ) ((0 : Int32), h1)
  ) fun p2 =>
  some ((), p2)
set_option maxRecDepth 20000 in
theorem k_By_copy (z : Nat) (x1 : Nat) (h : hH) (hz : isA 1 z) (hx1 : isA 1 x1) : hx_kS S0 M_By_copy 1 NT [(.ref z), (.ref x1)] h (f_By_copy z x1 h) cvU := by
  have hm := m_By_copy
  show hx_P S0 M_By_copy 1 0 [(0, (.ref z)), (1, (.ref x1))] [] NT h (f_By_copy z x1 h) (hx_Rc cvU NT)
  unfold f_By_copy
  refine hp_w hm (at1 0 rfl) (L' := [(0, (.ref z)), (1, (.ref x1))]) rfl (by exact ⟨hx1, hz⟩) (pc' := 8) rfl (fun h1 => ?_)
  refine hp_b hm (at1 1 rfl) (L' := [(2, (.int (0 : Int32))), (0, (.ref z)), (1, (.ref x1))]) (st' := []) rfl (by exact trivial) (pc' := 10) rfl ?_
  refine hp_J 36 (fun (p2 : hH) => []) (fun (p2 : hH) => []) (fun (p2 : hH) => p2) ?_ (fun p2 => ?_)
  · refine hp_s [1, 2, 0] rfl (L' := [(0, (.ref z)), (1, (.ref x1)), (2, (.int (0 : Int32)))]) ?_
    refine hp_wh (fun (p1 : (Int32 × hH)) => [(0, (.ref z)), (1, (.ref x1)), (2, (.int p1.1))]) [] (fun (p1 : (Int32 × hH)) => p1.2) (fun p1 => ?_) ((0 : Int32), h1)
    refine hp_ic_ge hm (at1 2 rfl) rfl (by exact hz) (pc' := 15) rfl 1 rfl (tgt := 36) rfl (fun c5 => ?_) (fun c5 => ?_)
    · exact hp_lf [] rfl (fun _ e => e)
    · refine hp_GW hm (at1 3 rfl) (L' := [(0, (.ref z)), (1, (.ref x1)), (2, (.int p1.1))]) rfl (fun hP => (by exact ⟨⟨⟨hz, hx1⟩, ⟨(rt_1_0 hx1), (vp_cst (rl_1_0 hx1) hP)⟩⟩, ⟨(rt_1_0 hz), (vp_cst (rl_1_0 hz) hP)⟩⟩)) (pc' := 30) rfl (fun q3 h2 => ?_)
      refine hp_z hm (at1 4 rfl) (fun (v4 : Int32) => [(2, (.int v4)), (0, (.ref z)), (1, (.ref x1))]) (fun (v4 : Int32) => []) rfl (by exact trivial) (pc' := 33) rfl (fun v4 => ?_)
      refine hp_goto hm 0 rfl (tgt := 10) rfl ?_
      exact hp_lf [1, 2, 0] rfl (fun _ e => e)
  · exact hp_vr hm 2 rfl rfl (fun _ e => e)
/-! HintHouse$Bytes.u1(I)I -/
def M_By_u1 : hM := (1, ⟨"HintHouse$Bytes", "u1", "(I)I"⟩, prog_2_method_2_code, 2, (Option.some Jvm.ClassFile.FieldType.int), [], [(0, [(.aload_n 0, 1, 0, 0, 0, .null), (.getfield 9, 3, 1, 0, 4, .null), (.iload_n 1, 1, 0, 0, 0, .null), (.baload, 1, 102, 0, 0, .null), (.sipush 255, 3, 0, 0, 0, (.int (255 : Int32))), (.iand, 1, 0, 0, 0, .null)])], [(10, .ireturn, 1)])
set_option maxRecDepth 100000 in
theorem m_By_u1 : hx_mok M_By_u1 = true := by decide +kernel
theorem pd_By_u1 : (parseMethodDescriptor M_By_u1.2.1.desc).map (fun q => q.parameters.length) = some 1 := by decide +kernel
theorem y_By_u1 : hx_okV M_By_u1 := ⟨⟨lw_g (lw_at lw_m4 73 rfl) rfl, lw_g (lw_at lw_m4 71 rfl) rfl, lw_g (lw_at lw_m4 72 rfl) rfl, lw_g (lw_at lw_m1 2 rfl) rfl, rfl, by decide, by decide, by decide⟩, rfl, by decide, plainFor_of_name (by decide)⟩
noncomputable def f_By_u1 (z : Nat) (x1 : Int32) (h : hH) : Option Int32 :=
  gd (vp_in x1 12000) <|
  some ((rdI h (rf z 0) (Int32.toNatClampNeg x1)) &&& (255 : Int32))
set_option maxRecDepth 20000 in
theorem k_By_u1 (z : Nat) (x1 : Int32) (h : hH) (hz : isA 1 z) : hx_kP S0 M_By_u1 1 NT [(.ref z), (.int x1)] h (f_By_u1 z x1 h) cvI := by
  have hm := m_By_u1
  show hx_P S0 M_By_u1 1 0 [(0, (.ref z)), (1, (.int x1))] [] NT h (f_By_u1 z x1 h) (hx_Rp cvI NT h)
  unfold f_By_u1
  refine hp_G hm (at1 0 rfl) (L' := [(0, (.ref z)), (1, (.int x1))]) (st' := [(.int ((rdI h (rf z 0) (Int32.toNatClampNeg x1)) &&& (255 : Int32)))]) rfl (fun hP => (by exact ⟨hz, ⟨(rt_1_0 hz), (vp_cst (rl_1_0 hz) hP)⟩⟩)) (pc' := 10) rfl (fun q1 => ?_)
  exact hp_ir hm at0 rfl (by exact trivial) (pc' := 10) rfl 0 rfl rfl (vp_nar_int _) (fun _ e => e)
/-! HintHouse$Bytes.u2(I)I -/
def M_By_u2 : hM := (1, ⟨"HintHouse$Bytes", "u2", "(I)I"⟩, prog_2_method_4_code, 2, (Option.some Jvm.ClassFile.FieldType.int), [], [(0, [(.aload_n 0, 1, 0, 0, 0, .null), (.iload_n 1, 1, 0, 0, 0, .null)]), (5, [(.bipush 8, 2, 0, 0, 0, (.int (8 : Int32))), (.ishl, 1, 0, 0, 0, .null), (.aload_n 0, 1, 0, 0, 0, .null), (.iload_n 1, 1, 0, 0, 0, .null), (.iconst 1, 1, 0, 0, 0, (.int (1 : Int32))), (.iadd, 1, 0, 0, 0, .null)]), (15, [(.ior, 1, 0, 0, 0, .null)])], [(2, .invokevirtual 15, 3), (12, .invokevirtual 15, 3), (16, .ireturn, 1)])
set_option maxRecDepth 100000 in
theorem m_By_u2 : hx_mok M_By_u2 = true := by decide +kernel
theorem pd_By_u2 : (parseMethodDescriptor M_By_u2.2.1.desc).map (fun q => q.parameters.length) = some 1 := by decide +kernel
theorem y_By_u2 : hx_okV M_By_u2 := ⟨⟨lw_g (lw_at lw_m4 69 rfl) rfl, lw_g (lw_at lw_m4 67 rfl) rfl, lw_g (lw_at lw_m4 68 rfl) rfl, lw_g (lw_at lw_m1 2 rfl) rfl, rfl, by decide, by decide, by decide⟩, rfl, by decide, plainFor_of_name (by decide)⟩
noncomputable def f_By_u2 (z : Nat) (x1 : Int32) (h : hH) : Option Int32 :=
  bP (f_By_u1 z x1 h) fun a1 =>
  bP (f_By_u1 z (x1 + (1 : Int32)) h) fun a2 =>
  some ((a1 <<< ((8 : Int32) &&& 31)) ||| a2)
set_option maxRecDepth 20000 in
theorem k_By_u2 (z : Nat) (x1 : Int32) (h : hH) (hz : isA 1 z) : hx_kP S0 M_By_u2 2 NT [(.ref z), (.int x1)] h (f_By_u2 z x1 h) cvI := by
  have hm := m_By_u2
  show hx_P S0 M_By_u2 2 0 [(0, (.ref z)), (1, (.int x1))] [] NT h (f_By_u2 z x1 h) (hx_Rp cvI NT h)
  unfold f_By_u2
  refine hp_cVP (M2 := M_By_u1) hm (at1 0 rfl) (as := [(.int x1)]) (rest := []) (z := z) rfl (by exact trivial) (pc' := 2) rfl 0 rfl (lw_g (lw_at lw_m4 70 rfl) rfl) y_By_u1 rfl (d2 := 1) ⟨le_b rfl, pd_By_u1, le_b rfl⟩ (le_b rfl) hz (k_By_u1 z x1 h hz) (fun a1 => ?_)
  refine hp_cVP (M2 := M_By_u1) hm (at1 1 rfl) (as := [(.int (x1 + (1 : Int32)))]) (rest := [(.int (a1 <<< ((8 : Int32) &&& 31)))]) (z := z) rfl (by exact trivial) (pc' := 12) rfl 1 rfl (lw_g (lw_at lw_m4 70 rfl) rfl) y_By_u1 rfl (d2 := 1) ⟨le_b rfl, pd_By_u1, le_b rfl⟩ (le_b rfl) hz (k_By_u1 z (x1 + (1 : Int32)) h hz) (fun a2 => ?_)
  exact hp_ir hm (at1 2 rfl) rfl (by exact trivial) (pc' := 16) rfl 2 rfl rfl (vp_nar_int _) (fun _ e => e)
/-! HintHouse$Bytes.u4(I)J -/
def M_By_u4 : hM := (1, ⟨"HintHouse$Bytes", "u4", "(I)J"⟩, prog_2_method_6_code, 2, (Option.some Jvm.ClassFile.FieldType.long), [], [(0, [(.aload_n 0, 1, 0, 0, 0, .null), (.iload_n 1, 1, 0, 0, 0, .null)]), (5, [(.i2l, 1, 0, 0, 0, .null), (.bipush 16, 2, 0, 0, 0, (.int (16 : Int32))), (.lshl, 1, 0, 0, 0, .null), (.aload_n 0, 1, 0, 0, 0, .null), (.iload_n 1, 1, 0, 0, 0, .null), (.iconst 2, 1, 0, 0, 0, (.int (2 : Int32))), (.iadd, 1, 0, 0, 0, .null)]), (16, [(.i2l, 1, 0, 0, 0, .null), (.lor, 1, 0, 0, 0, .null)])], [(2, .invokevirtual 19, 3), (13, .invokevirtual 19, 3), (18, .lreturn, 1)])
set_option maxRecDepth 100000 in
theorem m_By_u4 : hx_mok M_By_u4 = true := by decide +kernel
theorem pd_By_u4 : (parseMethodDescriptor M_By_u4.2.1.desc).map (fun q => q.parameters.length) = some 1 := by decide +kernel
theorem y_By_u4 : hx_okV M_By_u4 := ⟨⟨lw_g (lw_at lw_m4 65 rfl) rfl, lw_g (lw_at lw_m4 63 rfl) rfl, lw_g (lw_at lw_m4 64 rfl) rfl, lw_g (lw_at lw_m1 2 rfl) rfl, rfl, by decide, by decide, by decide⟩, rfl, by decide, plainFor_of_name (by decide)⟩
noncomputable def f_By_u4 (z : Nat) (x1 : Int32) (h : hH) : Option Int64 :=
  bP (f_By_u2 z x1 h) fun a1 =>
  bP (f_By_u2 z (x1 + (2 : Int32)) h) fun a2 =>
  some (((Int32.toInt64 a1) <<< ((Int32.toInt64 (16 : Int32)) &&& 63)) ||| (Int32.toInt64 a2))
set_option maxRecDepth 20000 in
theorem k_By_u4 (z : Nat) (x1 : Int32) (h : hH) (hz : isA 1 z) : hx_kP S0 M_By_u4 3 NT [(.ref z), (.int x1)] h (f_By_u4 z x1 h) cvL := by
  have hm := m_By_u4
  show hx_P S0 M_By_u4 3 0 [(0, (.ref z)), (1, (.int x1))] [] NT h (f_By_u4 z x1 h) (hx_Rp cvL NT h)
  unfold f_By_u4
  refine hp_cVP (M2 := M_By_u2) hm (at1 0 rfl) (as := [(.int x1)]) (rest := []) (z := z) rfl (by exact trivial) (pc' := 2) rfl 0 rfl (lw_g (lw_at lw_m4 66 rfl) rfl) y_By_u2 rfl (d2 := 2) ⟨le_b rfl, pd_By_u2, le_b rfl⟩ (le_b rfl) hz (k_By_u2 z x1 h hz) (fun a1 => ?_)
  refine hp_cVP (M2 := M_By_u2) hm (at1 1 rfl) (as := [(.int (x1 + (2 : Int32)))]) (rest := [(.long ((Int32.toInt64 a1) <<< ((Int32.toInt64 (16 : Int32)) &&& 63)))]) (z := z) rfl (by exact trivial) (pc' := 13) rfl 1 rfl (lw_g (lw_at lw_m4 66 rfl) rfl) y_By_u2 rfl (d2 := 2) ⟨le_b rfl, pd_By_u2, le_b rfl⟩ (le_b rfl) hz (k_By_u2 z (x1 + (2 : Int32)) h hz) (fun a2 => ?_)
  exact hp_lr hm (at1 2 rfl) rfl (by exact trivial) (pc' := 18) rfl 2 rfl rfl (fun _ e => e)
/-! HintHouse$Font.isDirectory()Z -/
def M_Fo_isDirectory : hM := (2, ⟨"HintHouse$Font", "isDirectory", "()Z"⟩, prog_3_method_7_code, 5, (Option.some Jvm.ClassFile.FieldType.boolean), [], [(0, [(.aload_n 0, 1, 0, 0, 0, .null), (.getfield 12, 3, 2, 0, 4, .null), (.getfield 134, 3, 1, 1, 0, .null), (.bipush 12, 2, 0, 0, 0, (.int (12 : Int32)))]), (27, [(.iconst 0, 1, 0, 0, 0, (.int (0 : Int32)))]), (12, [(.aload_n 0, 1, 0, 0, 0, .null), (.getfield 12, 3, 2, 0, 4, .null), (.iconst 0, 1, 0, 0, 0, (.int (0 : Int32)))]), (20, [(.ldc2_w 141, 3, 0, 0, 0, (.long (65536 : Int64))), (.lcmp, 1, 0, 0, 0, .null)]), (29, [(.aload_n 0, 1, 0, 0, 0, .null), (.aload_n 0, 1, 0, 0, 0, .null), (.getfield 12, 3, 2, 0, 4, .null), (.iconst 4, 1, 0, 0, 0, (.int (4 : Int32)))]), (38, [(.putfield 42, 3, 2, 1, 0, .null)]), (41, [(.aload_n 0, 1, 0, 0, 0, .null), (.getfield 42, 3, 2, 1, 0, .null), (.i2l, 1, 0, 0, 0, .null), (.lconst 1, 1, 0, 0, 0, (.long (1 : Int64))), (.ldc2_w 143, 3, 0, 0, 0, (.long (16 : Int64)))]), (58, [(.iconst 0, 1, 0, 0, 0, (.int (0 : Int32))), (.istore_n 1, 1, 0, 0, 0, .null)]), (60, [(.iconst 2, 1, 0, 0, 0, (.int (2 : Int32))), (.iload_n 1, 1, 0, 0, 0, .null), (.ishl, 1, 0, 0, 0, .null), (.aload_n 0, 1, 0, 0, 0, .null), (.getfield 42, 3, 2, 1, 0, .null)]), (70, [(.iinc 1 1, 3, 0, 0, 0, (.int (1 : Int32)))]), (76, [(.bipush 16, 2, 0, 0, 0, (.int (16 : Int32))), (.iload_n 1, 1, 0, 0, 0, .null), (.ishl, 1, 0, 0, 0, .null), (.istore_n 2, 1, 0, 0, 0, .null)]), (81, [(.aload_n 0, 1, 0, 0, 0, .null), (.getfield 12, 3, 2, 0, 4, .null), (.bipush 6, 2, 0, 0, 0, (.int (6 : Int32)))]), (90, [(.iload_n 2, 1, 0, 0, 0, .null)]), (148, [(.iconst 0, 1, 0, 0, 0, (.int (0 : Int32)))]), (94, [(.aload_n 0, 1, 0, 0, 0, .null), (.getfield 12, 3, 2, 0, 4, .null), (.bipush 8, 2, 0, 0, 0, (.int (8 : Int32)))]), (103, [(.iload_n 1, 1, 0, 0, 0, .null)]), (107, [(.aload_n 0, 1, 0, 0, 0, .null), (.getfield 12, 3, 2, 0, 4, .null), (.bipush 10, 2, 0, 0, 0, (.int (10 : Int32)))]), (116, [(.bipush 16, 2, 0, 0, 0, (.int (16 : Int32))), (.aload_n 0, 1, 0, 0, 0, .null), (.getfield 42, 3, 2, 1, 0, .null), (.imul, 1, 0, 0, 0, .null), (.iload_n 2, 1, 0, 0, 0, .null), (.isub, 1, 0, 0, 0, .null)]), (128, [(.aload_n 0, 1, 0, 0, 0, .null), (.getfield 12, 3, 2, 0, 4, .null), (.getfield 134, 3, 1, 1, 0, .null), (.bipush 12, 2, 0, 0, 0, (.int (12 : Int32))), (.bipush 16, 2, 0, 0, 0, (.int (16 : Int32))), (.aload_n 0, 1, 0, 0, 0, .null), (.getfield 42, 3, 2, 1, 0, .null), (.imul, 1, 0, 0, 0, .null), (.iadd, 1, 0, 0, 0, .null)]), (150, [(.iconst 0, 1, 0, 0, 0, (.int (0 : Int32))), (.istore_n 3, 1, 0, 0, 0, .null)]), (152, [(.iload_n 3, 1, 0, 0, 0, .null), (.aload_n 0, 1, 0, 0, 0, .null), (.getfield 42, 3, 2, 1, 0, .null)]), (160, [(.bipush 12, 2, 0, 0, 0, (.int (12 : Int32))), (.bipush 16, 2, 0, 0, 0, (.int (16 : Int32))), (.iload_n 3, 1, 0, 0, 0, .null), (.imul, 1, 0, 0, 0, .null), (.iadd, 1, 0, 0, 0, .null), (.istore 4, 2, 0, 0, 0, .null)]), (169, [(.aload_n 0, 1, 0, 0, 0, .null), (.getfield 18, 3, 2, 2, 4, .null), (.iload_n 3, 1, 0, 0, 0, .null), (.aload_n 0, 1, 0, 0, 0, .null), (.getfield 12, 3, 2, 0, 4, .null), (.iload 4, 2, 0, 0, 0, .null)]), (183, [(.lastore, 1, 0, 0, 0, .null)]), (184, [(.aload_n 0, 1, 0, 0, 0, .null), (.getfield 22, 3, 2, 3, 4, .null), (.iload_n 3, 1, 0, 0, 0, .null), (.aload_n 0, 1, 0, 0, 0, .null), (.getfield 12, 3, 2, 0, 4, .null), (.iload 4, 2, 0, 0, 0, .null), (.iconst 4, 1, 0, 0, 0, (.int (4 : Int32))), (.iadd, 1, 0, 0, 0, .null)]), (200, [(.lastore, 1, 0, 0, 0, .null)]), (201, [(.aload_n 0, 1, 0, 0, 0, .null), (.getfield 25, 3, 2, 4, 4, .null), (.iload_n 3, 1, 0, 0, 0, .null), (.aload_n 0, 1, 0, 0, 0, .null), (.getfield 12, 3, 2, 0, 4, .null), (.iload 4, 2, 0, 0, 0, .null), (.bipush 8, 2, 0, 0, 0, (.int (8 : Int32))), (.iadd, 1, 0, 0, 0, .null)]), (218, [(.lastore, 1, 0, 0, 0, .null)]), (219, [(.aload_n 0, 1, 0, 0, 0, .null), (.getfield 28, 3, 2, 5, 4, .null), (.iload_n 3, 1, 0, 0, 0, .null), (.aload_n 0, 1, 0, 0, 0, .null), (.getfield 12, 3, 2, 0, 4, .null), (.iload 4, 2, 0, 0, 0, .null), (.bipush 12, 2, 0, 0, 0, (.int (12 : Int32))), (.iadd, 1, 0, 0, 0, .null)]), (236, [(.lastore, 1, 0, 0, 0, .null)]), (237, [(.iinc 3 1, 3, 0, 0, 0, (.int (1 : Int32)))]), (243, [(.iconst 1, 1, 0, 0, 0, (.int (1 : Int32)))]), (56, [(.iconst 0, 1, 0, 0, 0, (.int (0 : Int32)))])], [(28, .ireturn, 1), (17, .invokevirtual 137, 3), (35, .invokevirtual 102, 3), (50, .invokestatic 112, 3), (73, .goto (-13), 3), (67, .if_icmp .gt 9, 3), (87, .invokevirtual 102, 3), (149, .ireturn, 1), (100, .invokevirtual 102, 3), (113, .invokevirtual 102, 3), (180, .invokevirtual 137, 3), (197, .invokevirtual 137, 3), (215, .invokevirtual 137, 3), (233, .invokevirtual 137, 3), (240, .goto (-88), 3), (157, .if_icmp .ge 86, 3), (244, .ireturn, 1), (145, .if_icmp .ge 5, 3), (125, .if_icmp .ne 23, 3), (104, .if_icmp .ne 44, 3), (91, .if_icmp .ne 57, 3), (57, .ireturn, 1), (53, .ifCond .ne 5, 3), (24, .ifCond .eq 5, 3), (9, .if_icmp .lt 18, 3)])
set_option maxRecDepth 100000 in
theorem m_Fo_isDirectory : hx_mok M_Fo_isDirectory = true := by decide +kernel
theorem pd_Fo_isDirectory : (parseMethodDescriptor M_Fo_isDirectory.2.1.desc).map (fun q => q.parameters.length) = some 0 := by decide +kernel
theorem y_Fo_isDirectory : hx_okV M_Fo_isDirectory := ⟨⟨lw_g (lw_at lw_m4 61 rfl) rfl, lw_g (lw_at lw_m4 60 rfl) rfl, qs0, lw_g (lw_at lw_m1 3 rfl) rfl, rfl, by decide, by decide, by decide⟩, rfl, by decide, plainFor_of_name (by decide)⟩
noncomputable def f_Fo_isDirectory (h : hH) : Option (Int32 × hH) :=
  if (rdI h 5 1) < (12 : Int32) then (
    some ((0 : Int32), h)
  ) else (
    bP (f_By_u4 5 (0 : Int32) h) fun a1 =>
    if a1 = (65536 : Int64) then (
      bP (f_By_u2 5 (4 : Int32) h) fun a2 =>
      lz (wrI h 4 1 a2) fun h1 =>
      bP (f_HH_within (Int32.toInt64 (rdI h1 4 1)) (1 : Int64) (16 : Int64)) fun a3 =>
      if a3 = 0 then (
        some ((0 : Int32), h1)
      ) else (
        bP (A := Int32) (
          wh (A := Int32) (B := Int32) (fun p4 =>
              if (rdI h1 4 1) < ((2 : Int32) <<< (p4 &&& 31)) then (
                some (.inr p4)
              ) else (
                lz (A := Int32) (p4 + (1 : Int32)) fun v6 =>
                some (.inl v6)
              )
          ) (0 : Int32)
        ) fun p5 =>
        lz (A := Int32) ((16 : Int32) <<< (p5 &&& 31)) fun v8 =>
        bP (f_By_u2 5 (6 : Int32) h1) fun a9 =>
        if a9 = v8 then (
          bP (f_By_u2 5 (8 : Int32) h1) fun a10 =>
          if a10 = p5 then (
            bP (f_By_u2 5 (10 : Int32) h1) fun a11 =>
            if a11 = (((16 : Int32) * (rdI h1 4 1)) - v8) then (
              if ((12 : Int32) + ((16 : Int32) * (rdI h1 4 1))) ≤ (rdI h1 5 1) then (
                bP (A := hH) (
                  wh (A := (Int32 × hH)) (B := hH) (fun p12 =>
                      if (rdI p12.2 4 1) ≤ p12.1 then (
                        some (.inr p12.2)
                      ) else (
                        lz (A := Int32) ((12 : Int32) + ((16 : Int32) * p12.1)) fun v14 =>
                        bP (f_By_u4 5 v14 p12.2) fun a15 =>
                        gd (vp_in p12.1 16) <|
                        lz (wrL p12.2 7 (Int32.toNatClampNeg p12.1) a15) fun h2 =>
                        bP (f_By_u4 5 (v14 + (4 : Int32)) h2) fun a17 =>
                        gd (vp_in p12.1 16) <|
                        lz (wrL h2 8 (Int32.toNatClampNeg p12.1) a17) fun h3 =>
                        bP (f_By_u4 5 (v14 + (8 : Int32)) h3) fun a19 =>
                        gd (vp_in p12.1 16) <|
                        lz (wrL h3 9 (Int32.toNatClampNeg p12.1) a19) fun h4 =>
                        bP (f_By_u4 5 (v14 + (12 : Int32)) h4) fun a21 =>
                        gd (vp_in p12.1 16) <|
                        lz (wrL h4 10 (Int32.toNatClampNeg p12.1) a21) fun h5 =>
                        lz (A := Int32) (p12.1 + (1 : Int32)) fun v23 =>
                        some (.inl (v23, h5))
                      )
                  ) ((0 : Int32), h1)
                ) fun p13 =>
                some ((1 : Int32), p13)
              ) else (
                some ((0 : Int32), h1)
              )
            ) else (
              some ((0 : Int32), h1)
            )
          ) else (
            some ((0 : Int32), h1)
          )
        ) else (
          some ((0 : Int32), h1)
        )
      )
    ) else (
      some ((0 : Int32), h)
    )
  )
set_option maxRecDepth 20000 in
theorem k_Fo_isDirectory (h : hH) : hx_kS S0 M_Fo_isDirectory 4 NT [(.ref 4)] h (f_Fo_isDirectory h) cvI := by
  have hm := m_Fo_isDirectory
  show hx_P S0 M_Fo_isDirectory 4 0 [(0, (.ref 4))] [] NT h (f_Fo_isDirectory h) (hx_Rc cvI NT)
  unfold f_Fo_isDirectory
  refine hp_ic_lt hm (at1 0 rfl) rfl (by exact ⟨og_4, og_5⟩) (pc' := 9) rfl 24 rfl (tgt := 27) rfl (fun c31 => ?_) (fun c31 => ?_)
  · exact hp_ir hm (at1 1 rfl) rfl (by exact trivial) (pc' := 28) rfl 0 rfl rfl rfl (fun _ e => e)
  · refine hp_cVP (M2 := M_By_u4) hm (at1 2 rfl) (as := [(.int (0 : Int32))]) (rest := []) (z := 5) rfl (by exact og_4) (pc' := 17) rfl 1 rfl (lw_g (lw_at lw_m4 62 rfl) rfl) y_By_u4 rfl (d2 := 3) ⟨le_b rfl, pd_By_u4, le_b rfl⟩ (le_b rfl) og_5 (k_By_u4 5 (0 : Int32) h og_5) (fun a1 => ?_)
    refine hp_lc_eq hm (at1 3 rfl) rfl (by exact trivial) (pc' := 24) rfl 23 rfl (tgt := 29) rfl (fun c30 => ?_) (fun c30 => ?_)
    · refine hp_cVP (M2 := M_By_u2) hm (at1 4 rfl) (as := [(.int (4 : Int32))]) (rest := [(.ref 4)]) (z := 5) rfl (by exact og_4) (pc' := 35) rfl 2 rfl (lw_g (lw_at lw_m4 75 rfl) rfl) y_By_u2 rfl (d2 := 2) ⟨le_b rfl, pd_By_u2, le_b rfl⟩ (le_b rfl) og_5 (k_By_u2 5 (4 : Int32) h og_5) (fun a2 => ?_)
      refine hp_w hm (at1 5 rfl) (L' := [(0, (.ref 4))]) rfl (by exact og_4) (pc' := 41) rfl (fun h1 => ?_)
      refine hp_cNP (M2 := M_HH_within) hm (at1 6 rfl) (as := [(.long (Int32.toInt64 (rdI h1 4 1))), (.long (1 : Int64)), (.long (16 : Int64))]) (rest := []) rfl (by exact og_4) (pc' := 50) rfl 3 rfl (hmn_2_112) y_HH_within rfl (d2 := 1) ⟨le_b rfl, pd_HH_within, le_b rfl⟩ (le_b rfl) (k_HH_within (Int32.toInt64 (rdI h1 4 1)) (1 : Int64) (16 : Int64) h1) (fun a3 => ?_)
      refine hp_if_ne hm at0 rfl (by exact trivial) (pc' := 53) rfl 22 rfl (tgt := 58) rfl (fun c29 => ?_) (fun c29 => ?_)
      · refine hp_b hm (at1 7 rfl) (L' := [(1, (.int (0 : Int32))), (0, (.ref 4))]) (st' := []) rfl (by exact trivial) (pc' := 60) rfl ?_
        refine hp_J 76 (fun (p5 : Int32) => [(0, (.ref 4)), (1, (.int p5))]) (fun (p5 : Int32) => []) (fun (p5 : Int32) => h1) ?_ (fun p5 => ?_)
        · refine hp_s [1, 0] rfl (L' := [(0, (.ref 4)), (1, (.int (0 : Int32)))]) ?_
          refine hp_wh (fun (p4 : Int32) => [(0, (.ref 4)), (1, (.int p4))]) [] (fun (p4 : Int32) => h1) (fun p4 => ?_) (0 : Int32)
          refine hp_ic_gt hm (at1 8 rfl) rfl (by exact og_4) (pc' := 67) rfl 5 rfl (tgt := 76) rfl (fun c7 => ?_) (fun c7 => ?_)
          · exact hp_lf [0, 1] rfl (fun _ e => e)
          · refine hp_z hm (at1 9 rfl) (fun (v6 : Int32) => [(1, (.int v6)), (0, (.ref 4))]) (fun (v6 : Int32) => []) rfl (by exact trivial) (pc' := 73) rfl (fun v6 => ?_)
            refine hp_goto hm 4 rfl (tgt := 60) rfl ?_
            exact hp_lf [1, 0] rfl (fun _ e => e)
        · refine hp_z hm (at1 10 rfl) (fun (v8 : Int32) => [(2, (.int v8)), (0, (.ref 4)), (1, (.int p5))]) (fun (v8 : Int32) => []) rfl (by exact trivial) (pc' := 81) rfl (fun v8 => ?_)
          refine hp_cVP (M2 := M_By_u2) hm (at1 11 rfl) (as := [(.int (6 : Int32))]) (rest := []) (z := 5) rfl (by exact og_4) (pc' := 87) rfl 6 rfl (lw_g (lw_at lw_m4 75 rfl) rfl) y_By_u2 rfl (d2 := 2) ⟨le_b rfl, pd_By_u2, le_b rfl⟩ (le_b rfl) og_5 (k_By_u2 5 (6 : Int32) h1 og_5) (fun a9 => ?_)
          refine hp_ic_ne hm (at1 12 rfl) rfl (by exact trivial) (pc' := 91) rfl 20 rfl (tgt := 148) rfl (fun c28 => ?_) (fun c28 => ?_)
          · exact hp_ir hm (at1 13 rfl) rfl (by exact trivial) (pc' := 149) rfl 7 rfl rfl rfl (fun _ e => e)
          · refine hp_cVP (M2 := M_By_u2) hm (at1 14 rfl) (as := [(.int (8 : Int32))]) (rest := []) (z := 5) rfl (by exact og_4) (pc' := 100) rfl 8 rfl (lw_g (lw_at lw_m4 75 rfl) rfl) y_By_u2 rfl (d2 := 2) ⟨le_b rfl, pd_By_u2, le_b rfl⟩ (le_b rfl) og_5 (k_By_u2 5 (8 : Int32) h1 og_5) (fun a10 => ?_)
            refine hp_ic_ne hm (at1 15 rfl) rfl (by exact trivial) (pc' := 104) rfl 19 rfl (tgt := 148) rfl (fun c27 => ?_) (fun c27 => ?_)
            · exact hp_ir hm (at1 13 rfl) rfl (by exact trivial) (pc' := 149) rfl 7 rfl rfl rfl (fun _ e => e)
            · refine hp_cVP (M2 := M_By_u2) hm (at1 16 rfl) (as := [(.int (10 : Int32))]) (rest := []) (z := 5) rfl (by exact og_4) (pc' := 113) rfl 9 rfl (lw_g (lw_at lw_m4 75 rfl) rfl) y_By_u2 rfl (d2 := 2) ⟨le_b rfl, pd_By_u2, le_b rfl⟩ (le_b rfl) og_5 (k_By_u2 5 (10 : Int32) h1 og_5) (fun a11 => ?_)
              refine hp_ic_ne hm (at1 17 rfl) rfl (by exact og_4) (pc' := 125) rfl 18 rfl (tgt := 148) rfl (fun c26 => ?_) (fun c26 => ?_)
              · exact hp_ir hm (at1 13 rfl) rfl (by exact trivial) (pc' := 149) rfl 7 rfl rfl rfl (fun _ e => e)
              · refine hp_ic_ge hm (at1 18 rfl) rfl (by exact ⟨⟨og_4, og_5⟩, og_4⟩) (pc' := 145) rfl 17 rfl (tgt := 150) rfl (fun c25 => ?_) (fun c25 => ?_)
                · refine hp_b hm (at1 19 rfl) (L' := [(3, (.int (0 : Int32))), (2, (.int v8)), (0, (.ref 4)), (1, (.int p5))]) (st' := []) rfl (by exact trivial) (pc' := 152) rfl ?_
                  refine hp_J 243 (fun (p13 : hH) => []) (fun (p13 : hH) => []) (fun (p13 : hH) => p13) ?_ (fun p13 => ?_)
                  · refine hp_s [2, 0] rfl (L' := [(0, (.ref 4)), (3, (.int (0 : Int32)))]) ?_
                    refine hp_wh (fun (p12 : (Int32 × hH)) => [(0, (.ref 4)), (3, (.int p12.1))]) [] (fun (p12 : (Int32 × hH)) => p12.2) (fun p12 => ?_) ((0 : Int32), h1)
                    refine hp_ic_ge hm (at1 20 rfl) rfl (by exact og_4) (pc' := 157) rfl 15 rfl (tgt := 243) rfl (fun c24 => ?_) (fun c24 => ?_)
                    · exact hp_lf [] rfl (fun _ e => e)
                    · refine hp_z hm (at1 21 rfl) (fun (v14 : Int32) => [(4, (.int v14)), (0, (.ref 4)), (3, (.int p12.1))]) (fun (v14 : Int32) => []) rfl (by exact trivial) (pc' := 169) rfl (fun v14 => ?_)
                      refine hp_cVP (M2 := M_By_u4) hm (at1 22 rfl) (as := [(.int v14)]) (rest := [(.int p12.1), (.ref 7)]) (z := 5) rfl (by exact ⟨og_4, og_4⟩) (pc' := 180) rfl 10 rfl (lw_g (lw_at lw_m4 62 rfl) rfl) y_By_u4 rfl (d2 := 3) ⟨le_b rfl, pd_By_u4, le_b rfl⟩ (le_b rfl) og_5 (k_By_u4 5 v14 p12.2 og_5) (fun a15 => ?_)
                      refine hp_GW hm (at1 23 rfl) (L' := [(4, (.int v14)), (0, (.ref 4)), (3, (.int p12.1))]) rfl (fun hP => (by exact ⟨og_7, hP⟩)) (pc' := 184) rfl (fun q16 h2 => ?_)
                      refine hp_cVP (M2 := M_By_u4) hm (at1 24 rfl) (as := [(.int (v14 + (4 : Int32)))]) (rest := [(.int p12.1), (.ref 8)]) (z := 5) rfl (by exact ⟨og_4, og_4⟩) (pc' := 197) rfl 11 rfl (lw_g (lw_at lw_m4 62 rfl) rfl) y_By_u4 rfl (d2 := 3) ⟨le_b rfl, pd_By_u4, le_b rfl⟩ (le_b rfl) og_5 (k_By_u4 5 (v14 + (4 : Int32)) h2 og_5) (fun a17 => ?_)
                      refine hp_GW hm (at1 25 rfl) (L' := [(4, (.int v14)), (0, (.ref 4)), (3, (.int p12.1))]) rfl (fun hP => (by exact ⟨og_8, hP⟩)) (pc' := 201) rfl (fun q18 h3 => ?_)
                      refine hp_cVP (M2 := M_By_u4) hm (at1 26 rfl) (as := [(.int (v14 + (8 : Int32)))]) (rest := [(.int p12.1), (.ref 9)]) (z := 5) rfl (by exact ⟨og_4, og_4⟩) (pc' := 215) rfl 12 rfl (lw_g (lw_at lw_m4 62 rfl) rfl) y_By_u4 rfl (d2 := 3) ⟨le_b rfl, pd_By_u4, le_b rfl⟩ (le_b rfl) og_5 (k_By_u4 5 (v14 + (8 : Int32)) h3 og_5) (fun a19 => ?_)
                      refine hp_GW hm (at1 27 rfl) (L' := [(4, (.int v14)), (0, (.ref 4)), (3, (.int p12.1))]) rfl (fun hP => (by exact ⟨og_9, hP⟩)) (pc' := 219) rfl (fun q20 h4 => ?_)
                      refine hp_cVP (M2 := M_By_u4) hm (at1 28 rfl) (as := [(.int (v14 + (12 : Int32)))]) (rest := [(.int p12.1), (.ref 10)]) (z := 5) rfl (by exact ⟨og_4, og_4⟩) (pc' := 233) rfl 13 rfl (lw_g (lw_at lw_m4 62 rfl) rfl) y_By_u4 rfl (d2 := 3) ⟨le_b rfl, pd_By_u4, le_b rfl⟩ (le_b rfl) og_5 (k_By_u4 5 (v14 + (12 : Int32)) h4 og_5) (fun a21 => ?_)
                      refine hp_GW hm (at1 29 rfl) (L' := [(4, (.int v14)), (0, (.ref 4)), (3, (.int p12.1))]) rfl (fun hP => (by exact ⟨og_10, hP⟩)) (pc' := 237) rfl (fun q22 h5 => ?_)
                      refine hp_z hm (at1 30 rfl) (fun (v23 : Int32) => [(3, (.int v23)), (4, (.int v14)), (0, (.ref 4))]) (fun (v23 : Int32) => []) rfl (by exact trivial) (pc' := 240) rfl (fun v23 => ?_)
                      refine hp_goto hm 14 rfl (tgt := 152) rfl ?_
                      exact hp_lf [2, 0] rfl (fun _ e => e)
                  · exact hp_ir hm (at1 31 rfl) rfl (by exact trivial) (pc' := 244) rfl 16 rfl rfl rfl (fun _ e => e)
                · exact hp_ir hm (at1 13 rfl) rfl (by exact trivial) (pc' := 149) rfl 7 rfl rfl rfl (fun _ e => e)
      · exact hp_ir hm (at1 32 rfl) rfl (by exact trivial) (pc' := 57) rfl 21 rfl rfl rfl (fun _ e => e)
    · exact hp_ir hm (at1 1 rfl) rfl (by exact trivial) (pc' := 28) rfl 0 rfl rfl rfl (fun _ e => e)
/-! java/lang/Math.max(JJ)J -/
def M_JM_max : hM := (12, ⟨"java/lang/Math", "max", "(JJ)J"⟩, prog_16_method_66_code, 4, (Option.some Jvm.ClassFile.FieldType.long), [], [(0, [(.lload_n 0, 1, 0, 0, 0, .null), (.lload_n 2, 1, 0, 0, 0, .null), (.lcmp, 1, 0, 0, 0, .null)]), (10, [(.lload_n 2, 1, 0, 0, 0, .null)]), (6, [(.lload_n 0, 1, 0, 0, 0, .null)])], [(11, .lreturn, 1), (7, .goto 4, 3), (3, .ifCond .lt 7, 3)])
set_option maxRecDepth 100000 in
theorem m_JM_max : hx_mok M_JM_max = true := by decide +kernel
theorem pd_JM_max : (parseMethodDescriptor M_JM_max.2.1.desc).map (fun q => q.parameters.length) = some 2 := by decide +kernel
theorem y_JM_max : hx_okS M_JM_max := ⟨⟨lw_g (lw_at lw_m4 85 rfl) rfl, lw_g (lw_at lw_m4 84 rfl) rfl, lw_g (lw_at lw_m1 13 rfl) rfl, by decide, by decide⟩, rfl, by decide, by decide +kernel, rfl⟩
noncomputable def f_JM_max (x1 : Int64) (x2 : Int64) : Option Int64 :=
  if x1 < x2 then (
    some x2
  ) else (
    some x1
  )
set_option maxRecDepth 20000 in
theorem k_JM_max (x1 : Int64) (x2 : Int64) (h : hH) : hx_kP S0 M_JM_max 1 NT [(.long x1), (.long x2)] h (f_JM_max x1 x2) cvL := by
  have hm := m_JM_max
  show hx_P S0 M_JM_max 1 0 [(0, (.long x1)), (2, (.long x2))] [] NT h (f_JM_max x1 x2) (hx_Rp cvL NT h)
  unfold f_JM_max
  refine hp_lc_lt hm (at1 0 rfl) rfl (by exact trivial) (pc' := 3) rfl 2 rfl (tgt := 10) rfl (fun c1 => ?_) (fun c1 => ?_)
  · refine hp_b hm (at1 1 rfl) (L' := [(0, (.long x1)), (2, (.long x2))]) (st' := [(.long x2)]) rfl (by exact trivial) (pc' := 11) rfl ?_
    exact hp_lr hm at0 rfl (by exact trivial) (pc' := 11) rfl 0 rfl rfl (fun _ e => e)
  · refine hp_b hm (at1 2 rfl) (L' := [(0, (.long x1)), (2, (.long x2))]) (st' := [(.long x1)]) rfl (by exact trivial) (pc' := 7) rfl ?_
    refine hp_goto hm 1 rfl (tgt := 11) rfl ?_
    exact hp_lr hm at0 rfl (by exact trivial) (pc' := 11) rfl 0 rfl rfl (fun _ e => e)
/-! java/lang/Math.min(JJ)J -/
def M_JM_min : hM := (12, ⟨"java/lang/Math", "min", "(JJ)J"⟩, prog_16_method_70_code, 4, (Option.some Jvm.ClassFile.FieldType.long), [], [(0, [(.lload_n 0, 1, 0, 0, 0, .null), (.lload_n 2, 1, 0, 0, 0, .null), (.lcmp, 1, 0, 0, 0, .null)]), (10, [(.lload_n 2, 1, 0, 0, 0, .null)]), (6, [(.lload_n 0, 1, 0, 0, 0, .null)])], [(11, .lreturn, 1), (7, .goto 4, 3), (3, .ifCond .gt 7, 3)])
set_option maxRecDepth 100000 in
theorem m_JM_min : hx_mok M_JM_min = true := by decide +kernel
theorem pd_JM_min : (parseMethodDescriptor M_JM_min.2.1.desc).map (fun q => q.parameters.length) = some 2 := by decide +kernel
theorem y_JM_min : hx_okS M_JM_min := ⟨⟨lw_g (lw_at lw_m4 88 rfl) rfl, lw_g (lw_at lw_m4 87 rfl) rfl, lw_g (lw_at lw_m1 13 rfl) rfl, by decide, by decide⟩, rfl, by decide, by decide +kernel, rfl⟩
noncomputable def f_JM_min (x1 : Int64) (x2 : Int64) : Option Int64 :=
  if x2 < x1 then (
    some x2
  ) else (
    some x1
  )
set_option maxRecDepth 20000 in
theorem k_JM_min (x1 : Int64) (x2 : Int64) (h : hH) : hx_kP S0 M_JM_min 1 NT [(.long x1), (.long x2)] h (f_JM_min x1 x2) cvL := by
  have hm := m_JM_min
  show hx_P S0 M_JM_min 1 0 [(0, (.long x1)), (2, (.long x2))] [] NT h (f_JM_min x1 x2) (hx_Rp cvL NT h)
  unfold f_JM_min
  refine hp_lc_gt hm (at1 0 rfl) rfl (by exact trivial) (pc' := 3) rfl 2 rfl (tgt := 10) rfl (fun c1 => ?_) (fun c1 => ?_)
  · refine hp_b hm (at1 1 rfl) (L' := [(0, (.long x1)), (2, (.long x2))]) (st' := [(.long x2)]) rfl (by exact trivial) (pc' := 11) rfl ?_
    exact hp_lr hm at0 rfl (by exact trivial) (pc' := 11) rfl 0 rfl rfl (fun _ e => e)
  · refine hp_b hm (at1 2 rfl) (L' := [(0, (.long x1)), (2, (.long x2))]) (st' := [(.long x1)]) rfl (by exact trivial) (pc' := 7) rfl ?_
    refine hp_goto hm 1 rfl (tgt := 11) rfl ?_
    exact hp_lr hm at0 rfl (by exact trivial) (pc' := 11) rfl 0 rfl rfl (fun _ e => e)
/-! HintHouse$Font.arePlaced()Z -/
def M_Fo_arePlaced : hM := (2, ⟨"HintHouse$Font", "arePlaced", "()Z"⟩, prog_3_method_8_code, 5, (Option.some Jvm.ClassFile.FieldType.boolean), [], [(0, [(.iconst 0, 1, 0, 0, 0, (.int (0 : Int32))), (.istore_n 1, 1, 0, 0, 0, .null)]), (2, [(.iload_n 1, 1, 0, 0, 0, .null), (.aload_n 0, 1, 0, 0, 0, .null), (.getfield 42, 3, 2, 1, 0, .null)]), (10, [(.aload_n 0, 1, 0, 0, 0, .null), (.getfield 25, 3, 2, 4, 4, .null), (.iload_n 1, 1, 0, 0, 0, .null), (.laload, 1, 0, 0, 0, .null), (.aload_n 0, 1, 0, 0, 0, .null), (.getfield 28, 3, 2, 5, 4, .null), (.iload_n 1, 1, 0, 0, 0, .null), (.laload, 1, 0, 0, 0, .null), (.ladd, 1, 0, 0, 0, .null), (.lstore_n 2, 1, 0, 0, 0, .null)]), (24, [(.aload_n 0, 1, 0, 0, 0, .null), (.getfield 25, 3, 2, 4, 4, .null), (.iload_n 1, 1, 0, 0, 0, .null), (.laload, 1, 0, 0, 0, .null), (.ldc2_w 145, 3, 0, 0, 0, (.long (3 : Int64))), (.land, 1, 0, 0, 0, .null), (.lconst 0, 1, 0, 0, 0, (.long (0 : Int64))), (.lcmp, 1, 0, 0, 0, .null)]), (73, [(.iconst 0, 1, 0, 0, 0, (.int (0 : Int32)))]), (39, [(.aload_n 0, 1, 0, 0, 0, .null), (.getfield 25, 3, 2, 4, 4, .null), (.iload_n 1, 1, 0, 0, 0, .null), (.laload, 1, 0, 0, 0, .null), (.bipush 12, 2, 0, 0, 0, (.int (12 : Int32))), (.bipush 16, 2, 0, 0, 0, (.int (16 : Int32))), (.aload_n 0, 1, 0, 0, 0, .null), (.getfield 42, 3, 2, 1, 0, .null), (.imul, 1, 0, 0, 0, .null), (.iadd, 1, 0, 0, 0, .null), (.i2l, 1, 0, 0, 0, .null), (.lcmp, 1, 0, 0, 0, .null)]), (60, [(.lload_n 2, 1, 0, 0, 0, .null), (.aload_n 0, 1, 0, 0, 0, .null), (.getfield 12, 3, 2, 0, 4, .null), (.getfield 134, 3, 1, 1, 0, .null), (.i2l, 1, 0, 0, 0, .null), (.lcmp, 1, 0, 0, 0, .null)]), (75, [(.iconst 0, 1, 0, 0, 0, (.int (0 : Int32))), (.istore 4, 2, 0, 0, 0, .null)]), (78, [(.iload 4, 2, 0, 0, 0, .null), (.iload_n 1, 1, 0, 0, 0, .null)]), (84, [(.aload_n 0, 1, 0, 0, 0, .null), (.getfield 25, 3, 2, 4, 4, .null), (.iload 4, 2, 0, 0, 0, .null), (.laload, 1, 0, 0, 0, .null), (.aload_n 0, 1, 0, 0, 0, .null), (.getfield 25, 3, 2, 4, 4, .null), (.iload_n 1, 1, 0, 0, 0, .null), (.laload, 1, 0, 0, 0, .null)]), (100, [(.aload_n 0, 1, 0, 0, 0, .null), (.getfield 25, 3, 2, 4, 4, .null), (.iload 4, 2, 0, 0, 0, .null), (.laload, 1, 0, 0, 0, .null), (.aload_n 0, 1, 0, 0, 0, .null), (.getfield 28, 3, 2, 5, 4, .null), (.iload 4, 2, 0, 0, 0, .null), (.laload, 1, 0, 0, 0, .null), (.ladd, 1, 0, 0, 0, .null), (.lload_n 2, 1, 0, 0, 0, .null)]), (119, [(.lcmp, 1, 0, 0, 0, .null)]), (125, [(.iinc 4 1, 3, 0, 0, 0, (.int (1 : Int32)))]), (123, [(.iconst 0, 1, 0, 0, 0, (.int (0 : Int32)))]), (131, [(.iinc 1 1, 3, 0, 0, 0, (.int (1 : Int32)))]), (137, [(.iconst 1, 1, 0, 0, 0, (.int (1 : Int32)))])], [(74, .ireturn, 1), (97, .invokestatic 147, 3), (116, .invokestatic 153, 3), (128, .goto (-50), 3), (124, .ireturn, 1), (120, .ifCond .ge 5, 3), (81, .if_icmp .ge 50, 3), (134, .goto (-132), 3), (70, .ifCond .le 5, 3), (57, .ifCond .lt 16, 3), (36, .ifCond .ne 37, 3), (7, .if_icmp .ge 130, 3), (138, .ireturn, 1)])
set_option maxRecDepth 100000 in
theorem m_Fo_arePlaced : hx_mok M_Fo_arePlaced = true := by decide +kernel
theorem pd_Fo_arePlaced : (parseMethodDescriptor M_Fo_arePlaced.2.1.desc).map (fun q => q.parameters.length) = some 0 := by decide +kernel
theorem y_Fo_arePlaced : hx_okV M_Fo_arePlaced := ⟨⟨lw_g (lw_at lw_m4 81 rfl) rfl, lw_g (lw_at lw_m4 80 rfl) rfl, qs1, lw_g (lw_at lw_m1 3 rfl) rfl, rfl, by decide, by decide, by decide⟩, rfl, by decide, plainFor_of_name (by decide)⟩
noncomputable def f_Fo_arePlaced (h : hH) : Option Int32 :=
  bE (P := Unit) (X := Int32) (
    wh (A := Int32) (B := (Unit ⊕ Int32)) (fun p1 =>
        if (rdI h 4 1) ≤ p1 then (
          some (.inr (.inl ()))
        ) else (
          gd (vp_in p1 16) <|
          lz (A := Int64) ((rdL h 9 (Int32.toNatClampNeg p1)) + (rdL h 10 (Int32.toNatClampNeg p1))) fun v3 =>
          gd (vp_in p1 16) <|
          if ((rdL h 9 (Int32.toNatClampNeg p1)) &&& (3 : Int64)) = (0 : Int64) then (
            gd (vp_in p1 16) <|
            if (rdL h 9 (Int32.toNatClampNeg p1)) < (Int32.toInt64 ((12 : Int32) + ((16 : Int32) * (rdI h 4 1)))) then (
              some (.inr (.inr (0 : Int32)))
            ) else (
              if v3 ≤ (Int32.toInt64 (rdI h 5 1)) then (
                bE (P := Unit) (X := (Int32 ⊕ (Unit ⊕ Int32))) (
                  wh (A := Int32) (B := (Unit ⊕ (Int32 ⊕ (Unit ⊕ Int32)))) (fun p7 =>
                      if p1 ≤ p7 then (
                        some (.inr (.inl ()))
                      ) else (
                        gd (vp_in p7 16 ∧ vp_in p1 16) <|
                        bP (f_JM_max (rdL h 9 (Int32.toNatClampNeg p7)) (rdL h 9 (Int32.toNatClampNeg p1))) fun a10 =>
                        gd (vp_in p7 16) <|
                        bP (f_JM_min ((rdL h 9 (Int32.toNatClampNeg p7)) + (rdL h 10 (Int32.toNatClampNeg p7))) v3) fun a12 =>
                        if a12 ≤ a10 then (
                          lz (A := Int32) (p7 + (1 : Int32)) fun v13 =>
                          some (.inl v13)
                        ) else (
                          some (.inr (.inr (.inr (.inr (0 : Int32)))))
                        )
                      )
                  ) (0 : Int32)
                ) fun p8 =>
                lz (A := Int32) (p1 + (1 : Int32)) fun v16 =>
                some (.inl v16)
              ) else (
                some (.inr (.inr (0 : Int32)))
              )
            )
          ) else (
            some (.inr (.inr (0 : Int32)))
          )
        )
    ) (0 : Int32)
  ) fun p2 =>
  some (1 : Int32)
set_option maxRecDepth 20000 in
theorem k_Fo_arePlaced (h : hH) : hx_kP S0 M_Fo_arePlaced 2 NT [(.ref 4)] h (f_Fo_arePlaced h) cvI := by
  have hm := m_Fo_arePlaced
  show hx_P S0 M_Fo_arePlaced 2 0 [(0, (.ref 4))] [] NT h (f_Fo_arePlaced h) (hx_Rp cvI NT h)
  unfold f_Fo_arePlaced
  refine hp_b hm (at1 0 rfl) (L' := [(1, (.int (0 : Int32))), (0, (.ref 4))]) (st' := []) rfl (by exact trivial) (pc' := 2) rfl ?_
  refine hp_E 137 (fun (p2 : Unit) => []) (fun (p2 : Unit) => []) (fun (p2 : Unit) => h) ?_ (fun p2 => ?_)
  · refine hp_s [1, 0] rfl (L' := [(0, (.ref 4)), (1, (.int (0 : Int32)))]) ?_
    refine hp_wh (fun (p1 : Int32) => [(0, (.ref 4)), (1, (.int p1))]) [] (fun (p1 : Int32) => h) (fun p1 => ?_) (0 : Int32)
    refine hp_ic_ge hm (at1 1 rfl) rfl (by exact og_4) (pc' := 7) rfl 11 rfl (tgt := 137) rfl (fun c20 => ?_) (fun c20 => ?_)
    · exact hp_lf [] rfl (fun _ e => e)
    · refine hp_GZ hm (at1 2 rfl) (fun (v3 : Int64) => [(2, (.long v3)), (0, (.ref 4)), (1, (.int p1))]) (fun (v3 : Int64) => []) rfl (fun hP => (by exact ⟨⟨⟨og_4, ⟨og_9, hP⟩⟩, og_4⟩, ⟨og_10, hP⟩⟩)) (pc' := 24) rfl (fun q4 v3 => ?_)
      refine hp_G hm (at1 3 rfl) (L' := [(2, (.long v3)), (0, (.ref 4)), (1, (.int p1))]) (st' := [(.int (lg_cmp ((rdL h 9 (Int32.toNatClampNeg p1)) &&& (3 : Int64)) (0 : Int64)))]) rfl (fun hP => (by exact ⟨og_4, ⟨og_9, hP⟩⟩)) (pc' := 36) rfl (fun q5 => ?_)
      refine hp_lc_ne hm at0 rfl (by exact trivial) (pc' := 36) rfl 10 rfl (tgt := 73) rfl (fun c19 => ?_) (fun c19 => ?_)
      · exact hp_ir hm (at1 4 rfl) rfl (by exact trivial) (pc' := 74) rfl 0 rfl rfl rfl (fun _ e => e)
      · refine hp_G hm (at1 5 rfl) (L' := [(2, (.long v3)), (0, (.ref 4)), (1, (.int p1))]) (st' := [(.int (lg_cmp (rdL h 9 (Int32.toNatClampNeg p1)) (Int32.toInt64 ((12 : Int32) + ((16 : Int32) * (rdI h 4 1))))))]) rfl (fun hP => (by exact ⟨⟨og_4, ⟨og_9, hP⟩⟩, og_4⟩)) (pc' := 57) rfl (fun q6 => ?_)
        refine hp_lc_lt hm at0 rfl (by exact trivial) (pc' := 57) rfl 9 rfl (tgt := 73) rfl (fun c18 => ?_) (fun c18 => ?_)
        · exact hp_ir hm (at1 4 rfl) rfl (by exact trivial) (pc' := 74) rfl 0 rfl rfl rfl (fun _ e => e)
        · refine hp_lc_le hm (at1 6 rfl) rfl (by exact ⟨og_4, og_5⟩) (pc' := 70) rfl 8 rfl (tgt := 75) rfl (fun c17 => ?_) (fun c17 => ?_)
          · refine hp_b hm (at1 7 rfl) (L' := [(4, (.int (0 : Int32))), (2, (.long v3)), (0, (.ref 4)), (1, (.int p1))]) (st' := []) rfl (by exact trivial) (pc' := 78) rfl ?_
            refine hp_E 131 (fun (p8 : Unit) => [(0, (.ref 4)), (1, (.int p1))]) (fun (p8 : Unit) => []) (fun (p8 : Unit) => h) ?_ (fun p8 => ?_)
            · refine hp_s [2, 3, 1, 0] rfl (L' := [(0, (.ref 4)), (1, (.int p1)), (2, (.long v3)), (4, (.int (0 : Int32)))]) ?_
              refine hp_wh (fun (p7 : Int32) => [(0, (.ref 4)), (1, (.int p1)), (2, (.long v3)), (4, (.int p7))]) [] (fun (p7 : Int32) => h) (fun p7 => ?_) (0 : Int32)
              refine hp_ic_ge hm (at1 8 rfl) rfl (by exact trivial) (pc' := 81) rfl 6 rfl (tgt := 131) rfl (fun c15 => ?_) (fun c15 => ?_)
              · exact hp_lf [0, 1] rfl (fun _ e => e)
              · refine hp_G hm (at1 9 rfl) (L' := [(0, (.ref 4)), (1, (.int p1)), (2, (.long v3)), (4, (.int p7))]) (st' := [(.long (rdL h 9 (Int32.toNatClampNeg p1))), (.long (rdL h 9 (Int32.toNatClampNeg p7)))]) rfl (fun hP => (by exact ⟨⟨⟨og_4, ⟨og_9, hP.1⟩⟩, og_4⟩, ⟨og_9, hP.2⟩⟩)) (pc' := 97) rfl (fun q9 => ?_)
                refine hp_cSP (M2 := M_JM_max) hm at0 (as := [(.long (rdL h 9 (Int32.toNatClampNeg p7))), (.long (rdL h 9 (Int32.toNatClampNeg p1)))]) (rest := []) rfl (by exact trivial) (pc' := 97) rfl 1 rfl (lw_g (lw_at lw_m4 83 rfl) rfl) y_JM_max rfl (d2 := 1) ⟨le_b rfl, pd_JM_max, le_b rfl⟩ (le_b rfl) (k_JM_max (rdL h 9 (Int32.toNatClampNeg p7)) (rdL h 9 (Int32.toNatClampNeg p1)) h) (fun a10 => ?_)
                refine hp_G hm (at1 10 rfl) (L' := [(0, (.ref 4)), (1, (.int p1)), (2, (.long v3)), (4, (.int p7))]) (st' := [(.long v3), (.long ((rdL h 9 (Int32.toNatClampNeg p7)) + (rdL h 10 (Int32.toNatClampNeg p7)))), (.long a10)]) rfl (fun hP => (by exact ⟨⟨⟨og_4, ⟨og_9, hP⟩⟩, og_4⟩, ⟨og_10, hP⟩⟩)) (pc' := 116) rfl (fun q11 => ?_)
                refine hp_cSP (M2 := M_JM_min) hm at0 (as := [(.long ((rdL h 9 (Int32.toNatClampNeg p7)) + (rdL h 10 (Int32.toNatClampNeg p7)))), (.long v3)]) (rest := [(.long a10)]) rfl (by exact trivial) (pc' := 116) rfl 2 rfl (lw_g (lw_at lw_m4 86 rfl) rfl) y_JM_min rfl (d2 := 1) ⟨le_b rfl, pd_JM_min, le_b rfl⟩ (le_b rfl) (k_JM_min ((rdL h 9 (Int32.toNatClampNeg p7)) + (rdL h 10 (Int32.toNatClampNeg p7))) v3 h) (fun a12 => ?_)
                refine hp_lc_ge hm (at1 11 rfl) rfl (by exact trivial) (pc' := 120) rfl 5 rfl (tgt := 125) rfl (fun c14 => ?_) (fun c14 => ?_)
                · refine hp_z hm (at1 12 rfl) (fun (v13 : Int32) => [(4, (.int v13)), (0, (.ref 4)), (1, (.int p1)), (2, (.long v3))]) (fun (v13 : Int32) => []) rfl (by exact trivial) (pc' := 128) rfl (fun v13 => ?_)
                  refine hp_goto hm 3 rfl (tgt := 78) rfl ?_
                  exact hp_lf [1, 2, 3, 0] rfl (fun _ e => e)
                · exact hp_ir hm (at1 13 rfl) rfl (by exact trivial) (pc' := 124) rfl 4 rfl rfl rfl (fun _ e => e)
            · refine hp_z hm (at1 14 rfl) (fun (v16 : Int32) => [(1, (.int v16)), (0, (.ref 4))]) (fun (v16 : Int32) => []) rfl (by exact trivial) (pc' := 134) rfl (fun v16 => ?_)
              refine hp_goto hm 7 rfl (tgt := 2) rfl ?_
              exact hp_lf [1, 0] rfl (fun _ e => e)
          · exact hp_ir hm (at1 4 rfl) rfl (by exact trivial) (pc' := 74) rfl 0 rfl rfl rfl (fun _ e => e)
  · exact hp_ir hm (at1 15 rfl) rfl (by exact trivial) (pc' := 138) rfl 12 rfl rfl rfl (fun _ e => e)
/-! HintHouse$Bytes.sum(III)J -/
def M_By_sum : hM := (1, ⟨"HintHouse$Bytes", "sum", "(III)J"⟩, prog_2_method_8_code, 9, (Option.some Jvm.ClassFile.FieldType.long), [], [(0, [(.lconst 0, 1, 0, 0, 0, (.long (0 : Int64))), (.lstore 4, 2, 0, 0, 0, .null), (.iconst 0, 1, 0, 0, 0, (.int (0 : Int32))), (.istore 6, 2, 0, 0, 0, .null)]), (6, [(.iload 6, 2, 0, 0, 0, .null), (.iload_n 2, 1, 0, 0, 0, .null)]), (12, [(.iload_n 1, 1, 0, 0, 0, .null), (.iload 6, 2, 0, 0, 0, .null), (.iadd, 1, 0, 0, 0, .null), (.istore 7, 2, 0, 0, 0, .null)]), (18, [(.iload_n 3, 1, 0, 0, 0, .null)]), (22, [(.iload 7, 2, 0, 0, 0, .null), (.iload_n 3, 1, 0, 0, 0, .null)]), (28, [(.iload 7, 2, 0, 0, 0, .null), (.iload_n 3, 1, 0, 0, 0, .null), (.iconst 4, 1, 0, 0, 0, (.int (4 : Int32))), (.iadd, 1, 0, 0, 0, .null)]), (36, [(.iconst 0, 1, 0, 0, 0, (.int (0 : Int32)))]), (40, [(.aload_n 0, 1, 0, 0, 0, .null), (.iload 7, 2, 0, 0, 0, .null)]), (46, [(.istore 8, 2, 0, 0, 0, .null), (.lload 4, 2, 0, 0, 0, .null), (.iload 8, 2, 0, 0, 0, .null), (.i2l, 1, 0, 0, 0, .null), (.bipush 24, 2, 0, 0, 0, (.int (24 : Int32))), (.bipush 8, 2, 0, 0, 0, (.int (8 : Int32))), (.iload 6, 2, 0, 0, 0, .null), (.iconst 3, 1, 0, 0, 0, (.int (3 : Int32))), (.iand, 1, 0, 0, 0, .null), (.imul, 1, 0, 0, 0, .null), (.isub, 1, 0, 0, 0, .null), (.lshl, 1, 0, 0, 0, .null), (.ladd, 1, 0, 0, 0, .null), (.lstore 4, 2, 0, 0, 0, .null)]), (67, [(.iinc 6 1, 3, 0, 0, 0, (.int (1 : Int32)))]), (73, [(.lload 4, 2, 0, 0, 0, .null), (.ldc2_w 26, 3, 0, 0, 0, (.long (4294967295 : Int64))), (.land, 1, 0, 0, 0, .null)])], [(33, .if_icmp .ge 7, 3), (25, .if_icmp .lt 15, 3), (19, .ifCond .lt 21, 3), (37, .goto 9, 3), (43, .invokevirtual 15, 3), (70, .goto (-64), 3), (9, .if_icmp .ge 64, 3), (79, .lreturn, 1)])
set_option maxRecDepth 100000 in
theorem m_By_sum : hx_mok M_By_sum = true := by decide +kernel
theorem pd_By_sum : (parseMethodDescriptor M_By_sum.2.1.desc).map (fun q => q.parameters.length) = some 3 := by decide +kernel
theorem y_By_sum : hx_okV M_By_sum := ⟨⟨lw_g (lw_at lw_m4 98 rfl) rfl, lw_g (lw_at lw_m4 96 rfl) rfl, lw_g (lw_at lw_m4 97 rfl) rfl, lw_g (lw_at lw_m1 2 rfl) rfl, rfl, by decide, by decide, by decide⟩, rfl, by decide, plainFor_of_name (by decide)⟩
noncomputable def f_By_sum (z : Nat) (x1 : Int32) (x2 : Int32) (x3 : Int32) (h : hH) : Option Int64 :=
  bP (A := Int64) (
    wh (A := (Int64 × Int32)) (B := Int64) (fun p1 =>
        if x2 ≤ p1.2 then (
          some (.inr p1.1)
        ) else (
          lz (A := Int32) (x1 + p1.2) fun v3 =>
          bP (A := Int32) (
            cO (
              if x3 < 0 then (
                some false
              ) else (
                if (v3 < x3 ∨ (x3 + (4 : Int32)) ≤ v3) then (
                  some false
                ) else (
                  some true
                )
              )
            ) (
              some (0 : Int32)
            ) (
              bP (f_By_u1 z v3 h) fun a17 =>
              some a17
            )
          ) fun p4 =>
          lz (A := Int64) (p1.1 + ((Int32.toInt64 p4) <<< ((Int32.toInt64 ((24 : Int32) - ((8 : Int32) * (p1.2 &&& (3 : Int32))))) &&& 63))) fun v18 =>
          lz (A := Int32) (p1.2 + (1 : Int32)) fun v19 =>
          some (.inl (v18, v19))
        )
    ) ((0 : Int64), (0 : Int32))
  ) fun p2 =>
  some (p2 &&& (4294967295 : Int64))
set_option maxRecDepth 20000 in
theorem k_By_sum (z : Nat) (x1 : Int32) (x2 : Int32) (x3 : Int32) (h : hH) (hz : isA 1 z) : hx_kP S0 M_By_sum 2 NT [(.ref z), (.int x1), (.int x2), (.int x3)] h (f_By_sum z x1 x2 x3 h) cvL := by
  have hm := m_By_sum
  show hx_P S0 M_By_sum 2 0 [(0, (.ref z)), (1, (.int x1)), (2, (.int x2)), (3, (.int x3))] [] NT h (f_By_sum z x1 x2 x3 h) (hx_Rp cvL NT h)
  unfold f_By_sum
  refine hp_b hm (at1 0 rfl) (L' := [(6, (.int (0 : Int32))), (4, (.long (0 : Int64))), (0, (.ref z)), (1, (.int x1)), (2, (.int x2)), (3, (.int x3))]) (st' := []) rfl (by exact trivial) (pc' := 6) rfl ?_
  refine hp_J 73 (fun (p2 : Int64) => [(4, (.long p2))]) (fun (p2 : Int64) => []) (fun (p2 : Int64) => h) ?_ (fun p2 => ?_)
  · refine hp_s [2, 3, 4, 5, 1, 0] rfl (L' := [(0, (.ref z)), (1, (.int x1)), (2, (.int x2)), (3, (.int x3)), (4, (.long (0 : Int64))), (6, (.int (0 : Int32)))]) ?_
    refine hp_wh (fun (p1 : (Int64 × Int32)) => [(0, (.ref z)), (1, (.int x1)), (2, (.int x2)), (3, (.int x3)), (4, (.long p1.1)), (6, (.int p1.2))]) [] (fun (p1 : (Int64 × Int32)) => h) (fun p1 => ?_) ((0 : Int64), (0 : Int32))
    refine hp_ic_ge hm (at1 1 rfl) rfl (by exact trivial) (pc' := 9) rfl 6 rfl (tgt := 73) rfl (fun c20 => ?_) (fun c20 => ?_)
    · exact hp_lf [4] rfl (fun _ e => e)
    · refine hp_z hm (at1 2 rfl) (fun (v3 : Int32) => [(7, (.int v3)), (0, (.ref z)), (1, (.int x1)), (2, (.int x2)), (3, (.int x3)), (4, (.long p1.1)), (6, (.int p1.2))]) (fun (v3 : Int32) => []) rfl (by exact trivial) (pc' := 18) rfl (fun v3 => ?_)
      refine hp_J 46 (fun (p4 : Int32) => [(0, (.ref z)), (1, (.int x1)), (2, (.int x2)), (3, (.int x3)), (4, (.long p1.1)), (6, (.int p1.2))]) (fun (p4 : Int32) => [(.int p4)]) (fun (p4 : Int32) => h) ?_ (fun p4 => ?_)
      · refine hp_cO (L0 := [(7, (.int v3)), (0, (.ref z)), (1, (.int x1)), (2, (.int x2)), (3, (.int x3)), (4, (.long p1.1)), (6, (.int p1.2))]) (s0 := []) 36 40 ?_ ?_ ?_
        · refine hp_if_lt hm (at1 3 rfl) rfl (by exact trivial) (pc' := 19) rfl 2 rfl (tgt := 40) rfl (fun c10 => ?_) (fun c10 => ?_)
          · exact hp_l0 (fun _ e => e)
          · refine hp_cI (L0 := [(7, (.int v3)), (0, (.ref z)), (1, (.int x1)), (2, (.int x2)), (3, (.int x3)), (4, (.long p1.1)), (6, (.int p1.2))]) (s0 := []) 40 36 ?_ (fun c9 => ?_) (fun c9 => ?_)
            · refine hp_or ?_
              refine hp_ic_lt hm (at1 4 rfl) rfl (by exact trivial) (pc' := 25) rfl 1 rfl (tgt := 40) rfl (fun c8 => ?_) (fun c8 => ?_)
              · exact hp_l0 (fun _ e => e)
              · refine hp_dec ?_
                refine hp_ic_ge hm (at1 5 rfl) rfl (by exact trivial) (pc' := 33) rfl 0 rfl (tgt := 40) rfl (fun c7 => ?_) (fun c7 => ?_)
                · exact hp_l0 (fun _ e => e)
                · exact hp_l0 (fun _ e => e)
            · exact hp_l0 (fun _ e => e)
            · exact hp_l0 (fun _ e => e)
        · refine hp_b hm (at1 6 rfl) (L' := [(7, (.int v3)), (0, (.ref z)), (1, (.int x1)), (2, (.int x2)), (3, (.int x3)), (4, (.long p1.1)), (6, (.int p1.2))]) (st' := [(.int (0 : Int32))]) rfl (by exact trivial) (pc' := 37) rfl ?_
          refine hp_goto hm 3 rfl (tgt := 46) rfl ?_
          exact hp_lf [1, 2, 3, 4, 5, 6] rfl (fun _ e => e)
        · refine hp_cVP (M2 := M_By_u1) hm (at1 7 rfl) (as := [(.int v3)]) (rest := []) (z := z) rfl (by exact trivial) (pc' := 43) rfl 4 rfl (lw_g (lw_at lw_m4 70 rfl) rfl) y_By_u1 rfl (d2 := 1) ⟨le_b rfl, pd_By_u1, le_b rfl⟩ (le_b rfl) hz (k_By_u1 z v3 h hz) (fun a17 => ?_)
          exact hp_lf [1, 2, 3, 4, 5, 6] rfl (fun _ e => e)
      · refine hp_z hm (at1 8 rfl) (fun (v18 : Int64) => [(4, (.long v18)), (8, (.int p4)), (0, (.ref z)), (1, (.int x1)), (2, (.int x2)), (3, (.int x3)), (6, (.int p1.2))]) (fun (v18 : Int64) => []) rfl (by exact trivial) (pc' := 67) rfl (fun v18 => ?_)
        refine hp_z hm (at1 9 rfl) (fun (v19 : Int32) => [(6, (.int v19)), (4, (.long v18)), (8, (.int p4)), (0, (.ref z)), (1, (.int x1)), (2, (.int x2)), (3, (.int x3))]) (fun (v19 : Int32) => []) rfl (by exact trivial) (pc' := 70) rfl (fun v19 => ?_)
        refine hp_goto hm 5 rfl (tgt := 6) rfl ?_
        exact hp_lf [3, 4, 5, 6, 1, 0] rfl (fun _ e => e)
  · exact hp_lr hm (at1 10 rfl) rfl (by exact trivial) (pc' := 79) rfl 7 rfl rfl (fun _ e => e)
/-! HintHouse$Font.areSums()Z -/
def M_Fo_areSums : hM := (2, ⟨"HintHouse$Font", "areSums", "()Z"⟩, prog_3_method_9_code, 3, (Option.some Jvm.ClassFile.FieldType.boolean), [], [(0, [(.iconst 0, 1, 0, 0, 0, (.int (0 : Int32))), (.istore_n 1, 1, 0, 0, 0, .null)]), (2, [(.iload_n 1, 1, 0, 0, 0, .null), (.aload_n 0, 1, 0, 0, 0, .null), (.getfield 42, 3, 2, 1, 0, .null)]), (10, [(.aload_n 0, 1, 0, 0, 0, .null), (.getfield 18, 3, 2, 2, 4, .null), (.iload_n 1, 1, 0, 0, 0, .null), (.laload, 1, 0, 0, 0, .null), (.ldc2_w 76, 3, 0, 0, 0, (.long (1751474532 : Int64))), (.lcmp, 1, 0, 0, 0, .null)]), (49, [(.iconst (-1), 1, 0, 0, 0, (.int (-1 : Int32)))]), (23, [(.aload_n 0, 1, 0, 0, 0, .null), (.getfield 28, 3, 2, 5, 4, .null), (.iload_n 1, 1, 0, 0, 0, .null), (.laload, 1, 0, 0, 0, .null), (.ldc2_w 156, 3, 0, 0, 0, (.long (8 : Int64))), (.lcmp, 1, 0, 0, 0, .null)]), (36, [(.aload_n 0, 1, 0, 0, 0, .null), (.getfield 25, 3, 2, 4, 4, .null), (.iload_n 1, 1, 0, 0, 0, .null), (.laload, 1, 0, 0, 0, .null), (.l2i, 1, 0, 0, 0, .null), (.bipush 8, 2, 0, 0, 0, (.int (8 : Int32))), (.iadd, 1, 0, 0, 0, .null)]), (50, [(.istore_n 2, 1, 0, 0, 0, .null), (.aload_n 0, 1, 0, 0, 0, .null), (.getfield 12, 3, 2, 0, 4, .null), (.aload_n 0, 1, 0, 0, 0, .null), (.getfield 25, 3, 2, 4, 4, .null), (.iload_n 1, 1, 0, 0, 0, .null), (.laload, 1, 0, 0, 0, .null), (.l2i, 1, 0, 0, 0, .null), (.aload_n 0, 1, 0, 0, 0, .null), (.getfield 28, 3, 2, 5, 4, .null), (.iload_n 1, 1, 0, 0, 0, .null), (.laload, 1, 0, 0, 0, .null), (.l2i, 1, 0, 0, 0, .null), (.iload_n 2, 1, 0, 0, 0, .null)]), (73, [(.aload_n 0, 1, 0, 0, 0, .null), (.getfield 22, 3, 2, 3, 4, .null), (.iload_n 1, 1, 0, 0, 0, .null), (.laload, 1, 0, 0, 0, .null), (.lcmp, 1, 0, 0, 0, .null)]), (85, [(.iinc 1 1, 3, 0, 0, 0, (.int (1 : Int32)))]), (83, [(.iconst 0, 1, 0, 0, 0, (.int (0 : Int32)))]), (91, [(.iconst 1, 1, 0, 0, 0, (.int (1 : Int32)))])], [(46, .goto 4, 3), (33, .ifCond .le 16, 3), (20, .ifCond .ne 29, 3), (70, .invokevirtual 158, 3), (88, .goto (-86), 3), (84, .ireturn, 1), (80, .ifCond .eq 5, 3), (7, .if_icmp .ge 84, 3), (92, .ireturn, 1)])
set_option maxRecDepth 100000 in
theorem m_Fo_areSums : hx_mok M_Fo_areSums = true := by decide +kernel
theorem pd_Fo_areSums : (parseMethodDescriptor M_Fo_areSums.2.1.desc).map (fun q => q.parameters.length) = some 0 := by decide +kernel
theorem y_Fo_areSums : hx_okV M_Fo_areSums := ⟨⟨lw_g (lw_at lw_m4 92 rfl) rfl, lw_g (lw_at lw_m4 91 rfl) rfl, qs2, lw_g (lw_at lw_m1 3 rfl) rfl, rfl, by decide, by decide, by decide⟩, rfl, by decide, plainFor_of_name (by decide)⟩
noncomputable def f_Fo_areSums (h : hH) : Option Int32 :=
  bE (P := Unit) (X := Int32) (
    wh (A := Int32) (B := (Unit ⊕ Int32)) (fun p1 =>
        if (rdI h 4 1) ≤ p1 then (
          some (.inr (.inl ()))
        ) else (
          gd (vp_in p1 16) <|
          bP (A := Int32) (
            if (rdL h 7 (Int32.toNatClampNeg p1)) = (1751474532 : Int64) then (
              gd (vp_in p1 16) <|
              if (rdL h 10 (Int32.toNatClampNeg p1)) ≤ (8 : Int64) then (
                some (-1 : Int32)
              ) else (
                gd (vp_in p1 16) <|
                some ((Int64.toInt32 (rdL h 9 (Int32.toNatClampNeg p1))) + (8 : Int32))
              )
            ) else (
              some (-1 : Int32)
            )
          ) fun p4 =>
          gd (vp_in p1 16) <|
          bP (f_By_sum 5 (Int64.toInt32 (rdL h 9 (Int32.toNatClampNeg p1))) (Int64.toInt32 (rdL h 10 (Int32.toNatClampNeg p1))) p4 h) fun a10 =>
          gd (vp_in p1 16) <|
          if a10 = (rdL h 8 (Int32.toNatClampNeg p1)) then (
            lz (A := Int32) (p1 + (1 : Int32)) fun v12 =>
            some (.inl v12)
          ) else (
            some (.inr (.inr (0 : Int32)))
          )
        )
    ) (0 : Int32)
  ) fun p2 =>
  some (1 : Int32)
set_option maxRecDepth 20000 in
theorem k_Fo_areSums (h : hH) : hx_kP S0 M_Fo_areSums 3 NT [(.ref 4)] h (f_Fo_areSums h) cvI := by
  have hm := m_Fo_areSums
  show hx_P S0 M_Fo_areSums 3 0 [(0, (.ref 4))] [] NT h (f_Fo_areSums h) (hx_Rp cvI NT h)
  unfold f_Fo_areSums
  refine hp_b hm (at1 0 rfl) (L' := [(1, (.int (0 : Int32))), (0, (.ref 4))]) (st' := []) rfl (by exact trivial) (pc' := 2) rfl ?_
  refine hp_E 91 (fun (p2 : Unit) => []) (fun (p2 : Unit) => []) (fun (p2 : Unit) => h) ?_ (fun p2 => ?_)
  · refine hp_s [1, 0] rfl (L' := [(0, (.ref 4)), (1, (.int (0 : Int32)))]) ?_
    refine hp_wh (fun (p1 : Int32) => [(0, (.ref 4)), (1, (.int p1))]) [] (fun (p1 : Int32) => h) (fun p1 => ?_) (0 : Int32)
    refine hp_ic_ge hm (at1 1 rfl) rfl (by exact og_4) (pc' := 7) rfl 7 rfl (tgt := 91) rfl (fun c14 => ?_) (fun c14 => ?_)
    · exact hp_lf [] rfl (fun _ e => e)
    · refine hp_G hm (at1 2 rfl) (L' := [(0, (.ref 4)), (1, (.int p1))]) (st' := [(.int (lg_cmp (rdL h 7 (Int32.toNatClampNeg p1)) (1751474532 : Int64)))]) rfl (fun hP => (by exact ⟨og_4, ⟨og_7, hP⟩⟩)) (pc' := 20) rfl (fun q3 => ?_)
      refine hp_J 50 (fun (p4 : Int32) => [(0, (.ref 4)), (1, (.int p1))]) (fun (p4 : Int32) => [(.int p4)]) (fun (p4 : Int32) => h) ?_ (fun p4 => ?_)
      · refine hp_lc_ne hm at0 rfl (by exact trivial) (pc' := 20) rfl 2 rfl (tgt := 49) rfl (fun c8 => ?_) (fun c8 => ?_)
        · refine hp_b hm (at1 3 rfl) (L' := [(0, (.ref 4)), (1, (.int p1))]) (st' := [(.int (-1 : Int32))]) rfl (by exact trivial) (pc' := 50) rfl ?_
          exact hp_lf [0, 1] rfl (fun _ e => e)
        · refine hp_G hm (at1 4 rfl) (L' := [(0, (.ref 4)), (1, (.int p1))]) (st' := [(.int (lg_cmp (rdL h 10 (Int32.toNatClampNeg p1)) (8 : Int64)))]) rfl (fun hP => (by exact ⟨og_4, ⟨og_10, hP⟩⟩)) (pc' := 33) rfl (fun q5 => ?_)
          refine hp_lc_le hm at0 rfl (by exact trivial) (pc' := 33) rfl 1 rfl (tgt := 49) rfl (fun c7 => ?_) (fun c7 => ?_)
          · refine hp_b hm (at1 3 rfl) (L' := [(0, (.ref 4)), (1, (.int p1))]) (st' := [(.int (-1 : Int32))]) rfl (by exact trivial) (pc' := 50) rfl ?_
            exact hp_lf [0, 1] rfl (fun _ e => e)
          · refine hp_G hm (at1 5 rfl) (L' := [(0, (.ref 4)), (1, (.int p1))]) (st' := [(.int ((Int64.toInt32 (rdL h 9 (Int32.toNatClampNeg p1))) + (8 : Int32)))]) rfl (fun hP => (by exact ⟨og_4, ⟨og_9, hP⟩⟩)) (pc' := 46) rfl (fun q6 => ?_)
            refine hp_goto hm 0 rfl (tgt := 50) rfl ?_
            exact hp_lf [0, 1] rfl (fun _ e => e)
      · refine hp_G hm (at1 6 rfl) (L' := [(2, (.int p4)), (0, (.ref 4)), (1, (.int p1))]) (st' := [(.int p4), (.int (Int64.toInt32 (rdL h 10 (Int32.toNatClampNeg p1)))), (.int (Int64.toInt32 (rdL h 9 (Int32.toNatClampNeg p1)))), (.ref 5)]) rfl (fun hP => (by exact ⟨⟨⟨⟨og_4, og_4⟩, ⟨og_9, hP⟩⟩, og_4⟩, ⟨og_10, hP⟩⟩)) (pc' := 70) rfl (fun q9 => ?_)
        refine hp_cVP (M2 := M_By_sum) hm at0 (as := [(.int (Int64.toInt32 (rdL h 9 (Int32.toNatClampNeg p1)))), (.int (Int64.toInt32 (rdL h 10 (Int32.toNatClampNeg p1)))), (.int p4)]) (rest := []) (z := 5) rfl (by exact trivial) (pc' := 70) rfl 3 rfl (lw_g (lw_at lw_m4 95 rfl) rfl) y_By_sum rfl (d2 := 2) ⟨le_b rfl, pd_By_sum, le_b rfl⟩ (le_b rfl) og_5 (k_By_sum 5 (Int64.toInt32 (rdL h 9 (Int32.toNatClampNeg p1))) (Int64.toInt32 (rdL h 10 (Int32.toNatClampNeg p1))) p4 h og_5) (fun a10 => ?_)
        refine hp_G hm (at1 7 rfl) (L' := [(2, (.int p4)), (0, (.ref 4)), (1, (.int p1))]) (st' := [(.int (lg_cmp a10 (rdL h 8 (Int32.toNatClampNeg p1))))]) rfl (fun hP => (by exact ⟨og_4, ⟨og_8, hP⟩⟩)) (pc' := 80) rfl (fun q11 => ?_)
        refine hp_lc_eq hm at0 rfl (by exact trivial) (pc' := 80) rfl 6 rfl (tgt := 85) rfl (fun c13 => ?_) (fun c13 => ?_)
        · refine hp_z hm (at1 8 rfl) (fun (v12 : Int32) => [(1, (.int v12)), (2, (.int p4)), (0, (.ref 4))]) (fun (v12 : Int32) => []) rfl (by exact trivial) (pc' := 88) rfl (fun v12 => ?_)
          refine hp_goto hm 4 rfl (tgt := 2) rfl ?_
          exact hp_lf [2, 0] rfl (fun _ e => e)
        · exact hp_ir hm (at1 9 rfl) rfl (by exact trivial) (pc' := 84) rfl 5 rfl rfl rfl (fun _ e => e)
  · exact hp_ir hm (at1 10 rfl) rfl (by exact trivial) (pc' := 92) rfl 8 rfl rfl rfl (fun _ e => e)
/-! HintHouse$Font.find(J)I -/
def M_Fo_find : hM := (2, ⟨"HintHouse$Font", "find", "(J)I"⟩, prog_3_method_2_code, 4, (Option.some Jvm.ClassFile.FieldType.int), [], [(0, [(.iconst 0, 1, 0, 0, 0, (.int (0 : Int32))), (.istore_n 3, 1, 0, 0, 0, .null)]), (2, [(.iload_n 3, 1, 0, 0, 0, .null), (.aload_n 0, 1, 0, 0, 0, .null), (.getfield 42, 3, 2, 1, 0, .null)]), (10, [(.aload_n 0, 1, 0, 0, 0, .null), (.getfield 18, 3, 2, 2, 4, .null), (.iload_n 3, 1, 0, 0, 0, .null), (.laload, 1, 0, 0, 0, .null), (.lload_n 1, 1, 0, 0, 0, .null), (.lcmp, 1, 0, 0, 0, .null)]), (23, [(.iinc 3 1, 3, 0, 0, 0, (.int (1 : Int32)))]), (21, [(.iload_n 3, 1, 0, 0, 0, .null)]), (29, [(.iconst (-1), 1, 0, 0, 0, (.int (-1 : Int32)))])], [(26, .goto (-24), 3), (22, .ireturn, 1), (18, .ifCond .ne 5, 3), (7, .if_icmp .ge 22, 3), (30, .ireturn, 1)])
set_option maxRecDepth 100000 in
theorem m_Fo_find : hx_mok M_Fo_find = true := by decide +kernel
theorem pd_Fo_find : (parseMethodDescriptor M_Fo_find.2.1.desc).map (fun q => q.parameters.length) = some 1 := by decide +kernel
theorem y_Fo_find : hx_okV M_Fo_find := ⟨⟨lw_g (lw_at lw_m4 104 rfl) rfl, lw_g (lw_at lw_m4 103 rfl) rfl, qs3, lw_g (lw_at lw_m1 3 rfl) rfl, rfl, by decide, by decide, by decide⟩, rfl, by decide, plainFor_of_name (by decide)⟩
noncomputable def f_Fo_find (x1 : Int64) (h : hH) : Option Int32 :=
  bE (P := Unit) (X := Int32) (
    wh (A := Int32) (B := (Unit ⊕ Int32)) (fun p1 =>
        if (rdI h 4 1) ≤ p1 then (
          some (.inr (.inl ()))
        ) else (
          gd (vp_in p1 16) <|
          if (rdL h 7 (Int32.toNatClampNeg p1)) = x1 then (
            some (.inr (.inr p1))
          ) else (
            lz (A := Int32) (p1 + (1 : Int32)) fun v4 =>
            some (.inl v4)
          )
        )
    ) (0 : Int32)
  ) fun p2 =>
  some (-1 : Int32)
set_option maxRecDepth 20000 in
theorem k_Fo_find (x1 : Int64) (h : hH) : hx_kP S0 M_Fo_find 1 NT [(.ref 4), (.long x1)] h (f_Fo_find x1 h) cvI := by
  have hm := m_Fo_find
  show hx_P S0 M_Fo_find 1 0 [(0, (.ref 4)), (1, (.long x1))] [] NT h (f_Fo_find x1 h) (hx_Rp cvI NT h)
  unfold f_Fo_find
  refine hp_b hm (at1 0 rfl) (L' := [(3, (.int (0 : Int32))), (0, (.ref 4)), (1, (.long x1))]) (st' := []) rfl (by exact trivial) (pc' := 2) rfl ?_
  refine hp_E 29 (fun (p2 : Unit) => []) (fun (p2 : Unit) => []) (fun (p2 : Unit) => h) ?_ (fun p2 => ?_)
  · refine hp_s [1, 2, 0] rfl (L' := [(0, (.ref 4)), (1, (.long x1)), (3, (.int (0 : Int32)))]) ?_
    refine hp_wh (fun (p1 : Int32) => [(0, (.ref 4)), (1, (.long x1)), (3, (.int p1))]) [] (fun (p1 : Int32) => h) (fun p1 => ?_) (0 : Int32)
    refine hp_ic_ge hm (at1 1 rfl) rfl (by exact og_4) (pc' := 7) rfl 3 rfl (tgt := 29) rfl (fun c6 => ?_) (fun c6 => ?_)
    · exact hp_lf [] rfl (fun _ e => e)
    · refine hp_G hm (at1 2 rfl) (L' := [(0, (.ref 4)), (1, (.long x1)), (3, (.int p1))]) (st' := [(.int (lg_cmp (rdL h 7 (Int32.toNatClampNeg p1)) x1))]) rfl (fun hP => (by exact ⟨og_4, ⟨og_7, hP⟩⟩)) (pc' := 18) rfl (fun q3 => ?_)
      refine hp_lc_ne hm at0 rfl (by exact trivial) (pc' := 18) rfl 2 rfl (tgt := 23) rfl (fun c5 => ?_) (fun c5 => ?_)
      · refine hp_z hm (at1 3 rfl) (fun (v4 : Int32) => [(3, (.int v4)), (0, (.ref 4)), (1, (.long x1))]) (fun (v4 : Int32) => []) rfl (by exact trivial) (pc' := 26) rfl (fun v4 => ?_)
        refine hp_goto hm 0 rfl (tgt := 2) rfl ?_
        exact hp_lf [1, 2, 0] rfl (fun _ e => e)
      · exact hp_ir hm (at1 4 rfl) rfl (by exact trivial) (pc' := 22) rfl 1 rfl rfl (vp_nar_int _) (fun _ e => e)
  · exact hp_ir hm (at1 5 rfl) rfl (by exact trivial) (pc' := 30) rfl 4 rfl rfl (vp_nar_int _) (fun _ e => e)
/-! HintHouse$Font.beginOf(J)I -/
def M_Fo_beginOf : hM := (2, ⟨"HintHouse$Font", "beginOf", "(J)I"⟩, prog_3_method_3_code, 4, (Option.some Jvm.ClassFile.FieldType.int), [], [(0, [(.aload_n 0, 1, 0, 0, 0, .null), (.lload_n 1, 1, 0, 0, 0, .null)]), (5, [(.istore_n 3, 1, 0, 0, 0, .null), (.iload_n 3, 1, 0, 0, 0, .null), (.iconst (-1), 1, 0, 0, 0, (.int (-1 : Int32)))]), (15, [(.aload_n 0, 1, 0, 0, 0, .null), (.getfield 25, 3, 2, 4, 4, .null), (.iload_n 3, 1, 0, 0, 0, .null), (.laload, 1, 0, 0, 0, .null), (.l2i, 1, 0, 0, 0, .null)]), (11, [(.iconst 0, 1, 0, 0, 0, (.int (0 : Int32)))])], [(2, .invokevirtual 46, 3), (22, .ireturn, 1), (12, .goto 10, 3), (8, .if_icmp .ne 7, 3)])
set_option maxRecDepth 100000 in
theorem m_Fo_beginOf : hx_mok M_Fo_beginOf = true := by decide +kernel
theorem pd_Fo_beginOf : (parseMethodDescriptor M_Fo_beginOf.2.1.desc).map (fun q => q.parameters.length) = some 1 := by decide +kernel
theorem y_Fo_beginOf : hx_okV M_Fo_beginOf := ⟨⟨lw_g (lw_at lw_m4 117 rfl) rfl, lw_g (lw_at lw_m4 116 rfl) rfl, qs5, lw_g (lw_at lw_m1 3 rfl) rfl, rfl, by decide, by decide, by decide⟩, rfl, by decide, plainFor_of_name (by decide)⟩
noncomputable def f_Fo_beginOf (x1 : Int64) (h : hH) : Option Int32 :=
  bP (f_Fo_find x1 h) fun a1 =>
  if a1 = (-1 : Int32) then (
    some (0 : Int32)
  ) else (
    gd (vp_in a1 16) <|
    some (Int64.toInt32 (rdL h 9 (Int32.toNatClampNeg a1)))
  )
set_option maxRecDepth 20000 in
theorem k_Fo_beginOf (x1 : Int64) (h : hH) : hx_kP S0 M_Fo_beginOf 2 NT [(.ref 4), (.long x1)] h (f_Fo_beginOf x1 h) cvI := by
  have hm := m_Fo_beginOf
  show hx_P S0 M_Fo_beginOf 2 0 [(0, (.ref 4)), (1, (.long x1))] [] NT h (f_Fo_beginOf x1 h) (hx_Rp cvI NT h)
  unfold f_Fo_beginOf
  refine hp_cVP (M2 := M_Fo_find) hm (at1 0 rfl) (as := [(.long x1)]) (rest := []) (z := 4) rfl (by exact trivial) (pc' := 2) rfl 0 rfl (lw_g (lw_at lw_m4 101 rfl) rfl) y_Fo_find rfl (d2 := 1) ⟨le_b rfl, pd_Fo_find, le_b rfl⟩ (le_b rfl) og_4 (k_Fo_find x1 h) (fun a1 => ?_)
  refine hp_b hm (at1 1 rfl) (L' := [(3, (.int a1)), (0, (.ref 4)), (1, (.long x1))]) (st' := [(.int (-1 : Int32)), (.int a1)]) rfl (by exact trivial) (pc' := 8) rfl ?_
  refine hp_ic_ne hm at0 rfl (by exact trivial) (pc' := 8) rfl 3 rfl (tgt := 15) rfl (fun c3 => ?_) (fun c3 => ?_)
  · refine hp_G hm (at1 2 rfl) (L' := [(3, (.int a1)), (0, (.ref 4)), (1, (.long x1))]) (st' := [(.int (Int64.toInt32 (rdL h 9 (Int32.toNatClampNeg a1))))]) rfl (fun hP => (by exact ⟨og_4, ⟨og_9, hP⟩⟩)) (pc' := 22) rfl (fun q2 => ?_)
    exact hp_ir hm at0 rfl (by exact trivial) (pc' := 22) rfl 1 rfl rfl (vp_nar_int _) (fun _ e => e)
  · refine hp_b hm (at1 3 rfl) (L' := [(3, (.int a1)), (0, (.ref 4)), (1, (.long x1))]) (st' := [(.int (0 : Int32))]) rfl (by exact trivial) (pc' := 12) rfl ?_
    refine hp_goto hm 2 rfl (tgt := 22) rfl ?_
    exact hp_ir hm at0 rfl (by exact trivial) (pc' := 22) rfl 1 rfl rfl (vp_nar_int _) (fun _ e => e)
/-! HintHouse$Font.lengthOf(J)I -/
def M_Fo_lengthOf : hM := (2, ⟨"HintHouse$Font", "lengthOf", "(J)I"⟩, prog_3_method_4_code, 4, (Option.some Jvm.ClassFile.FieldType.int), [], [(0, [(.aload_n 0, 1, 0, 0, 0, .null), (.lload_n 1, 1, 0, 0, 0, .null)]), (5, [(.istore_n 3, 1, 0, 0, 0, .null), (.iload_n 3, 1, 0, 0, 0, .null), (.iconst (-1), 1, 0, 0, 0, (.int (-1 : Int32)))]), (15, [(.aload_n 0, 1, 0, 0, 0, .null), (.getfield 28, 3, 2, 5, 4, .null), (.iload_n 3, 1, 0, 0, 0, .null), (.laload, 1, 0, 0, 0, .null), (.l2i, 1, 0, 0, 0, .null)]), (11, [(.iconst 0, 1, 0, 0, 0, (.int (0 : Int32)))])], [(2, .invokevirtual 46, 3), (22, .ireturn, 1), (12, .goto 10, 3), (8, .if_icmp .ne 7, 3)])
set_option maxRecDepth 100000 in
theorem m_Fo_lengthOf : hx_mok M_Fo_lengthOf = true := by decide +kernel
theorem pd_Fo_lengthOf : (parseMethodDescriptor M_Fo_lengthOf.2.1.desc).map (fun q => q.parameters.length) = some 1 := by decide +kernel
theorem y_Fo_lengthOf : hx_okV M_Fo_lengthOf := ⟨⟨lw_g (lw_at lw_m4 121 rfl) rfl, lw_g (lw_at lw_m4 120 rfl) rfl, qs6, lw_g (lw_at lw_m1 3 rfl) rfl, rfl, by decide, by decide, by decide⟩, rfl, by decide, plainFor_of_name (by decide)⟩
noncomputable def f_Fo_lengthOf (x1 : Int64) (h : hH) : Option Int32 :=
  bP (f_Fo_find x1 h) fun a1 =>
  if a1 = (-1 : Int32) then (
    some (0 : Int32)
  ) else (
    gd (vp_in a1 16) <|
    some (Int64.toInt32 (rdL h 10 (Int32.toNatClampNeg a1)))
  )
set_option maxRecDepth 20000 in
theorem k_Fo_lengthOf (x1 : Int64) (h : hH) : hx_kP S0 M_Fo_lengthOf 2 NT [(.ref 4), (.long x1)] h (f_Fo_lengthOf x1 h) cvI := by
  have hm := m_Fo_lengthOf
  show hx_P S0 M_Fo_lengthOf 2 0 [(0, (.ref 4)), (1, (.long x1))] [] NT h (f_Fo_lengthOf x1 h) (hx_Rp cvI NT h)
  unfold f_Fo_lengthOf
  refine hp_cVP (M2 := M_Fo_find) hm (at1 0 rfl) (as := [(.long x1)]) (rest := []) (z := 4) rfl (by exact trivial) (pc' := 2) rfl 0 rfl (lw_g (lw_at lw_m4 101 rfl) rfl) y_Fo_find rfl (d2 := 1) ⟨le_b rfl, pd_Fo_find, le_b rfl⟩ (le_b rfl) og_4 (k_Fo_find x1 h) (fun a1 => ?_)
  refine hp_b hm (at1 1 rfl) (L' := [(3, (.int a1)), (0, (.ref 4)), (1, (.long x1))]) (st' := [(.int (-1 : Int32)), (.int a1)]) rfl (by exact trivial) (pc' := 8) rfl ?_
  refine hp_ic_ne hm at0 rfl (by exact trivial) (pc' := 8) rfl 3 rfl (tgt := 15) rfl (fun c3 => ?_) (fun c3 => ?_)
  · refine hp_G hm (at1 2 rfl) (L' := [(3, (.int a1)), (0, (.ref 4)), (1, (.long x1))]) (st' := [(.int (Int64.toInt32 (rdL h 10 (Int32.toNatClampNeg a1))))]) rfl (fun hP => (by exact ⟨og_4, ⟨og_10, hP⟩⟩)) (pc' := 22) rfl (fun q2 => ?_)
    exact hp_ir hm at0 rfl (by exact trivial) (pc' := 22) rfl 1 rfl rfl (vp_nar_int _) (fun _ e => e)
  · refine hp_b hm (at1 3 rfl) (L' := [(3, (.int a1)), (0, (.ref 4)), (1, (.long x1))]) (st' := [(.int (0 : Int32))]) rfl (by exact trivial) (pc' := 12) rfl ?_
    refine hp_goto hm 2 rfl (tgt := 22) rfl ?_
    exact hp_ir hm at0 rfl (by exact trivial) (pc' := 22) rfl 1 rfl rfl (vp_nar_int _) (fun _ e => e)
/-! HintHouse$Font.isHead()Z -/
def M_Fo_isHead : hM := (2, ⟨"HintHouse$Font", "isHead", "()Z"⟩, prog_3_method_10_code, 4, (Option.some Jvm.ClassFile.FieldType.boolean), [], [(0, [(.aload_n 0, 1, 0, 0, 0, .null), (.ldc2_w 76, 3, 0, 0, 0, (.long (1751474532 : Int64)))]), (7, [(.istore_n 1, 1, 0, 0, 0, .null), (.aload_n 0, 1, 0, 0, 0, .null), (.ldc2_w 76, 3, 0, 0, 0, (.long (1751474532 : Int64)))]), (15, [(.bipush 54, 2, 0, 0, 0, (.int (54 : Int32)))]), (53, [(.iconst 0, 1, 0, 0, 0, (.int (0 : Int32)))]), (20, [(.aload_n 0, 1, 0, 0, 0, .null), (.getfield 12, 3, 2, 0, 4, .null), (.iload_n 1, 1, 0, 0, 0, .null)]), (28, [(.ldc2_w 141, 3, 0, 0, 0, (.long (65536 : Int64))), (.lcmp, 1, 0, 0, 0, .null)]), (35, [(.aload_n 0, 1, 0, 0, 0, .null), (.getfield 12, 3, 2, 0, 4, .null), (.iload_n 1, 1, 0, 0, 0, .null), (.bipush 12, 2, 0, 0, 0, (.int (12 : Int32))), (.iadd, 1, 0, 0, 0, .null)]), (46, [(.ldc2_w 162, 3, 0, 0, 0, (.long (1594834165 : Int64))), (.lcmp, 1, 0, 0, 0, .null)]), (55, [(.aload_n 0, 1, 0, 0, 0, .null), (.aload_n 0, 1, 0, 0, 0, .null), (.getfield 12, 3, 2, 0, 4, .null), (.iload_n 1, 1, 0, 0, 0, .null), (.bipush 18, 2, 0, 0, 0, (.int (18 : Int32))), (.iadd, 1, 0, 0, 0, .null)]), (67, [(.putfield 164, 3, 2, 6, 0, .null)]), (70, [(.aload_n 0, 1, 0, 0, 0, .null), (.aload_n 0, 1, 0, 0, 0, .null), (.getfield 12, 3, 2, 0, 4, .null), (.iload_n 1, 1, 0, 0, 0, .null), (.bipush 50, 2, 0, 0, 0, (.int (50 : Int32))), (.iadd, 1, 0, 0, 0, .null)]), (82, [(.putfield 167, 3, 2, 7, 0, .null)]), (85, [(.aload_n 0, 1, 0, 0, 0, .null), (.getfield 12, 3, 2, 0, 4, .null), (.iconst 0, 1, 0, 0, 0, (.int (0 : Int32))), (.aload_n 0, 1, 0, 0, 0, .null), (.getfield 12, 3, 2, 0, 4, .null), (.getfield 134, 3, 1, 1, 0, .null), (.iload_n 1, 1, 0, 0, 0, .null), (.bipush 8, 2, 0, 0, 0, (.int (8 : Int32))), (.iadd, 1, 0, 0, 0, .null)]), (104, [(.aload_n 0, 1, 0, 0, 0, .null), (.getfield 12, 3, 2, 0, 4, .null), (.iload_n 1, 1, 0, 0, 0, .null), (.bipush 8, 2, 0, 0, 0, (.int (8 : Int32))), (.iadd, 1, 0, 0, 0, .null)]), (115, [(.ladd, 1, 0, 0, 0, .null), (.ldc2_w 170, 3, 0, 0, 0, (.long (4294967295 : Int64))), (.land, 1, 0, 0, 0, .null), (.lstore_n 2, 1, 0, 0, 0, .null)]), (121, [(.aload_n 0, 1, 0, 0, 0, .null), (.getfield 164, 3, 2, 6, 0, .null), (.i2l, 1, 0, 0, 0, .null), (.ldc2_w 143, 3, 0, 0, 0, (.long (16 : Int64))), (.ldc2_w 172, 3, 0, 0, 0, (.long (16384 : Int64)))]), (172, [(.iconst 0, 1, 0, 0, 0, (.int (0 : Int32)))]), (138, [(.aload_n 0, 1, 0, 0, 0, .null), (.getfield 167, 3, 2, 7, 0, .null), (.iconst 1, 1, 0, 0, 0, (.int (1 : Int32)))]), (146, [(.aload_n 0, 1, 0, 0, 0, .null), (.getfield 12, 3, 2, 0, 4, .null), (.iload_n 1, 1, 0, 0, 0, .null), (.bipush 52, 2, 0, 0, 0, (.int (52 : Int32))), (.iadd, 1, 0, 0, 0, .null)]), (160, [(.lload_n 2, 1, 0, 0, 0, .null), (.ldc2_w 174, 3, 0, 0, 0, (.long (2981146554 : Int64))), (.lcmp, 1, 0, 0, 0, .null)]), (168, [(.iconst 1, 1, 0, 0, 0, (.int (1 : Int32)))])], [(4, .invokevirtual 99, 3), (12, .invokevirtual 96, 3), (54, .ireturn, 1), (25, .invokevirtual 137, 3), (43, .invokevirtual 137, 3), (64, .invokevirtual 102, 3), (79, .invokevirtual 102, 3), (101, .invokevirtual 158, 3), (112, .invokevirtual 137, 3), (132, .invokestatic 112, 3), (173, .ireturn, 1), (154, .invokevirtual 102, 3), (169, .goto 4, 3), (165, .ifCond .ne 7, 3), (157, .ifCond .ne 15, 3), (143, .if_icmp .gt 29, 3), (135, .ifCond .eq 37, 3), (50, .ifCond .eq 5, 3), (32, .ifCond .ne 21, 3), (17, .if_icmp .ne 36, 3)])
set_option maxRecDepth 100000 in
theorem m_Fo_isHead : hx_mok M_Fo_isHead = true := by decide +kernel
theorem pd_Fo_isHead : (parseMethodDescriptor M_Fo_isHead.2.1.desc).map (fun q => q.parameters.length) = some 0 := by decide +kernel
theorem y_Fo_isHead : hx_okV M_Fo_isHead := ⟨⟨lw_g (lw_at lw_m4 113 rfl) rfl, lw_g (lw_at lw_m4 112 rfl) rfl, qs4, lw_g (lw_at lw_m1 3 rfl) rfl, rfl, by decide, by decide, by decide⟩, rfl, by decide, plainFor_of_name (by decide)⟩
noncomputable def f_Fo_isHead (h : hH) : Option (Int32 × hH) :=
  bP (f_Fo_beginOf (1751474532 : Int64) h) fun a1 =>
  bP (f_Fo_lengthOf (1751474532 : Int64) h) fun a2 =>
  if a2 = (54 : Int32) then (
    bP (f_By_u4 5 a1 h) fun a3 =>
    if a3 = (65536 : Int64) then (
      bP (f_By_u4 5 (a1 + (12 : Int32)) h) fun a4 =>
      if a4 = (1594834165 : Int64) then (
        bP (f_By_u2 5 (a1 + (18 : Int32)) h) fun a5 =>
        lz (wrI h 4 6 a5) fun h1 =>
        bP (f_By_u2 5 (a1 + (50 : Int32)) h1) fun a6 =>
        lz (wrI h1 4 7 a6) fun h2 =>
        bP (f_By_sum 5 (0 : Int32) (rdI h2 5 1) (a1 + (8 : Int32)) h2) fun a7 =>
        bP (f_By_u4 5 (a1 + (8 : Int32)) h2) fun a8 =>
        lz (A := Int64) ((a7 + a8) &&& (4294967295 : Int64)) fun v9 =>
        bP (f_HH_within (Int32.toInt64 (rdI h2 4 6)) (16 : Int64) (16384 : Int64)) fun a10 =>
        if a10 = 0 then (
          some ((0 : Int32), h2)
        ) else (
          if (1 : Int32) < (rdI h2 4 7) then (
            some ((0 : Int32), h2)
          ) else (
            bP (f_By_u2 5 (a1 + (52 : Int32)) h2) fun a11 =>
            if a11 = 0 then (
              if v9 = (2981146554 : Int64) then (
                some ((1 : Int32), h2)
              ) else (
                some ((0 : Int32), h2)
              )
            ) else (
              some ((0 : Int32), h2)
            )
          )
        )
      ) else (
        some ((0 : Int32), h)
      )
    ) else (
      some ((0 : Int32), h)
    )
  ) else (
    some ((0 : Int32), h)
  )
set_option maxRecDepth 20000 in
theorem k_Fo_isHead (h : hH) : hx_kS S0 M_Fo_isHead 4 NT [(.ref 4)] h (f_Fo_isHead h) cvI := by
  have hm := m_Fo_isHead
  show hx_P S0 M_Fo_isHead 4 0 [(0, (.ref 4))] [] NT h (f_Fo_isHead h) (hx_Rc cvI NT)
  unfold f_Fo_isHead
  refine hp_cVP (M2 := M_Fo_beginOf) hm (at1 0 rfl) (as := [(.long (1751474532 : Int64))]) (rest := []) (z := 4) rfl (by exact trivial) (pc' := 4) rfl 0 rfl (lw_g (lw_at lw_m4 114 rfl) rfl) y_Fo_beginOf rfl (d2 := 2) ⟨le_b rfl, pd_Fo_beginOf, le_b rfl⟩ (le_b rfl) og_4 (k_Fo_beginOf (1751474532 : Int64) h) (fun a1 => ?_)
  refine hp_b hm (at1 1 rfl) (L' := [(1, (.int a1)), (0, (.ref 4))]) (st' := [(.long (1751474532 : Int64)), (.ref 4)]) rfl (by exact trivial) (pc' := 12) rfl ?_
  refine hp_cVP (M2 := M_Fo_lengthOf) hm at0 (as := [(.long (1751474532 : Int64))]) (rest := []) (z := 4) rfl (by exact trivial) (pc' := 12) rfl 1 rfl (lw_g (lw_at lw_m4 118 rfl) rfl) y_Fo_lengthOf rfl (d2 := 2) ⟨le_b rfl, pd_Fo_lengthOf, le_b rfl⟩ (le_b rfl) og_4 (k_Fo_lengthOf (1751474532 : Int64) h) (fun a2 => ?_)
  refine hp_ic_ne hm (at1 2 rfl) rfl (by exact trivial) (pc' := 17) rfl 19 rfl (tgt := 53) rfl (fun c18 => ?_) (fun c18 => ?_)
  · exact hp_ir hm (at1 3 rfl) rfl (by exact trivial) (pc' := 54) rfl 2 rfl rfl rfl (fun _ e => e)
  · refine hp_cVP (M2 := M_By_u4) hm (at1 4 rfl) (as := [(.int a1)]) (rest := []) (z := 5) rfl (by exact og_4) (pc' := 25) rfl 3 rfl (lw_g (lw_at lw_m4 62 rfl) rfl) y_By_u4 rfl (d2 := 3) ⟨le_b rfl, pd_By_u4, le_b rfl⟩ (le_b rfl) og_5 (k_By_u4 5 a1 h og_5) (fun a3 => ?_)
    refine hp_lc_ne hm (at1 5 rfl) rfl (by exact trivial) (pc' := 32) rfl 18 rfl (tgt := 53) rfl (fun c17 => ?_) (fun c17 => ?_)
    · exact hp_ir hm (at1 3 rfl) rfl (by exact trivial) (pc' := 54) rfl 2 rfl rfl rfl (fun _ e => e)
    · refine hp_cVP (M2 := M_By_u4) hm (at1 6 rfl) (as := [(.int (a1 + (12 : Int32)))]) (rest := []) (z := 5) rfl (by exact og_4) (pc' := 43) rfl 4 rfl (lw_g (lw_at lw_m4 62 rfl) rfl) y_By_u4 rfl (d2 := 3) ⟨le_b rfl, pd_By_u4, le_b rfl⟩ (le_b rfl) og_5 (k_By_u4 5 (a1 + (12 : Int32)) h og_5) (fun a4 => ?_)
      refine hp_lc_eq hm (at1 7 rfl) rfl (by exact trivial) (pc' := 50) rfl 17 rfl (tgt := 55) rfl (fun c16 => ?_) (fun c16 => ?_)
      · refine hp_cVP (M2 := M_By_u2) hm (at1 8 rfl) (as := [(.int (a1 + (18 : Int32)))]) (rest := [(.ref 4)]) (z := 5) rfl (by exact og_4) (pc' := 64) rfl 5 rfl (lw_g (lw_at lw_m4 75 rfl) rfl) y_By_u2 rfl (d2 := 2) ⟨le_b rfl, pd_By_u2, le_b rfl⟩ (le_b rfl) og_5 (k_By_u2 5 (a1 + (18 : Int32)) h og_5) (fun a5 => ?_)
        refine hp_w hm (at1 9 rfl) (L' := [(1, (.int a1)), (0, (.ref 4))]) rfl (by exact og_4) (pc' := 70) rfl (fun h1 => ?_)
        refine hp_cVP (M2 := M_By_u2) hm (at1 10 rfl) (as := [(.int (a1 + (50 : Int32)))]) (rest := [(.ref 4)]) (z := 5) rfl (by exact og_4) (pc' := 79) rfl 6 rfl (lw_g (lw_at lw_m4 75 rfl) rfl) y_By_u2 rfl (d2 := 2) ⟨le_b rfl, pd_By_u2, le_b rfl⟩ (le_b rfl) og_5 (k_By_u2 5 (a1 + (50 : Int32)) h1 og_5) (fun a6 => ?_)
        refine hp_w hm (at1 11 rfl) (L' := [(1, (.int a1)), (0, (.ref 4))]) rfl (by exact og_4) (pc' := 85) rfl (fun h2 => ?_)
        refine hp_cVP (M2 := M_By_sum) hm (at1 12 rfl) (as := [(.int (0 : Int32)), (.int (rdI h2 5 1)), (.int (a1 + (8 : Int32)))]) (rest := []) (z := 5) rfl (by exact ⟨⟨og_4, og_4⟩, og_5⟩) (pc' := 101) rfl 7 rfl (lw_g (lw_at lw_m4 95 rfl) rfl) y_By_sum rfl (d2 := 2) ⟨le_b rfl, pd_By_sum, le_b rfl⟩ (le_b rfl) og_5 (k_By_sum 5 (0 : Int32) (rdI h2 5 1) (a1 + (8 : Int32)) h2 og_5) (fun a7 => ?_)
        refine hp_cVP (M2 := M_By_u4) hm (at1 13 rfl) (as := [(.int (a1 + (8 : Int32)))]) (rest := [(.long a7)]) (z := 5) rfl (by exact og_4) (pc' := 112) rfl 8 rfl (lw_g (lw_at lw_m4 62 rfl) rfl) y_By_u4 rfl (d2 := 3) ⟨le_b rfl, pd_By_u4, le_b rfl⟩ (le_b rfl) og_5 (k_By_u4 5 (a1 + (8 : Int32)) h2 og_5) (fun a8 => ?_)
        refine hp_z hm (at1 14 rfl) (fun (v9 : Int64) => [(2, (.long v9)), (1, (.int a1)), (0, (.ref 4))]) (fun (v9 : Int64) => []) rfl (by exact trivial) (pc' := 121) rfl (fun v9 => ?_)
        refine hp_cNP (M2 := M_HH_within) hm (at1 15 rfl) (as := [(.long (Int32.toInt64 (rdI h2 4 6))), (.long (16 : Int64)), (.long (16384 : Int64))]) (rest := []) rfl (by exact og_4) (pc' := 132) rfl 9 rfl (hmn_2_112) y_HH_within rfl (d2 := 1) ⟨le_b rfl, pd_HH_within, le_b rfl⟩ (le_b rfl) (k_HH_within (Int32.toInt64 (rdI h2 4 6)) (16 : Int64) (16384 : Int64) h2) (fun a10 => ?_)
        refine hp_if_eq hm at0 rfl (by exact trivial) (pc' := 135) rfl 16 rfl (tgt := 172) rfl (fun c15 => ?_) (fun c15 => ?_)
        · refine hp_b hm (at1 16 rfl) (L' := [(2, (.long v9)), (1, (.int a1)), (0, (.ref 4))]) (st' := [(.int (0 : Int32))]) rfl (by exact trivial) (pc' := 173) rfl ?_
          exact hp_ir hm at0 rfl (by exact trivial) (pc' := 173) rfl 10 rfl rfl rfl (fun _ e => e)
        · refine hp_ic_gt hm (at1 17 rfl) rfl (by exact og_4) (pc' := 143) rfl 15 rfl (tgt := 172) rfl (fun c14 => ?_) (fun c14 => ?_)
          · refine hp_b hm (at1 16 rfl) (L' := [(2, (.long v9)), (1, (.int a1)), (0, (.ref 4))]) (st' := [(.int (0 : Int32))]) rfl (by exact trivial) (pc' := 173) rfl ?_
            exact hp_ir hm at0 rfl (by exact trivial) (pc' := 173) rfl 10 rfl rfl rfl (fun _ e => e)
          · refine hp_cVP (M2 := M_By_u2) hm (at1 18 rfl) (as := [(.int (a1 + (52 : Int32)))]) (rest := []) (z := 5) rfl (by exact og_4) (pc' := 154) rfl 11 rfl (lw_g (lw_at lw_m4 75 rfl) rfl) y_By_u2 rfl (d2 := 2) ⟨le_b rfl, pd_By_u2, le_b rfl⟩ (le_b rfl) og_5 (k_By_u2 5 (a1 + (52 : Int32)) h2 og_5) (fun a11 => ?_)
            refine hp_if_ne hm at0 rfl (by exact trivial) (pc' := 157) rfl 14 rfl (tgt := 172) rfl (fun c13 => ?_) (fun c13 => ?_)
            · refine hp_b hm (at1 16 rfl) (L' := [(2, (.long v9)), (1, (.int a1)), (0, (.ref 4))]) (st' := [(.int (0 : Int32))]) rfl (by exact trivial) (pc' := 173) rfl ?_
              exact hp_ir hm at0 rfl (by exact trivial) (pc' := 173) rfl 10 rfl rfl rfl (fun _ e => e)
            · refine hp_lc_ne hm (at1 19 rfl) rfl (by exact trivial) (pc' := 165) rfl 13 rfl (tgt := 172) rfl (fun c12 => ?_) (fun c12 => ?_)
              · refine hp_b hm (at1 16 rfl) (L' := [(2, (.long v9)), (1, (.int a1)), (0, (.ref 4))]) (st' := [(.int (0 : Int32))]) rfl (by exact trivial) (pc' := 173) rfl ?_
                exact hp_ir hm at0 rfl (by exact trivial) (pc' := 173) rfl 10 rfl rfl rfl (fun _ e => e)
              · refine hp_b hm (at1 20 rfl) (L' := [(2, (.long v9)), (1, (.int a1)), (0, (.ref 4))]) (st' := [(.int (1 : Int32))]) rfl (by exact trivial) (pc' := 169) rfl ?_
                refine hp_goto hm 12 rfl (tgt := 173) rfl ?_
                exact hp_ir hm at0 rfl (by exact trivial) (pc' := 173) rfl 10 rfl rfl rfl (fun _ e => e)
      · exact hp_ir hm (at1 3 rfl) rfl (by exact trivial) (pc' := 54) rfl 2 rfl rfl rfl (fun _ e => e)
/-! HintHouse$Font.isMaxp()Z -/
def M_Fo_isMaxp : hM := (2, ⟨"HintHouse$Font", "isMaxp", "()Z"⟩, prog_3_method_11_code, 3, (Option.some Jvm.ClassFile.FieldType.boolean), [], [(0, [(.aload_n 0, 1, 0, 0, 0, .null), (.ldc2_w 84, 3, 0, 0, 0, (.long (1835104368 : Int64)))]), (7, [(.istore_n 1, 1, 0, 0, 0, .null), (.aload_n 0, 1, 0, 0, 0, .null), (.ldc2_w 84, 3, 0, 0, 0, (.long (1835104368 : Int64)))]), (15, [(.bipush 32, 2, 0, 0, 0, (.int (32 : Int32)))]), (35, [(.iconst 0, 1, 0, 0, 0, (.int (0 : Int32)))]), (20, [(.aload_n 0, 1, 0, 0, 0, .null), (.getfield 12, 3, 2, 0, 4, .null), (.iload_n 1, 1, 0, 0, 0, .null)]), (28, [(.ldc2_w 141, 3, 0, 0, 0, (.long (65536 : Int64))), (.lcmp, 1, 0, 0, 0, .null)]), (37, [(.aload_n 0, 1, 0, 0, 0, .null), (.aload_n 0, 1, 0, 0, 0, .null), (.getfield 12, 3, 2, 0, 4, .null), (.iload_n 1, 1, 0, 0, 0, .null), (.iconst 4, 1, 0, 0, 0, (.int (4 : Int32))), (.iadd, 1, 0, 0, 0, .null)]), (48, [(.putfield 109, 3, 2, 8, 0, .null)]), (51, [(.aload_n 0, 1, 0, 0, 0, .null), (.aload_n 0, 1, 0, 0, 0, .null), (.getfield 12, 3, 2, 0, 4, .null), (.iload_n 1, 1, 0, 0, 0, .null), (.bipush 14, 2, 0, 0, 0, (.int (14 : Int32))), (.iadd, 1, 0, 0, 0, .null)]), (63, [(.putfield 176, 3, 2, 9, 0, .null)]), (66, [(.aload_n 0, 1, 0, 0, 0, .null), (.aload_n 0, 1, 0, 0, 0, .null), (.getfield 12, 3, 2, 0, 4, .null), (.iload_n 1, 1, 0, 0, 0, .null), (.bipush 16, 2, 0, 0, 0, (.int (16 : Int32))), (.iadd, 1, 0, 0, 0, .null)]), (78, [(.putfield 179, 3, 2, 10, 0, .null)]), (81, [(.aload_n 0, 1, 0, 0, 0, .null), (.aload_n 0, 1, 0, 0, 0, .null), (.getfield 12, 3, 2, 0, 4, .null), (.iload_n 1, 1, 0, 0, 0, .null), (.bipush 18, 2, 0, 0, 0, (.int (18 : Int32))), (.iadd, 1, 0, 0, 0, .null)]), (93, [(.putfield 182, 3, 2, 11, 0, .null)]), (96, [(.aload_n 0, 1, 0, 0, 0, .null), (.aload_n 0, 1, 0, 0, 0, .null), (.getfield 12, 3, 2, 0, 4, .null), (.iload_n 1, 1, 0, 0, 0, .null), (.bipush 20, 2, 0, 0, 0, (.int (20 : Int32))), (.iadd, 1, 0, 0, 0, .null)]), (108, [(.putfield 185, 3, 2, 12, 0, .null)]), (111, [(.aload_n 0, 1, 0, 0, 0, .null), (.aload_n 0, 1, 0, 0, 0, .null), (.getfield 12, 3, 2, 0, 4, .null), (.iload_n 1, 1, 0, 0, 0, .null), (.bipush 22, 2, 0, 0, 0, (.int (22 : Int32))), (.iadd, 1, 0, 0, 0, .null)]), (123, [(.putfield 188, 3, 2, 13, 0, .null)]), (126, [(.aload_n 0, 1, 0, 0, 0, .null), (.aload_n 0, 1, 0, 0, 0, .null), (.getfield 12, 3, 2, 0, 4, .null), (.iload_n 1, 1, 0, 0, 0, .null), (.bipush 24, 2, 0, 0, 0, (.int (24 : Int32))), (.iadd, 1, 0, 0, 0, .null)]), (138, [(.putfield 191, 3, 2, 14, 0, .null)]), (141, [(.aload_n 0, 1, 0, 0, 0, .null), (.aload_n 0, 1, 0, 0, 0, .null), (.getfield 12, 3, 2, 0, 4, .null), (.iload_n 1, 1, 0, 0, 0, .null), (.bipush 30, 2, 0, 0, 0, (.int (30 : Int32))), (.iadd, 1, 0, 0, 0, .null)]), (153, [(.putfield 194, 3, 2, 15, 0, .null)]), (156, [(.aload_n 0, 1, 0, 0, 0, .null), (.getfield 109, 3, 2, 8, 0, .null), (.i2l, 1, 0, 0, 0, .null), (.lconst 1, 1, 0, 0, 0, (.long (1 : Int64))), (.ldc2_w 197, 3, 0, 0, 0, (.long (200 : Int64)))]), (211, [(.iconst 0, 1, 0, 0, 0, (.int (0 : Int32)))]), (171, [(.aload_n 0, 1, 0, 0, 0, .null), (.getfield 176, 3, 2, 9, 0, .null), (.i2l, 1, 0, 0, 0, .null), (.lconst 1, 1, 0, 0, 0, (.long (1 : Int64))), (.ldc2_w 199, 3, 0, 0, 0, (.long (2 : Int64)))]), (186, [(.aload_n 0, 1, 0, 0, 0, .null), (.getfield 179, 3, 2, 10, 0, .null), (.aload_n 0, 1, 0, 0, 0, .null), (.getfield 176, 3, 2, 9, 0, .null), (.iconst 1, 1, 0, 0, 0, (.int (1 : Int32)))]), (202, [(.bipush 64, 2, 0, 0, 0, (.int (64 : Int32)))]), (198, [(.iconst 0, 1, 0, 0, 0, (.int (0 : Int32)))]), (207, [(.iconst 1, 1, 0, 0, 0, (.int (1 : Int32)))]), (212, [(.istore_n 2, 1, 0, 0, 0, .null), (.iload_n 2, 1, 0, 0, 0, .null)]), (266, [(.iconst 0, 1, 0, 0, 0, (.int (0 : Int32)))]), (217, [(.aload_n 0, 1, 0, 0, 0, .null), (.getfield 182, 3, 2, 11, 0, .null), (.bipush 64, 2, 0, 0, 0, (.int (64 : Int32)))]), (226, [(.aload_n 0, 1, 0, 0, 0, .null), (.getfield 185, 3, 2, 12, 0, .null), (.bipush 64, 2, 0, 0, 0, (.int (64 : Int32)))]), (235, [(.aload_n 0, 1, 0, 0, 0, .null), (.getfield 188, 3, 2, 13, 0, .null), (.bipush 16, 2, 0, 0, 0, (.int (16 : Int32)))]), (244, [(.aload_n 0, 1, 0, 0, 0, .null), (.getfield 191, 3, 2, 14, 0, .null), (.sipush 256, 3, 0, 0, 0, (.int (256 : Int32)))]), (254, [(.aload_n 0, 1, 0, 0, 0, .null), (.getfield 194, 3, 2, 15, 0, .null), (.iconst 4, 1, 0, 0, 0, (.int (4 : Int32)))]), (262, [(.iconst 1, 1, 0, 0, 0, (.int (1 : Int32)))])], [(4, .invokevirtual 99, 3), (12, .invokevirtual 96, 3), (36, .ireturn, 1), (25, .invokevirtual 137, 3), (45, .invokevirtual 102, 3), (60, .invokevirtual 102, 3), (75, .invokevirtual 102, 3), (90, .invokevirtual 102, 3), (105, .invokevirtual 102, 3), (120, .invokevirtual 102, 3), (135, .invokevirtual 102, 3), (150, .invokevirtual 102, 3), (165, .invokestatic 112, 3), (180, .invokestatic 112, 3), (199, .goto 5, 3), (195, .if_icmp .ne 7, 3), (208, .goto 4, 3), (204, .if_icmp .gt 7, 3), (183, .ifCond .eq 28, 3), (168, .ifCond .eq 43, 3), (267, .ireturn, 1), (263, .goto 4, 3), (259, .if_icmp .gt 7, 3), (251, .if_icmp .gt 15, 3), (241, .if_icmp .gt 25, 3), (232, .if_icmp .gt 34, 3), (223, .if_icmp .gt 43, 3), (214, .ifCond .eq 52, 3), (32, .ifCond .eq 5, 3), (17, .if_icmp .ne 18, 3)])
set_option maxRecDepth 100000 in
theorem m_Fo_isMaxp : hx_mok M_Fo_isMaxp = true := by decide +kernel
theorem pd_Fo_isMaxp : (parseMethodDescriptor M_Fo_isMaxp.2.1.desc).map (fun q => q.parameters.length) = some 0 := by decide +kernel
theorem y_Fo_isMaxp : hx_okV M_Fo_isMaxp := ⟨⟨lw_g (lw_at lw_m4 129 rfl) rfl, lw_g (lw_at lw_m4 128 rfl) rfl, qs7, lw_g (lw_at lw_m1 3 rfl) rfl, rfl, by decide, by decide, by decide⟩, rfl, by decide, plainFor_of_name (by decide)⟩
noncomputable def f_Fo_isMaxp (h : hH) : Option (Int32 × hH) :=
  bP (f_Fo_beginOf (1835104368 : Int64) h) fun a1 =>
  bP (f_Fo_lengthOf (1835104368 : Int64) h) fun a2 =>
  if a2 = (32 : Int32) then (
    bP (f_By_u4 5 a1 h) fun a3 =>
    if a3 = (65536 : Int64) then (
      bP (f_By_u2 5 (a1 + (4 : Int32)) h) fun a4 =>
      lz (wrI h 4 8 a4) fun h1 =>
      bP (f_By_u2 5 (a1 + (14 : Int32)) h1) fun a5 =>
      lz (wrI h1 4 9 a5) fun h2 =>
      bP (f_By_u2 5 (a1 + (16 : Int32)) h2) fun a6 =>
      lz (wrI h2 4 10 a6) fun h3 =>
      bP (f_By_u2 5 (a1 + (18 : Int32)) h3) fun a7 =>
      lz (wrI h3 4 11 a7) fun h4 =>
      bP (f_By_u2 5 (a1 + (20 : Int32)) h4) fun a8 =>
      lz (wrI h4 4 12 a8) fun h5 =>
      bP (f_By_u2 5 (a1 + (22 : Int32)) h5) fun a9 =>
      lz (wrI h5 4 13 a9) fun h6 =>
      bP (f_By_u2 5 (a1 + (24 : Int32)) h6) fun a10 =>
      lz (wrI h6 4 14 a10) fun h7 =>
      bP (f_By_u2 5 (a1 + (30 : Int32)) h7) fun a11 =>
      lz (wrI h7 4 15 a11) fun h8 =>
      bP (f_HH_within (Int32.toInt64 (rdI h8 4 8)) (1 : Int64) (200 : Int64)) fun a12 =>
      bP (A := Int32) (
        if a12 = 0 then (
          some (0 : Int32)
        ) else (
          bP (f_HH_within (Int32.toInt64 (rdI h8 4 9)) (1 : Int64) (2 : Int64)) fun a14 =>
          if a14 = 0 then (
            some (0 : Int32)
          ) else (
            lz (A := Int32) (if (rdI h8 4 9) = (1 : Int32) then (0 : Int32) else (64 : Int32)) fun p15 =>
            if p15 < (rdI h8 4 10) then (
              some (0 : Int32)
            ) else (
              some (1 : Int32)
            )
          )
        )
      ) fun p13 =>
      if p13 = 0 then (
        some ((0 : Int32), h8)
      ) else (
        if (64 : Int32) < (rdI h8 4 11) then (
          some ((0 : Int32), h8)
        ) else (
          if (64 : Int32) < (rdI h8 4 12) then (
            some ((0 : Int32), h8)
          ) else (
            if (16 : Int32) < (rdI h8 4 13) then (
              some ((0 : Int32), h8)
            ) else (
              if (256 : Int32) < (rdI h8 4 14) then (
                some ((0 : Int32), h8)
              ) else (
                if (4 : Int32) < (rdI h8 4 15) then (
                  some ((0 : Int32), h8)
                ) else (
                  some ((1 : Int32), h8)
                )
              )
            )
          )
        )
      )
    ) else (
      some ((0 : Int32), h)
    )
  ) else (
    some ((0 : Int32), h)
  )
set_option maxRecDepth 20000 in
theorem k_Fo_isMaxp (h : hH) : hx_kS S0 M_Fo_isMaxp 4 NT [(.ref 4)] h (f_Fo_isMaxp h) cvI := by
  have hm := m_Fo_isMaxp
  show hx_P S0 M_Fo_isMaxp 4 0 [(0, (.ref 4))] [] NT h (f_Fo_isMaxp h) (hx_Rc cvI NT)
  unfold f_Fo_isMaxp
  refine hp_cVP (M2 := M_Fo_beginOf) hm (at1 0 rfl) (as := [(.long (1835104368 : Int64))]) (rest := []) (z := 4) rfl (by exact trivial) (pc' := 4) rfl 0 rfl (lw_g (lw_at lw_m4 114 rfl) rfl) y_Fo_beginOf rfl (d2 := 2) ⟨le_b rfl, pd_Fo_beginOf, le_b rfl⟩ (le_b rfl) og_4 (k_Fo_beginOf (1835104368 : Int64) h) (fun a1 => ?_)
  refine hp_b hm (at1 1 rfl) (L' := [(1, (.int a1)), (0, (.ref 4))]) (st' := [(.long (1835104368 : Int64)), (.ref 4)]) rfl (by exact trivial) (pc' := 12) rfl ?_
  refine hp_cVP (M2 := M_Fo_lengthOf) hm at0 (as := [(.long (1835104368 : Int64))]) (rest := []) (z := 4) rfl (by exact trivial) (pc' := 12) rfl 1 rfl (lw_g (lw_at lw_m4 118 rfl) rfl) y_Fo_lengthOf rfl (d2 := 2) ⟨le_b rfl, pd_Fo_lengthOf, le_b rfl⟩ (le_b rfl) og_4 (k_Fo_lengthOf (1835104368 : Int64) h) (fun a2 => ?_)
  refine hp_ic_ne hm (at1 2 rfl) rfl (by exact trivial) (pc' := 17) rfl 29 rfl (tgt := 35) rfl (fun c27 => ?_) (fun c27 => ?_)
  · exact hp_ir hm (at1 3 rfl) rfl (by exact trivial) (pc' := 36) rfl 2 rfl rfl rfl (fun _ e => e)
  · refine hp_cVP (M2 := M_By_u4) hm (at1 4 rfl) (as := [(.int a1)]) (rest := []) (z := 5) rfl (by exact og_4) (pc' := 25) rfl 3 rfl (lw_g (lw_at lw_m4 62 rfl) rfl) y_By_u4 rfl (d2 := 3) ⟨le_b rfl, pd_By_u4, le_b rfl⟩ (le_b rfl) og_5 (k_By_u4 5 a1 h og_5) (fun a3 => ?_)
    refine hp_lc_eq hm (at1 5 rfl) rfl (by exact trivial) (pc' := 32) rfl 28 rfl (tgt := 37) rfl (fun c26 => ?_) (fun c26 => ?_)
    · refine hp_cVP (M2 := M_By_u2) hm (at1 6 rfl) (as := [(.int (a1 + (4 : Int32)))]) (rest := [(.ref 4)]) (z := 5) rfl (by exact og_4) (pc' := 45) rfl 4 rfl (lw_g (lw_at lw_m4 75 rfl) rfl) y_By_u2 rfl (d2 := 2) ⟨le_b rfl, pd_By_u2, le_b rfl⟩ (le_b rfl) og_5 (k_By_u2 5 (a1 + (4 : Int32)) h og_5) (fun a4 => ?_)
      refine hp_w hm (at1 7 rfl) (L' := [(1, (.int a1)), (0, (.ref 4))]) rfl (by exact og_4) (pc' := 51) rfl (fun h1 => ?_)
      refine hp_cVP (M2 := M_By_u2) hm (at1 8 rfl) (as := [(.int (a1 + (14 : Int32)))]) (rest := [(.ref 4)]) (z := 5) rfl (by exact og_4) (pc' := 60) rfl 5 rfl (lw_g (lw_at lw_m4 75 rfl) rfl) y_By_u2 rfl (d2 := 2) ⟨le_b rfl, pd_By_u2, le_b rfl⟩ (le_b rfl) og_5 (k_By_u2 5 (a1 + (14 : Int32)) h1 og_5) (fun a5 => ?_)
      refine hp_w hm (at1 9 rfl) (L' := [(1, (.int a1)), (0, (.ref 4))]) rfl (by exact og_4) (pc' := 66) rfl (fun h2 => ?_)
      refine hp_cVP (M2 := M_By_u2) hm (at1 10 rfl) (as := [(.int (a1 + (16 : Int32)))]) (rest := [(.ref 4)]) (z := 5) rfl (by exact og_4) (pc' := 75) rfl 6 rfl (lw_g (lw_at lw_m4 75 rfl) rfl) y_By_u2 rfl (d2 := 2) ⟨le_b rfl, pd_By_u2, le_b rfl⟩ (le_b rfl) og_5 (k_By_u2 5 (a1 + (16 : Int32)) h2 og_5) (fun a6 => ?_)
      refine hp_w hm (at1 11 rfl) (L' := [(1, (.int a1)), (0, (.ref 4))]) rfl (by exact og_4) (pc' := 81) rfl (fun h3 => ?_)
      refine hp_cVP (M2 := M_By_u2) hm (at1 12 rfl) (as := [(.int (a1 + (18 : Int32)))]) (rest := [(.ref 4)]) (z := 5) rfl (by exact og_4) (pc' := 90) rfl 7 rfl (lw_g (lw_at lw_m4 75 rfl) rfl) y_By_u2 rfl (d2 := 2) ⟨le_b rfl, pd_By_u2, le_b rfl⟩ (le_b rfl) og_5 (k_By_u2 5 (a1 + (18 : Int32)) h3 og_5) (fun a7 => ?_)
      refine hp_w hm (at1 13 rfl) (L' := [(1, (.int a1)), (0, (.ref 4))]) rfl (by exact og_4) (pc' := 96) rfl (fun h4 => ?_)
      refine hp_cVP (M2 := M_By_u2) hm (at1 14 rfl) (as := [(.int (a1 + (20 : Int32)))]) (rest := [(.ref 4)]) (z := 5) rfl (by exact og_4) (pc' := 105) rfl 8 rfl (lw_g (lw_at lw_m4 75 rfl) rfl) y_By_u2 rfl (d2 := 2) ⟨le_b rfl, pd_By_u2, le_b rfl⟩ (le_b rfl) og_5 (k_By_u2 5 (a1 + (20 : Int32)) h4 og_5) (fun a8 => ?_)
      refine hp_w hm (at1 15 rfl) (L' := [(1, (.int a1)), (0, (.ref 4))]) rfl (by exact og_4) (pc' := 111) rfl (fun h5 => ?_)
      refine hp_cVP (M2 := M_By_u2) hm (at1 16 rfl) (as := [(.int (a1 + (22 : Int32)))]) (rest := [(.ref 4)]) (z := 5) rfl (by exact og_4) (pc' := 120) rfl 9 rfl (lw_g (lw_at lw_m4 75 rfl) rfl) y_By_u2 rfl (d2 := 2) ⟨le_b rfl, pd_By_u2, le_b rfl⟩ (le_b rfl) og_5 (k_By_u2 5 (a1 + (22 : Int32)) h5 og_5) (fun a9 => ?_)
      refine hp_w hm (at1 17 rfl) (L' := [(1, (.int a1)), (0, (.ref 4))]) rfl (by exact og_4) (pc' := 126) rfl (fun h6 => ?_)
      refine hp_cVP (M2 := M_By_u2) hm (at1 18 rfl) (as := [(.int (a1 + (24 : Int32)))]) (rest := [(.ref 4)]) (z := 5) rfl (by exact og_4) (pc' := 135) rfl 10 rfl (lw_g (lw_at lw_m4 75 rfl) rfl) y_By_u2 rfl (d2 := 2) ⟨le_b rfl, pd_By_u2, le_b rfl⟩ (le_b rfl) og_5 (k_By_u2 5 (a1 + (24 : Int32)) h6 og_5) (fun a10 => ?_)
      refine hp_w hm (at1 19 rfl) (L' := [(1, (.int a1)), (0, (.ref 4))]) rfl (by exact og_4) (pc' := 141) rfl (fun h7 => ?_)
      refine hp_cVP (M2 := M_By_u2) hm (at1 20 rfl) (as := [(.int (a1 + (30 : Int32)))]) (rest := [(.ref 4)]) (z := 5) rfl (by exact og_4) (pc' := 150) rfl 11 rfl (lw_g (lw_at lw_m4 75 rfl) rfl) y_By_u2 rfl (d2 := 2) ⟨le_b rfl, pd_By_u2, le_b rfl⟩ (le_b rfl) og_5 (k_By_u2 5 (a1 + (30 : Int32)) h7 og_5) (fun a11 => ?_)
      refine hp_w hm (at1 21 rfl) (L' := [(1, (.int a1)), (0, (.ref 4))]) rfl (by exact og_4) (pc' := 156) rfl (fun h8 => ?_)
      refine hp_cNP (M2 := M_HH_within) hm (at1 22 rfl) (as := [(.long (Int32.toInt64 (rdI h8 4 8))), (.long (1 : Int64)), (.long (200 : Int64))]) (rest := []) rfl (by exact og_4) (pc' := 165) rfl 12 rfl (hmn_2_112) y_HH_within rfl (d2 := 1) ⟨le_b rfl, pd_HH_within, le_b rfl⟩ (le_b rfl) (k_HH_within (Int32.toInt64 (rdI h8 4 8)) (1 : Int64) (200 : Int64) h8) (fun a12 => ?_)
      refine hp_J 212 (fun (p13 : Int32) => [(0, (.ref 4))]) (fun (p13 : Int32) => [(.int p13)]) (fun (p13 : Int32) => h8) ?_ (fun p13 => ?_)
      · refine hp_if_eq hm at0 rfl (by exact trivial) (pc' := 168) rfl 19 rfl (tgt := 211) rfl (fun c19 => ?_) (fun c19 => ?_)
        · refine hp_b hm (at1 23 rfl) (L' := [(1, (.int a1)), (0, (.ref 4))]) (st' := [(.int (0 : Int32))]) rfl (by exact trivial) (pc' := 212) rfl ?_
          exact hp_lf [1] rfl (fun _ e => e)
        · refine hp_cNP (M2 := M_HH_within) hm (at1 24 rfl) (as := [(.long (Int32.toInt64 (rdI h8 4 9))), (.long (1 : Int64)), (.long (2 : Int64))]) (rest := []) rfl (by exact og_4) (pc' := 180) rfl 13 rfl (hmn_2_112) y_HH_within rfl (d2 := 1) ⟨le_b rfl, pd_HH_within, le_b rfl⟩ (le_b rfl) (k_HH_within (Int32.toInt64 (rdI h8 4 9)) (1 : Int64) (2 : Int64) h8) (fun a14 => ?_)
          refine hp_if_eq hm at0 rfl (by exact trivial) (pc' := 183) rfl 18 rfl (tgt := 211) rfl (fun c18 => ?_) (fun c18 => ?_)
          · refine hp_b hm (at1 23 rfl) (L' := [(1, (.int a1)), (0, (.ref 4))]) (st' := [(.int (0 : Int32))]) rfl (by exact trivial) (pc' := 212) rfl ?_
            exact hp_lf [1] rfl (fun _ e => e)
          · refine hp_JZ 204 (fun (p15 : Int32) => [(0, (.ref 4))]) (fun (p15 : Int32) => [(.int p15), (.int (rdI h8 4 10))]) (fun (p15 : Int32) => h8) ?_ (fun p15 => ?_)
            · refine hp_sv0 ?_
              refine hp_ic_ne hm (at1 25 rfl) rfl (by exact ⟨og_4, og_4⟩) (pc' := 195) rfl 15 rfl (tgt := 202) rfl (fun c16 => ?_) (fun c16 => ?_)
              · refine hp_b hm (at1 26 rfl) (L' := [(1, (.int a1)), (0, (.ref 4))]) (st' := [(.int (64 : Int32)), (.int (rdI h8 4 10))]) rfl (by exact trivial) (pc' := 204) rfl ?_
                exact hp_lf [1] rfl (fun _ e => e)
              · refine hp_b hm (at1 27 rfl) (L' := [(1, (.int a1)), (0, (.ref 4))]) (st' := [(.int (0 : Int32)), (.int (rdI h8 4 10))]) rfl (by exact trivial) (pc' := 199) rfl ?_
                refine hp_goto hm 14 rfl (tgt := 204) rfl ?_
                exact hp_lf [1] rfl (fun _ e => e)
            · refine hp_ic_gt hm at0 rfl (by exact trivial) (pc' := 204) rfl 17 rfl (tgt := 211) rfl (fun c17 => ?_) (fun c17 => ?_)
              · refine hp_b hm (at1 23 rfl) (L' := [(0, (.ref 4))]) (st' := [(.int (0 : Int32))]) rfl (by exact trivial) (pc' := 212) rfl ?_
                exact hp_lf [0] rfl (fun _ e => e)
              · refine hp_b hm (at1 28 rfl) (L' := [(0, (.ref 4))]) (st' := [(.int (1 : Int32))]) rfl (by exact trivial) (pc' := 208) rfl ?_
                refine hp_goto hm 16 rfl (tgt := 212) rfl ?_
                exact hp_lf [0] rfl (fun _ e => e)
      · refine hp_b hm (at1 29 rfl) (L' := [(2, (.int p13)), (0, (.ref 4))]) (st' := [(.int p13)]) rfl (by exact trivial) (pc' := 214) rfl ?_
        refine hp_if_eq hm at0 rfl (by exact trivial) (pc' := 214) rfl 27 rfl (tgt := 266) rfl (fun c25 => ?_) (fun c25 => ?_)
        · refine hp_b hm (at1 30 rfl) (L' := [(2, (.int p13)), (0, (.ref 4))]) (st' := [(.int (0 : Int32))]) rfl (by exact trivial) (pc' := 267) rfl ?_
          exact hp_ir hm at0 rfl (by exact trivial) (pc' := 267) rfl 20 rfl rfl rfl (fun _ e => e)
        · refine hp_ic_gt hm (at1 31 rfl) rfl (by exact og_4) (pc' := 223) rfl 26 rfl (tgt := 266) rfl (fun c24 => ?_) (fun c24 => ?_)
          · refine hp_b hm (at1 30 rfl) (L' := [(2, (.int p13)), (0, (.ref 4))]) (st' := [(.int (0 : Int32))]) rfl (by exact trivial) (pc' := 267) rfl ?_
            exact hp_ir hm at0 rfl (by exact trivial) (pc' := 267) rfl 20 rfl rfl rfl (fun _ e => e)
          · refine hp_ic_gt hm (at1 32 rfl) rfl (by exact og_4) (pc' := 232) rfl 25 rfl (tgt := 266) rfl (fun c23 => ?_) (fun c23 => ?_)
            · refine hp_b hm (at1 30 rfl) (L' := [(2, (.int p13)), (0, (.ref 4))]) (st' := [(.int (0 : Int32))]) rfl (by exact trivial) (pc' := 267) rfl ?_
              exact hp_ir hm at0 rfl (by exact trivial) (pc' := 267) rfl 20 rfl rfl rfl (fun _ e => e)
            · refine hp_ic_gt hm (at1 33 rfl) rfl (by exact og_4) (pc' := 241) rfl 24 rfl (tgt := 266) rfl (fun c22 => ?_) (fun c22 => ?_)
              · refine hp_b hm (at1 30 rfl) (L' := [(2, (.int p13)), (0, (.ref 4))]) (st' := [(.int (0 : Int32))]) rfl (by exact trivial) (pc' := 267) rfl ?_
                exact hp_ir hm at0 rfl (by exact trivial) (pc' := 267) rfl 20 rfl rfl rfl (fun _ e => e)
              · refine hp_ic_gt hm (at1 34 rfl) rfl (by exact og_4) (pc' := 251) rfl 23 rfl (tgt := 266) rfl (fun c21 => ?_) (fun c21 => ?_)
                · refine hp_b hm (at1 30 rfl) (L' := [(2, (.int p13)), (0, (.ref 4))]) (st' := [(.int (0 : Int32))]) rfl (by exact trivial) (pc' := 267) rfl ?_
                  exact hp_ir hm at0 rfl (by exact trivial) (pc' := 267) rfl 20 rfl rfl rfl (fun _ e => e)
                · refine hp_ic_gt hm (at1 35 rfl) rfl (by exact og_4) (pc' := 259) rfl 22 rfl (tgt := 266) rfl (fun c20 => ?_) (fun c20 => ?_)
                  · refine hp_b hm (at1 30 rfl) (L' := [(2, (.int p13)), (0, (.ref 4))]) (st' := [(.int (0 : Int32))]) rfl (by exact trivial) (pc' := 267) rfl ?_
                    exact hp_ir hm at0 rfl (by exact trivial) (pc' := 267) rfl 20 rfl rfl rfl (fun _ e => e)
                  · refine hp_b hm (at1 36 rfl) (L' := [(2, (.int p13)), (0, (.ref 4))]) (st' := [(.int (1 : Int32))]) rfl (by exact trivial) (pc' := 263) rfl ?_
                    refine hp_goto hm 21 rfl (tgt := 267) rfl ?_
                    exact hp_ir hm at0 rfl (by exact trivial) (pc' := 267) rfl 20 rfl rfl rfl (fun _ e => e)
    · exact hp_ir hm (at1 3 rfl) rfl (by exact trivial) (pc' := 36) rfl 2 rfl rfl rfl (fun _ e => e)
/-! HintHouse$Font.locaOf(I)J -/
def M_Fo_locaOf : hM := (2, ⟨"HintHouse$Font", "locaOf", "(I)J"⟩, prog_3_method_12_code, 2, (Option.some Jvm.ClassFile.FieldType.long), [], [(0, [(.aload_n 0, 1, 0, 0, 0, .null), (.getfield 167, 3, 2, 7, 0, .null)]), (30, [(.aload_n 0, 1, 0, 0, 0, .null), (.getfield 12, 3, 2, 0, 4, .null), (.aload_n 0, 1, 0, 0, 0, .null), (.getfield 201, 3, 2, 18, 0, .null), (.iconst 4, 1, 0, 0, 0, (.int (4 : Int32))), (.iload_n 1, 1, 0, 0, 0, .null), (.imul, 1, 0, 0, 0, .null), (.iadd, 1, 0, 0, 0, .null)]), (7, [(.ldc2_w 199, 3, 0, 0, 0, (.long (2 : Int64))), (.aload_n 0, 1, 0, 0, 0, .null), (.getfield 12, 3, 2, 0, 4, .null), (.aload_n 0, 1, 0, 0, 0, .null), (.getfield 201, 3, 2, 18, 0, .null), (.iconst 2, 1, 0, 0, 0, (.int (2 : Int32))), (.iload_n 1, 1, 0, 0, 0, .null), (.imul, 1, 0, 0, 0, .null), (.iadd, 1, 0, 0, 0, .null)]), (25, [(.i2l, 1, 0, 0, 0, .null), (.lmul, 1, 0, 0, 0, .null)])], [(42, .invokevirtual 137, 3), (45, .lreturn, 1), (22, .invokevirtual 102, 3), (27, .goto 18, 3), (4, .ifCond .ne 26, 3)])
set_option maxRecDepth 100000 in
theorem m_Fo_locaOf : hx_mok M_Fo_locaOf = true := by decide +kernel
theorem pd_Fo_locaOf : (parseMethodDescriptor M_Fo_locaOf.2.1.desc).map (fun q => q.parameters.length) = some 1 := by decide +kernel
theorem y_Fo_locaOf : hx_okV M_Fo_locaOf := ⟨⟨lw_g (lw_at lw_m4 143 rfl) rfl, lw_g (lw_at lw_m4 142 rfl) rfl, qs10, lw_g (lw_at lw_m1 3 rfl) rfl, rfl, by decide, by decide, by decide⟩, rfl, by decide, plainFor_of_name (by decide)⟩
noncomputable def f_Fo_locaOf (x1 : Int32) (h : hH) : Option Int64 :=
  if (rdI h 4 7) = 0 then (
    bP (f_By_u2 5 ((rdI h 4 18) + ((2 : Int32) * x1)) h) fun a2 =>
    some ((2 : Int64) * (Int32.toInt64 a2))
  ) else (
    bP (f_By_u4 5 ((rdI h 4 18) + ((4 : Int32) * x1)) h) fun a1 =>
    some a1
  )
set_option maxRecDepth 20000 in
theorem k_Fo_locaOf (x1 : Int32) (h : hH) : hx_kP S0 M_Fo_locaOf 4 NT [(.ref 4), (.int x1)] h (f_Fo_locaOf x1 h) cvL := by
  have hm := m_Fo_locaOf
  show hx_P S0 M_Fo_locaOf 4 0 [(0, (.ref 4)), (1, (.int x1))] [] NT h (f_Fo_locaOf x1 h) (hx_Rp cvL NT h)
  unfold f_Fo_locaOf
  refine hp_if_ne hm (at1 0 rfl) rfl (by exact og_4) (pc' := 4) rfl 4 rfl (tgt := 30) rfl (fun c3 => ?_) (fun c3 => ?_)
  · refine hp_cVP (M2 := M_By_u4) hm (at1 1 rfl) (as := [(.int ((rdI h 4 18) + ((4 : Int32) * x1)))]) (rest := []) (z := 5) rfl (by exact ⟨og_4, og_4⟩) (pc' := 42) rfl 0 rfl (lw_g (lw_at lw_m4 62 rfl) rfl) y_By_u4 rfl (d2 := 3) ⟨le_b rfl, pd_By_u4, le_b rfl⟩ (le_b rfl) og_5 (k_By_u4 5 ((rdI h 4 18) + ((4 : Int32) * x1)) h og_5) (fun a1 => ?_)
    exact hp_lr hm at0 rfl (by exact trivial) (pc' := 45) rfl 1 rfl rfl (fun _ e => e)
  · refine hp_cVP (M2 := M_By_u2) hm (at1 2 rfl) (as := [(.int ((rdI h 4 18) + ((2 : Int32) * x1)))]) (rest := [(.long (2 : Int64))]) (z := 5) rfl (by exact ⟨og_4, og_4⟩) (pc' := 22) rfl 2 rfl (lw_g (lw_at lw_m4 75 rfl) rfl) y_By_u2 rfl (d2 := 2) ⟨le_b rfl, pd_By_u2, le_b rfl⟩ (le_b rfl) og_5 (k_By_u2 5 ((rdI h 4 18) + ((2 : Int32) * x1)) h og_5) (fun a2 => ?_)
    refine hp_b hm (at1 3 rfl) (L' := [(0, (.ref 4)), (1, (.int x1))]) (st' := [(.long ((2 : Int64) * (Int32.toInt64 a2)))]) rfl (by exact trivial) (pc' := 27) rfl ?_
    refine hp_goto hm 3 rfl (tgt := 45) rfl ?_
    exact hp_lr hm at0 rfl (by exact trivial) (pc' := 45) rfl 1 rfl rfl (fun _ e => e)
/-! HintHouse$Font.isLoca()Z -/
def M_Fo_isLoca : hM := (2, ⟨"HintHouse$Font", "isLoca", "()Z"⟩, prog_3_method_13_code, 2, (Option.some Jvm.ClassFile.FieldType.boolean), [], [(0, [(.aload_n 0, 1, 0, 0, 0, .null), (.aload_n 0, 1, 0, 0, 0, .null), (.ldc2_w 82, 3, 0, 0, 0, (.long (1819239265 : Int64)))]), (8, [(.putfield 201, 3, 2, 18, 0, .null)]), (11, [(.aload_n 0, 1, 0, 0, 0, .null), (.aload_n 0, 1, 0, 0, 0, .null), (.ldc2_w 74, 3, 0, 0, 0, (.long (1735162214 : Int64)))]), (19, [(.putfield 204, 3, 2, 19, 0, .null)]), (22, [(.aload_n 0, 1, 0, 0, 0, .null), (.ldc2_w 82, 3, 0, 0, 0, (.long (1819239265 : Int64)))]), (29, [(.aload_n 0, 1, 0, 0, 0, .null), (.getfield 109, 3, 2, 8, 0, .null), (.iconst 1, 1, 0, 0, 0, (.int (1 : Int32))), (.iadd, 1, 0, 0, 0, .null), (.aload_n 0, 1, 0, 0, 0, .null), (.getfield 167, 3, 2, 7, 0, .null)]), (46, [(.iconst 4, 1, 0, 0, 0, (.int (4 : Int32)))]), (42, [(.iconst 2, 1, 0, 0, 0, (.int (2 : Int32)))]), (47, [(.imul, 1, 0, 0, 0, .null)]), (53, [(.iconst 1, 1, 0, 0, 0, (.int (1 : Int32))), (.istore_n 1, 1, 0, 0, 0, .null)]), (55, [(.iload_n 1, 1, 0, 0, 0, .null), (.aload_n 0, 1, 0, 0, 0, .null), (.getfield 109, 3, 2, 8, 0, .null)]), (63, [(.aload_n 0, 1, 0, 0, 0, .null), (.iload_n 1, 1, 0, 0, 0, .null)]), (68, [(.aload_n 0, 1, 0, 0, 0, .null), (.iload_n 1, 1, 0, 0, 0, .null), (.iconst 1, 1, 0, 0, 0, (.int (1 : Int32))), (.isub, 1, 0, 0, 0, .null)]), (75, [(.lcmp, 1, 0, 0, 0, .null)]), (81, [(.iinc 1 1, 3, 0, 0, 0, (.int (1 : Int32)))]), (79, [(.iconst 0, 1, 0, 0, 0, (.int (0 : Int32)))]), (87, [(.aload_n 0, 1, 0, 0, 0, .null), (.aload_n 0, 1, 0, 0, 0, .null), (.getfield 109, 3, 2, 8, 0, .null)]), (95, [(.aload_n 0, 1, 0, 0, 0, .null), (.ldc2_w 74, 3, 0, 0, 0, (.long (1735162214 : Int64)))]), (102, [(.i2l, 1, 0, 0, 0, .null), (.lcmp, 1, 0, 0, 0, .null)]), (111, [(.iconst 0, 1, 0, 0, 0, (.int (0 : Int32)))]), (107, [(.iconst 1, 1, 0, 0, 0, (.int (1 : Int32)))]), (51, [(.iconst 0, 1, 0, 0, 0, (.int (0 : Int32)))])], [(5, .invokevirtual 99, 3), (16, .invokevirtual 99, 3), (26, .invokevirtual 96, 3), (43, .goto 4, 3), (39, .ifCond .ne 7, 3), (65, .invokevirtual 207, 3), (72, .invokevirtual 207, 3), (84, .goto (-29), 3), (80, .ireturn, 1), (76, .ifCond .ge 5, 3), (60, .if_icmp .gt 27, 3), (92, .invokevirtual 207, 3), (99, .invokevirtual 96, 3), (112, .ireturn, 1), (108, .goto 4, 3), (104, .ifCond .gt 7, 3), (52, .ireturn, 1), (48, .if_icmp .ge 5, 3)])
set_option maxRecDepth 100000 in
theorem m_Fo_isLoca : hx_mok M_Fo_isLoca = true := by decide +kernel
theorem pd_Fo_isLoca : (parseMethodDescriptor M_Fo_isLoca.2.1.desc).map (fun q => q.parameters.length) = some 0 := by decide +kernel
theorem y_Fo_isLoca : hx_okV M_Fo_isLoca := ⟨⟨lw_g (lw_at lw_m4 139 rfl) rfl, lw_g (lw_at lw_m4 138 rfl) rfl, qs9, lw_g (lw_at lw_m1 3 rfl) rfl, rfl, by decide, by decide, by decide⟩, rfl, by decide, plainFor_of_name (by decide)⟩
noncomputable def f_Fo_isLoca (h : hH) : Option (Int32 × hH) :=
  bP (f_Fo_beginOf (1819239265 : Int64) h) fun a1 =>
  lz (wrI h 4 18 a1) fun h1 =>
  bP (f_Fo_beginOf (1735162214 : Int64) h1) fun a2 =>
  lz (wrI h1 4 19 a2) fun h2 =>
  bP (f_Fo_lengthOf (1819239265 : Int64) h2) fun a3 =>
  lz (A := Int32) (if (rdI h2 4 7) = 0 then (2 : Int32) else (4 : Int32)) fun p4 =>
  if (((rdI h2 4 8) + (1 : Int32)) * p4) ≤ a3 then (
    bE (P := Unit) (X := (Int32 × hH)) (
      wh (A := Int32) (B := (Unit ⊕ (Int32 × hH))) (fun p6 =>
          if (rdI h2 4 8) < p6 then (
            some (.inr (.inl ()))
          ) else (
            bP (f_Fo_locaOf p6 h2) fun a8 =>
            bP (f_Fo_locaOf (p6 - (1 : Int32)) h2) fun a9 =>
            if a9 ≤ a8 then (
              lz (A := Int32) (p6 + (1 : Int32)) fun v10 =>
              some (.inl v10)
            ) else (
              some (.inr (.inr ((0 : Int32), h2)))
            )
          )
      ) (1 : Int32)
    ) fun p7 =>
    bP (f_Fo_locaOf (rdI h2 4 8) h2) fun a13 =>
    bP (f_Fo_lengthOf (1735162214 : Int64) h2) fun a14 =>
    if (Int32.toInt64 a14) < a13 then (
      some ((0 : Int32), h2)
    ) else (
      some ((1 : Int32), h2)
    )
  ) else (
    some ((0 : Int32), h2)
  )
set_option maxRecDepth 20000 in
theorem k_Fo_isLoca (h : hH) : hx_kS S0 M_Fo_isLoca 5 NT [(.ref 4)] h (f_Fo_isLoca h) cvI := by
  have hm := m_Fo_isLoca
  show hx_P S0 M_Fo_isLoca 5 0 [(0, (.ref 4))] [] NT h (f_Fo_isLoca h) (hx_Rc cvI NT)
  unfold f_Fo_isLoca
  refine hp_cVP (M2 := M_Fo_beginOf) hm (at1 0 rfl) (as := [(.long (1819239265 : Int64))]) (rest := [(.ref 4)]) (z := 4) rfl (by exact trivial) (pc' := 5) rfl 0 rfl (lw_g (lw_at lw_m4 114 rfl) rfl) y_Fo_beginOf rfl (d2 := 2) ⟨le_b rfl, pd_Fo_beginOf, le_b rfl⟩ (le_b rfl) og_4 (k_Fo_beginOf (1819239265 : Int64) h) (fun a1 => ?_)
  refine hp_w hm (at1 1 rfl) (L' := [(0, (.ref 4))]) rfl (by exact og_4) (pc' := 11) rfl (fun h1 => ?_)
  refine hp_cVP (M2 := M_Fo_beginOf) hm (at1 2 rfl) (as := [(.long (1735162214 : Int64))]) (rest := [(.ref 4)]) (z := 4) rfl (by exact trivial) (pc' := 16) rfl 1 rfl (lw_g (lw_at lw_m4 114 rfl) rfl) y_Fo_beginOf rfl (d2 := 2) ⟨le_b rfl, pd_Fo_beginOf, le_b rfl⟩ (le_b rfl) og_4 (k_Fo_beginOf (1735162214 : Int64) h1) (fun a2 => ?_)
  refine hp_w hm (at1 3 rfl) (L' := [(0, (.ref 4))]) rfl (by exact og_4) (pc' := 22) rfl (fun h2 => ?_)
  refine hp_cVP (M2 := M_Fo_lengthOf) hm (at1 4 rfl) (as := [(.long (1819239265 : Int64))]) (rest := []) (z := 4) rfl (by exact trivial) (pc' := 26) rfl 2 rfl (lw_g (lw_at lw_m4 118 rfl) rfl) y_Fo_lengthOf rfl (d2 := 2) ⟨le_b rfl, pd_Fo_lengthOf, le_b rfl⟩ (le_b rfl) og_4 (k_Fo_lengthOf (1819239265 : Int64) h2) (fun a3 => ?_)
  refine hp_JZ 47 (fun (p4 : Int32) => [(0, (.ref 4))]) (fun (p4 : Int32) => [(.int p4), (.int ((rdI h2 4 8) + (1 : Int32))), (.int a3)]) (fun (p4 : Int32) => h2) ?_ (fun p4 => ?_)
  · refine hp_sv0 ?_
    refine hp_if_ne hm (at1 5 rfl) rfl (by exact ⟨og_4, og_4⟩) (pc' := 39) rfl 4 rfl (tgt := 46) rfl (fun c5 => ?_) (fun c5 => ?_)
    · refine hp_b hm (at1 6 rfl) (L' := [(0, (.ref 4))]) (st' := [(.int (4 : Int32)), (.int ((rdI h2 4 8) + (1 : Int32))), (.int a3)]) rfl (by exact trivial) (pc' := 47) rfl ?_
      exact hp_lf [0] rfl (fun _ e => e)
    · refine hp_b hm (at1 7 rfl) (L' := [(0, (.ref 4))]) (st' := [(.int (2 : Int32)), (.int ((rdI h2 4 8) + (1 : Int32))), (.int a3)]) rfl (by exact trivial) (pc' := 43) rfl ?_
      refine hp_goto hm 3 rfl (tgt := 47) rfl ?_
      exact hp_lf [0] rfl (fun _ e => e)
  · refine hp_ic_ge hm (at1 8 rfl) rfl (by exact trivial) (pc' := 48) rfl 17 rfl (tgt := 53) rfl (fun c16 => ?_) (fun c16 => ?_)
    · refine hp_b hm (at1 9 rfl) (L' := [(1, (.int (1 : Int32))), (0, (.ref 4))]) (st' := []) rfl (by exact trivial) (pc' := 55) rfl ?_
      refine hp_E 87 (fun (p7 : Unit) => [(0, (.ref 4))]) (fun (p7 : Unit) => []) (fun (p7 : Unit) => h2) ?_ (fun p7 => ?_)
      · refine hp_s [1, 0] rfl (L' := [(0, (.ref 4)), (1, (.int (1 : Int32)))]) ?_
        refine hp_wh (fun (p6 : Int32) => [(0, (.ref 4)), (1, (.int p6))]) [] (fun (p6 : Int32) => h2) (fun p6 => ?_) (1 : Int32)
        refine hp_ic_gt hm (at1 10 rfl) rfl (by exact og_4) (pc' := 60) rfl 10 rfl (tgt := 87) rfl (fun c12 => ?_) (fun c12 => ?_)
        · exact hp_lf [0] rfl (fun _ e => e)
        · refine hp_cVP (M2 := M_Fo_locaOf) hm (at1 11 rfl) (as := [(.int p6)]) (rest := []) (z := 4) rfl (by exact trivial) (pc' := 65) rfl 5 rfl (lw_g (lw_at lw_m4 140 rfl) rfl) y_Fo_locaOf rfl (d2 := 4) ⟨le_b rfl, pd_Fo_locaOf, le_b rfl⟩ (le_b rfl) og_4 (k_Fo_locaOf p6 h2) (fun a8 => ?_)
          refine hp_cVP (M2 := M_Fo_locaOf) hm (at1 12 rfl) (as := [(.int (p6 - (1 : Int32)))]) (rest := [(.long a8)]) (z := 4) rfl (by exact trivial) (pc' := 72) rfl 6 rfl (lw_g (lw_at lw_m4 140 rfl) rfl) y_Fo_locaOf rfl (d2 := 4) ⟨le_b rfl, pd_Fo_locaOf, le_b rfl⟩ (le_b rfl) og_4 (k_Fo_locaOf (p6 - (1 : Int32)) h2) (fun a9 => ?_)
          refine hp_lc_ge hm (at1 13 rfl) rfl (by exact trivial) (pc' := 76) rfl 9 rfl (tgt := 81) rfl (fun c11 => ?_) (fun c11 => ?_)
          · refine hp_z hm (at1 14 rfl) (fun (v10 : Int32) => [(1, (.int v10)), (0, (.ref 4))]) (fun (v10 : Int32) => []) rfl (by exact trivial) (pc' := 84) rfl (fun v10 => ?_)
            refine hp_goto hm 7 rfl (tgt := 55) rfl ?_
            exact hp_lf [1, 0] rfl (fun _ e => e)
          · exact hp_ir hm (at1 15 rfl) rfl (by exact trivial) (pc' := 80) rfl 8 rfl rfl rfl (fun _ e => e)
      · refine hp_cVP (M2 := M_Fo_locaOf) hm (at1 16 rfl) (as := [(.int (rdI h2 4 8))]) (rest := []) (z := 4) rfl (by exact og_4) (pc' := 92) rfl 11 rfl (lw_g (lw_at lw_m4 140 rfl) rfl) y_Fo_locaOf rfl (d2 := 4) ⟨le_b rfl, pd_Fo_locaOf, le_b rfl⟩ (le_b rfl) og_4 (k_Fo_locaOf (rdI h2 4 8) h2) (fun a13 => ?_)
        refine hp_cVP (M2 := M_Fo_lengthOf) hm (at1 17 rfl) (as := [(.long (1735162214 : Int64))]) (rest := [(.long a13)]) (z := 4) rfl (by exact trivial) (pc' := 99) rfl 12 rfl (lw_g (lw_at lw_m4 118 rfl) rfl) y_Fo_lengthOf rfl (d2 := 2) ⟨le_b rfl, pd_Fo_lengthOf, le_b rfl⟩ (le_b rfl) og_4 (k_Fo_lengthOf (1735162214 : Int64) h2) (fun a14 => ?_)
        refine hp_lc_gt hm (at1 18 rfl) rfl (by exact trivial) (pc' := 104) rfl 15 rfl (tgt := 111) rfl (fun c15 => ?_) (fun c15 => ?_)
        · refine hp_b hm (at1 19 rfl) (L' := [(0, (.ref 4))]) (st' := [(.int (0 : Int32))]) rfl (by exact trivial) (pc' := 112) rfl ?_
          exact hp_ir hm at0 rfl (by exact trivial) (pc' := 112) rfl 13 rfl rfl rfl (fun _ e => e)
        · refine hp_b hm (at1 20 rfl) (L' := [(0, (.ref 4))]) (st' := [(.int (1 : Int32))]) rfl (by exact trivial) (pc' := 108) rfl ?_
          refine hp_goto hm 14 rfl (tgt := 112) rfl ?_
          exact hp_ir hm at0 rfl (by exact trivial) (pc' := 112) rfl 13 rfl rfl rfl (fun _ e => e)
    · exact hp_ir hm (at1 21 rfl) rfl (by exact trivial) (pc' := 52) rfl 16 rfl rfl rfl (fun _ e => e)
/-! HintHouse$Bytes.s2(I)I -/
def M_By_s2 : hM := (1, ⟨"HintHouse$Bytes", "s2", "(I)I"⟩, prog_2_method_5_code, 2, (Option.some Jvm.ClassFile.FieldType.int), [], [(0, [(.aload_n 0, 1, 0, 0, 0, .null), (.iload_n 1, 1, 0, 0, 0, .null)]), (5, [(.i2s, 1, 0, 0, 0, .null)])], [(2, .invokevirtual 19, 3), (6, .ireturn, 1)])
set_option maxRecDepth 100000 in
theorem m_By_s2 : hx_mok M_By_s2 = true := by decide +kernel
theorem pd_By_s2 : (parseMethodDescriptor M_By_s2.2.1.desc).map (fun q => q.parameters.length) = some 1 := by decide +kernel
theorem y_By_s2 : hx_okV M_By_s2 := ⟨⟨lw_g (lw_at lw_m4 159 rfl) rfl, lw_g (lw_at lw_m4 157 rfl) rfl, lw_g (lw_at lw_m4 158 rfl) rfl, lw_g (lw_at lw_m1 2 rfl) rfl, rfl, by decide, by decide, by decide⟩, rfl, by decide, plainFor_of_name (by decide)⟩
noncomputable def f_By_s2 (z : Nat) (x1 : Int32) (h : hH) : Option Int32 :=
  bP (f_By_u2 z x1 h) fun a1 =>
  some (Int16.toInt32 (Int32.toInt16 a1))
set_option maxRecDepth 20000 in
theorem k_By_s2 (z : Nat) (x1 : Int32) (h : hH) (hz : isA 1 z) : hx_kP S0 M_By_s2 3 NT [(.ref z), (.int x1)] h (f_By_s2 z x1 h) cvI := by
  have hm := m_By_s2
  show hx_P S0 M_By_s2 3 0 [(0, (.ref z)), (1, (.int x1))] [] NT h (f_By_s2 z x1 h) (hx_Rp cvI NT h)
  unfold f_By_s2
  refine hp_cVP (M2 := M_By_u2) hm (at1 0 rfl) (as := [(.int x1)]) (rest := []) (z := z) rfl (by exact trivial) (pc' := 2) rfl 0 rfl (lw_g (lw_at lw_m4 66 rfl) rfl) y_By_u2 rfl (d2 := 2) ⟨le_b rfl, pd_By_u2, le_b rfl⟩ (le_b rfl) hz (k_By_u2 z x1 h hz) (fun a1 => ?_)
  exact hp_ir hm (at1 1 rfl) rfl (by exact trivial) (pc' := 6) rfl 1 rfl rfl (vp_nar_int _) (fun _ e => e)
/-! HintHouse$Glyph.has(I)Z -/
def M_Gl_has : hM := (3, ⟨"HintHouse$Glyph", "has", "(I)Z"⟩, prog_4_method_3_code, 2, (Option.some Jvm.ClassFile.FieldType.boolean), [], [(0, [(.aload_n 0, 1, 0, 0, 0, .null), (.getfield 47, 3, 3, 17, 0, .null), (.aload_n 0, 1, 0, 0, 0, .null), (.getfield 43, 3, 3, 16, 0, .null), (.isub, 1, 0, 0, 0, .null), (.iload_n 1, 1, 0, 0, 0, .null)]), (17, [(.iconst 0, 1, 0, 0, 0, (.int (0 : Int32)))]), (13, [(.iconst 1, 1, 0, 0, 0, (.int (1 : Int32)))])], [(18, .ireturn, 1), (14, .goto 4, 3), (10, .if_icmp .lt 7, 3)])
set_option maxRecDepth 100000 in
theorem m_Gl_has : hx_mok M_Gl_has = true := by decide +kernel
theorem pd_Gl_has : (parseMethodDescriptor M_Gl_has.2.1.desc).map (fun q => q.parameters.length) = some 1 := by decide +kernel
theorem y_Gl_has : hx_okV M_Gl_has := ⟨⟨lw_g (lw_at lw_m4 167 rfl) rfl, lw_g (lw_at lw_m4 166 rfl) rfl, qs13, lw_g (lw_at lw_m1 4 rfl) rfl, rfl, by decide, by decide, by decide⟩, rfl, by decide, plainFor_of_name (by decide)⟩
noncomputable def f_Gl_has (z : Nat) (x1 : Int32) (h : hH) : Option Int32 :=
  if ((rdI h z 17) - (rdI h z 16)) < x1 then (
    some (0 : Int32)
  ) else (
    some (1 : Int32)
  )
set_option maxRecDepth 20000 in
theorem k_Gl_has (z : Nat) (x1 : Int32) (h : hH) (hz : isA 3 z) : hx_kP S0 M_Gl_has 1 NT [(.ref z), (.int x1)] h (f_Gl_has z x1 h) cvI := by
  have hm := m_Gl_has
  show hx_P S0 M_Gl_has 1 0 [(0, (.ref z)), (1, (.int x1))] [] NT h (f_Gl_has z x1 h) (hx_Rp cvI NT h)
  unfold f_Gl_has
  refine hp_ic_lt hm (at1 0 rfl) rfl (by exact ⟨hz, hz⟩) (pc' := 10) rfl 2 rfl (tgt := 17) rfl (fun c1 => ?_) (fun c1 => ?_)
  · refine hp_b hm (at1 1 rfl) (L' := [(0, (.ref z)), (1, (.int x1))]) (st' := [(.int (0 : Int32))]) rfl (by exact trivial) (pc' := 18) rfl ?_
    exact hp_ir hm at0 rfl (by exact trivial) (pc' := 18) rfl 0 rfl rfl rfl (fun _ e => e)
  · refine hp_b hm (at1 2 rfl) (L' := [(0, (.ref z)), (1, (.int x1))]) (st' := [(.int (1 : Int32))]) rfl (by exact trivial) (pc' := 14) rfl ?_
    refine hp_goto hm 1 rfl (tgt := 18) rfl ?_
    exact hp_ir hm at0 rfl (by exact trivial) (pc' := 18) rfl 0 rfl rfl rfl (fun _ e => e)
/-! HintHouse$Bytes.s1(I)I -/
def M_By_s1 : hM := (1, ⟨"HintHouse$Bytes", "s1", "(I)I"⟩, prog_2_method_3_code, 2, (Option.some Jvm.ClassFile.FieldType.int), [], [(0, [(.aload_n 0, 1, 0, 0, 0, .null), (.getfield 9, 3, 1, 0, 4, .null), (.iload_n 1, 1, 0, 0, 0, .null), (.baload, 1, 102, 0, 0, .null)])], [(6, .ireturn, 1)])
set_option maxRecDepth 100000 in
theorem m_By_s1 : hx_mok M_By_s1 = true := by decide +kernel
theorem pd_By_s1 : (parseMethodDescriptor M_By_s1.2.1.desc).map (fun q => q.parameters.length) = some 1 := by decide +kernel
theorem y_By_s1 : hx_okV M_By_s1 := ⟨⟨lw_g (lw_at lw_m4 176 rfl) rfl, lw_g (lw_at lw_m4 174 rfl) rfl, lw_g (lw_at lw_m4 175 rfl) rfl, lw_g (lw_at lw_m1 2 rfl) rfl, rfl, by decide, by decide, by decide⟩, rfl, by decide, plainFor_of_name (by decide)⟩
noncomputable def f_By_s1 (z : Nat) (x1 : Int32) (h : hH) : Option Int32 :=
  gd (vp_in x1 12000) <|
  some (rdI h (rf z 0) (Int32.toNatClampNeg x1))
set_option maxRecDepth 20000 in
theorem k_By_s1 (z : Nat) (x1 : Int32) (h : hH) (hz : isA 1 z) : hx_kP S0 M_By_s1 1 NT [(.ref z), (.int x1)] h (f_By_s1 z x1 h) cvI := by
  have hm := m_By_s1
  show hx_P S0 M_By_s1 1 0 [(0, (.ref z)), (1, (.int x1))] [] NT h (f_By_s1 z x1 h) (hx_Rp cvI NT h)
  unfold f_By_s1
  refine hp_G hm (at1 0 rfl) (L' := [(0, (.ref z)), (1, (.int x1))]) (st' := [(.int (rdI h (rf z 0) (Int32.toNatClampNeg x1)))]) rfl (fun hP => (by exact ⟨hz, ⟨(rt_1_0 hz), (vp_cst (rl_1_0 hz) hP)⟩⟩)) (pc' := 6) rfl (fun q1 => ?_)
  exact hp_ir hm at0 rfl (by exact trivial) (pc' := 6) rfl 0 rfl rfl (vp_nar_int _) (fun _ e => e)
/-! HintHouse$Glyph.readNumbers(I)Z -/
def M_Gl_readNumbers : hM := (3, ⟨"HintHouse$Glyph", "readNumbers", "(I)Z"⟩, prog_4_method_9_code, 4, (Option.some Jvm.ClassFile.FieldType.boolean), [], [(0, [(.iload_n 1, 1, 0, 0, 0, .null), (.iconst 1, 1, 0, 0, 0, (.int (1 : Int32))), (.iand, 1, 0, 0, 0, .null)]), (10, [(.iconst 0, 1, 0, 0, 0, (.int (0 : Int32)))]), (6, [(.iconst 1, 1, 0, 0, 0, (.int (1 : Int32)))]), (11, [(.istore_n 2, 1, 0, 0, 0, .null), (.iload_n 1, 1, 0, 0, 0, .null), (.iconst 2, 1, 0, 0, 0, (.int (2 : Int32))), (.iand, 1, 0, 0, 0, .null)]), (22, [(.iconst 0, 1, 0, 0, 0, (.int (0 : Int32)))]), (18, [(.iconst 1, 1, 0, 0, 0, (.int (1 : Int32)))]), (23, [(.istore_n 3, 1, 0, 0, 0, .null), (.aload_n 0, 1, 0, 0, 0, .null), (.iload_n 2, 1, 0, 0, 0, .null)]), (33, [(.iconst 2, 1, 0, 0, 0, (.int (2 : Int32)))]), (29, [(.iconst 4, 1, 0, 0, 0, (.int (4 : Int32)))]), (42, [(.aload_n 0, 1, 0, 0, 0, .null), (.getfield 30, 3, 3, 12, 4, .null), (.aload_n 0, 1, 0, 0, 0, .null), (.getfield 62, 3, 3, 9, 0, .null), (.iload_n 2, 1, 0, 0, 0, .null)]), (86, [(.iload_n 3, 1, 0, 0, 0, .null)]), (104, [(.aload_n 0, 1, 0, 0, 0, .null), (.getfield 39, 3, 3, 15, 3, .null), (.aload_n 0, 1, 0, 0, 0, .null), (.getfield 43, 3, 3, 16, 0, .null)]), (90, [(.aload_n 0, 1, 0, 0, 0, .null), (.getfield 39, 3, 3, 15, 3, .null), (.aload_n 0, 1, 0, 0, 0, .null), (.getfield 43, 3, 3, 16, 0, .null)]), (54, [(.iload_n 3, 1, 0, 0, 0, .null)]), (72, [(.aload_n 0, 1, 0, 0, 0, .null), (.getfield 39, 3, 3, 15, 3, .null), (.aload_n 0, 1, 0, 0, 0, .null), (.getfield 43, 3, 3, 16, 0, .null)]), (58, [(.aload_n 0, 1, 0, 0, 0, .null), (.getfield 39, 3, 3, 15, 3, .null), (.aload_n 0, 1, 0, 0, 0, .null), (.getfield 43, 3, 3, 16, 0, .null)]), (115, [(.iastore, 1, 0, 0, 0, .null)]), (116, [(.aload_n 0, 1, 0, 0, 0, .null), (.dup, 1, 0, 0, 0, .null), (.getfield 43, 3, 3, 16, 0, .null), (.iload_n 2, 1, 0, 0, 0, .null)]), (129, [(.iconst 1, 1, 0, 0, 0, (.int (1 : Int32)))]), (125, [(.iconst 2, 1, 0, 0, 0, (.int (2 : Int32)))]), (130, [(.iadd, 1, 0, 0, 0, .null), (.putfield 43, 3, 3, 16, 0, .null)]), (134, [(.aload_n 0, 1, 0, 0, 0, .null), (.getfield 33, 3, 3, 13, 4, .null), (.aload_n 0, 1, 0, 0, 0, .null), (.getfield 62, 3, 3, 9, 0, .null), (.iload_n 2, 1, 0, 0, 0, .null)]), (178, [(.iload_n 3, 1, 0, 0, 0, .null)]), (196, [(.aload_n 0, 1, 0, 0, 0, .null), (.getfield 39, 3, 3, 15, 3, .null), (.aload_n 0, 1, 0, 0, 0, .null), (.getfield 43, 3, 3, 16, 0, .null)]), (182, [(.aload_n 0, 1, 0, 0, 0, .null), (.getfield 39, 3, 3, 15, 3, .null), (.aload_n 0, 1, 0, 0, 0, .null), (.getfield 43, 3, 3, 16, 0, .null)]), (146, [(.iload_n 3, 1, 0, 0, 0, .null)]), (164, [(.aload_n 0, 1, 0, 0, 0, .null), (.getfield 39, 3, 3, 15, 3, .null), (.aload_n 0, 1, 0, 0, 0, .null), (.getfield 43, 3, 3, 16, 0, .null)]), (150, [(.aload_n 0, 1, 0, 0, 0, .null), (.getfield 39, 3, 3, 15, 3, .null), (.aload_n 0, 1, 0, 0, 0, .null), (.getfield 43, 3, 3, 16, 0, .null)]), (207, [(.iastore, 1, 0, 0, 0, .null)]), (208, [(.aload_n 0, 1, 0, 0, 0, .null), (.dup, 1, 0, 0, 0, .null), (.getfield 43, 3, 3, 16, 0, .null), (.iload_n 2, 1, 0, 0, 0, .null)]), (221, [(.iconst 1, 1, 0, 0, 0, (.int (1 : Int32)))]), (217, [(.iconst 2, 1, 0, 0, 0, (.int (2 : Int32)))]), (222, [(.iadd, 1, 0, 0, 0, .null), (.putfield 43, 3, 3, 16, 0, .null)]), (226, [(.iconst 1, 1, 0, 0, 0, (.int (1 : Int32)))]), (40, [(.iconst 0, 1, 0, 0, 0, (.int (0 : Int32)))])], [(7, .goto 4, 3), (3, .ifCond .eq 7, 3), (19, .goto 4, 3), (15, .ifCond .eq 7, 3), (30, .goto 4, 3), (26, .ifCond .eq 7, 3), (34, .invokevirtual 95, 3), (112, .invokevirtual 104, 3), (98, .invokevirtual 113, 3), (101, .goto 14, 3), (87, .ifCond .eq 17, 3), (80, .invokevirtual 98, 3), (83, .goto 32, 3), (66, .invokevirtual 65, 3), (69, .goto 46, 3), (55, .ifCond .eq 17, 3), (51, .ifCond .eq 35, 3), (126, .goto 4, 3), (122, .ifCond .eq 7, 3), (204, .invokevirtual 104, 3), (190, .invokevirtual 113, 3), (193, .goto 14, 3), (179, .ifCond .eq 17, 3), (172, .invokevirtual 98, 3), (175, .goto 32, 3), (158, .invokevirtual 65, 3), (161, .goto 46, 3), (147, .ifCond .eq 17, 3), (143, .ifCond .eq 35, 3), (218, .goto 4, 3), (214, .ifCond .eq 7, 3), (227, .ireturn, 1), (41, .ireturn, 1), (37, .ifCond .ne 5, 3)])
set_option maxRecDepth 100000 in
theorem m_Gl_readNumbers : hx_mok M_Gl_readNumbers = true := by decide +kernel
theorem pd_Gl_readNumbers : (parseMethodDescriptor M_Gl_readNumbers.2.1.desc).map (fun q => q.parameters.length) = some 1 := by decide +kernel
theorem y_Gl_readNumbers : hx_okV M_Gl_readNumbers := ⟨⟨lw_g (lw_at lw_m4 172 rfl) rfl, lw_g (lw_at lw_m4 171 rfl) rfl, qs14, lw_g (lw_at lw_m1 4 rfl) rfl, rfl, by decide, by decide, by decide⟩, rfl, by decide, plainFor_of_name (by decide)⟩
noncomputable def f_Gl_readNumbers (z : Nat) (x1 : Int32) (h : hH) : Option (Int32 × hH) :=
  lz (A := Int32) (if (x1 &&& (1 : Int32)) = 0 then (0 : Int32) else (1 : Int32)) fun p1 =>
  lz (A := Int32) (if (x1 &&& (2 : Int32)) = 0 then (0 : Int32) else (1 : Int32)) fun p3 =>
  lz (A := Int32) (if p1 = 0 then (2 : Int32) else (4 : Int32)) fun p5 =>
  bP (f_Gl_has z p5 h) fun a7 =>
  if a7 = 0 then (
    some ((0 : Int32), h)
  ) else (
    bP (A := Int32) (
      if p1 = 0 then (
        if p3 = 0 then (
          gd (isA 1 (rdP h z 15)) <|
          bP (f_By_u1 (rdP h z 15) (rdI h z 16) h) fun a10 =>
          some a10
        ) else (
          gd (isA 1 (rdP h z 15)) <|
          bP (f_By_s1 (rdP h z 15) (rdI h z 16) h) fun a12 =>
          some a12
        )
      ) else (
        if p3 = 0 then (
          gd (isA 1 (rdP h z 15)) <|
          bP (f_By_u2 (rdP h z 15) (rdI h z 16) h) fun a15 =>
          some a15
        ) else (
          gd (isA 1 (rdP h z 15)) <|
          bP (f_By_s2 (rdP h z 15) (rdI h z 16) h) fun a17 =>
          some a17
        )
      )
    ) fun p8 =>
    gd (vp_in (rdI h z 9) 8) <|
    lz (wrI h (rf z 12) (Int32.toNatClampNeg (rdI h z 9)) p8) fun h1 =>
    lz (A := Int32) (if p1 = 0 then (1 : Int32) else (2 : Int32)) fun p21 =>
    lz (wrI h1 z 16 ((rdI h1 z 16) + p21)) fun h2 =>
    bP (A := Int32) (
      if p1 = 0 then (
        if p3 = 0 then (
          gd (isA 1 (rdP h2 z 15)) <|
          bP (f_By_u1 (rdP h2 z 15) (rdI h2 z 16) h2) fun a25 =>
          some a25
        ) else (
          gd (isA 1 (rdP h2 z 15)) <|
          bP (f_By_s1 (rdP h2 z 15) (rdI h2 z 16) h2) fun a27 =>
          some a27
        )
      ) else (
        if p3 = 0 then (
          gd (isA 1 (rdP h2 z 15)) <|
          bP (f_By_u2 (rdP h2 z 15) (rdI h2 z 16) h2) fun a30 =>
          some a30
        ) else (
          gd (isA 1 (rdP h2 z 15)) <|
          bP (f_By_s2 (rdP h2 z 15) (rdI h2 z 16) h2) fun a32 =>
          some a32
        )
      )
    ) fun p23 =>
    gd (vp_in (rdI h2 z 9) 8) <|
    lz (wrI h2 (rf z 13) (Int32.toNatClampNeg (rdI h2 z 9)) p23) fun h3 =>
    lz (A := Int32) (if p1 = 0 then (1 : Int32) else (2 : Int32)) fun p36 =>
    lz (wrI h3 z 16 ((rdI h3 z 16) + p36)) fun h4 =>
    some ((1 : Int32), h4)
  )
set_option maxRecDepth 20000 in
theorem k_Gl_readNumbers (z : Nat) (x1 : Int32) (h : hH) (hz : isA 3 z) : hx_kS S0 M_Gl_readNumbers 4 NT [(.ref z), (.int x1)] h (f_Gl_readNumbers z x1 h) cvI := by
  have hm := m_Gl_readNumbers
  show hx_P S0 M_Gl_readNumbers 4 0 [(0, (.ref z)), (1, (.int x1))] [] NT h (f_Gl_readNumbers z x1 h) (hx_Rc cvI NT)
  unfold f_Gl_readNumbers
  refine hp_JZ 11 (fun (p1 : Int32) => [(0, (.ref z)), (1, (.int x1))]) (fun (p1 : Int32) => [(.int p1)]) (fun (p1 : Int32) => h) ?_ (fun p1 => ?_)
  · refine hp_sv0 ?_
    refine hp_if_eq hm (at1 0 rfl) rfl (by exact trivial) (pc' := 3) rfl 1 rfl (tgt := 10) rfl (fun c2 => ?_) (fun c2 => ?_)
    · refine hp_b hm (at1 1 rfl) (L' := [(0, (.ref z)), (1, (.int x1))]) (st' := [(.int (0 : Int32))]) rfl (by exact trivial) (pc' := 11) rfl ?_
      exact hp_lf [0, 1] rfl (fun _ e => e)
    · refine hp_b hm (at1 2 rfl) (L' := [(0, (.ref z)), (1, (.int x1))]) (st' := [(.int (1 : Int32))]) rfl (by exact trivial) (pc' := 7) rfl ?_
      refine hp_goto hm 0 rfl (tgt := 11) rfl ?_
      exact hp_lf [0, 1] rfl (fun _ e => e)
  · refine hp_b hm (at1 3 rfl) (L' := [(2, (.int p1)), (0, (.ref z)), (1, (.int x1))]) (st' := [(.int (x1 &&& (2 : Int32)))]) rfl (by exact trivial) (pc' := 15) rfl ?_
    refine hp_JZ 23 (fun (p3 : Int32) => [(0, (.ref z)), (2, (.int p1))]) (fun (p3 : Int32) => [(.int p3)]) (fun (p3 : Int32) => h) ?_ (fun p3 => ?_)
    · refine hp_sv0 ?_
      refine hp_if_eq hm at0 rfl (by exact trivial) (pc' := 15) rfl 3 rfl (tgt := 22) rfl (fun c4 => ?_) (fun c4 => ?_)
      · refine hp_b hm (at1 4 rfl) (L' := [(2, (.int p1)), (0, (.ref z)), (1, (.int x1))]) (st' := [(.int (0 : Int32))]) rfl (by exact trivial) (pc' := 23) rfl ?_
        exact hp_lf [1, 0] rfl (fun _ e => e)
      · refine hp_b hm (at1 5 rfl) (L' := [(2, (.int p1)), (0, (.ref z)), (1, (.int x1))]) (st' := [(.int (1 : Int32))]) rfl (by exact trivial) (pc' := 19) rfl ?_
        refine hp_goto hm 2 rfl (tgt := 23) rfl ?_
        exact hp_lf [1, 0] rfl (fun _ e => e)
    · refine hp_b hm (at1 6 rfl) (L' := [(3, (.int p3)), (0, (.ref z)), (2, (.int p1))]) (st' := [(.int p1), (.ref z)]) rfl (by exact trivial) (pc' := 26) rfl ?_
      refine hp_JZ 34 (fun (p5 : Int32) => [(0, (.ref z)), (2, (.int p1)), (3, (.int p3))]) (fun (p5 : Int32) => [(.int p5), (.ref z)]) (fun (p5 : Int32) => h) ?_ (fun p5 => ?_)
      · refine hp_sv0 ?_
        refine hp_if_eq hm at0 rfl (by exact trivial) (pc' := 26) rfl 5 rfl (tgt := 33) rfl (fun c6 => ?_) (fun c6 => ?_)
        · refine hp_b hm (at1 7 rfl) (L' := [(3, (.int p3)), (0, (.ref z)), (2, (.int p1))]) (st' := [(.int (2 : Int32)), (.ref z)]) rfl (by exact trivial) (pc' := 34) rfl ?_
          exact hp_lf [1, 2, 0] rfl (fun _ e => e)
        · refine hp_b hm (at1 8 rfl) (L' := [(3, (.int p3)), (0, (.ref z)), (2, (.int p1))]) (st' := [(.int (4 : Int32)), (.ref z)]) rfl (by exact trivial) (pc' := 30) rfl ?_
          refine hp_goto hm 4 rfl (tgt := 34) rfl ?_
          exact hp_lf [1, 2, 0] rfl (fun _ e => e)
      · refine hp_cVP (M2 := M_Gl_has) hm at0 (as := [(.int p5)]) (rest := []) (z := z) rfl (by exact trivial) (pc' := 34) rfl 6 rfl (lw_g (lw_at lw_m4 164 rfl) rfl) y_Gl_has rfl (d2 := 1) ⟨le_b rfl, pd_Gl_has, le_b rfl⟩ (le_b rfl) hz (k_Gl_has z p5 h hz) (fun a7 => ?_)
        refine hp_if_ne hm at0 rfl (by exact trivial) (pc' := 37) rfl 33 rfl (tgt := 42) rfl (fun c38 => ?_) (fun c38 => ?_)
        · refine hp_J 115 (fun (p8 : Int32) => [(0, (.ref z)), (2, (.int p1)), (3, (.int p3))]) (fun (p8 : Int32) => [(.int p8), (.int (rdI h z 9)), (.ref (rf z 12))]) (fun (p8 : Int32) => h) ?_ (fun p8 => ?_)
          · refine hp_if_eq hm (at1 9 rfl) rfl (by exact ⟨hz, hz⟩) (pc' := 51) rfl 16 rfl (tgt := 86) rfl (fun c19 => ?_) (fun c19 => ?_)
            · refine hp_if_eq hm (at1 10 rfl) rfl (by exact trivial) (pc' := 87) rfl 10 rfl (tgt := 104) rfl (fun c13 => ?_) (fun c13 => ?_)
              · refine hp_G0 (fun q9 => ?_)
                refine hp_b hm (at1 11 rfl) (L' := [(0, (.ref z)), (2, (.int p1)), (3, (.int p3))]) (st' := [(.int (rdI h z 16)), (.ref (rdP h z 15)), (.int (rdI h z 9)), (.ref (rf z 12))]) rfl (by exact ⟨hz, hz⟩) (pc' := 112) rfl ?_
                refine hp_cVP (M2 := M_By_u1) hm at0 (as := [(.int (rdI h z 16))]) (rest := [(.int (rdI h z 9)), (.ref (rf z 12))]) (z := (rdP h z 15)) rfl (by exact trivial) (pc' := 112) rfl 7 rfl (lw_g (lw_at lw_m4 177 rfl) rfl) y_By_u1 rfl (d2 := 1) ⟨le_b rfl, pd_By_u1, le_b rfl⟩ (le_b rfl) q9 (k_By_u1 (rdP h z 15) (rdI h z 16) h q9) (fun a10 => ?_)
                exact hp_lf [0, 1, 2] rfl (fun _ e => e)
              · refine hp_G0 (fun q11 => ?_)
                refine hp_b hm (at1 12 rfl) (L' := [(0, (.ref z)), (2, (.int p1)), (3, (.int p3))]) (st' := [(.int (rdI h z 16)), (.ref (rdP h z 15)), (.int (rdI h z 9)), (.ref (rf z 12))]) rfl (by exact ⟨hz, hz⟩) (pc' := 98) rfl ?_
                refine hp_cVP (M2 := M_By_s1) hm at0 (as := [(.int (rdI h z 16))]) (rest := [(.int (rdI h z 9)), (.ref (rf z 12))]) (z := (rdP h z 15)) rfl (by exact trivial) (pc' := 98) rfl 8 rfl (lw_g (lw_at lw_m4 173 rfl) rfl) y_By_s1 rfl (d2 := 1) ⟨le_b rfl, pd_By_s1, le_b rfl⟩ (le_b rfl) q11 (k_By_s1 (rdP h z 15) (rdI h z 16) h q11) (fun a12 => ?_)
                refine hp_goto hm 9 rfl (tgt := 115) rfl ?_
                exact hp_lf [0, 1, 2] rfl (fun _ e => e)
            · refine hp_if_eq hm (at1 13 rfl) rfl (by exact trivial) (pc' := 55) rfl 15 rfl (tgt := 72) rfl (fun c18 => ?_) (fun c18 => ?_)
              · refine hp_G0 (fun q14 => ?_)
                refine hp_b hm (at1 14 rfl) (L' := [(0, (.ref z)), (2, (.int p1)), (3, (.int p3))]) (st' := [(.int (rdI h z 16)), (.ref (rdP h z 15)), (.int (rdI h z 9)), (.ref (rf z 12))]) rfl (by exact ⟨hz, hz⟩) (pc' := 80) rfl ?_
                refine hp_cVP (M2 := M_By_u2) hm at0 (as := [(.int (rdI h z 16))]) (rest := [(.int (rdI h z 9)), (.ref (rf z 12))]) (z := (rdP h z 15)) rfl (by exact trivial) (pc' := 80) rfl 11 rfl (lw_g (lw_at lw_m4 168 rfl) rfl) y_By_u2 rfl (d2 := 2) ⟨le_b rfl, pd_By_u2, le_b rfl⟩ (le_b rfl) q14 (k_By_u2 (rdP h z 15) (rdI h z 16) h q14) (fun a15 => ?_)
                refine hp_goto hm 12 rfl (tgt := 115) rfl ?_
                exact hp_lf [0, 1, 2] rfl (fun _ e => e)
              · refine hp_G0 (fun q16 => ?_)
                refine hp_b hm (at1 15 rfl) (L' := [(0, (.ref z)), (2, (.int p1)), (3, (.int p3))]) (st' := [(.int (rdI h z 16)), (.ref (rdP h z 15)), (.int (rdI h z 9)), (.ref (rf z 12))]) rfl (by exact ⟨hz, hz⟩) (pc' := 66) rfl ?_
                refine hp_cVP (M2 := M_By_s2) hm at0 (as := [(.int (rdI h z 16))]) (rest := [(.int (rdI h z 9)), (.ref (rf z 12))]) (z := (rdP h z 15)) rfl (by exact trivial) (pc' := 66) rfl 13 rfl (lw_g (lw_at lw_m4 156 rfl) rfl) y_By_s2 rfl (d2 := 3) ⟨le_b rfl, pd_By_s2, le_b rfl⟩ (le_b rfl) q16 (k_By_s2 (rdP h z 15) (rdI h z 16) h q16) (fun a17 => ?_)
                refine hp_goto hm 14 rfl (tgt := 115) rfl ?_
                exact hp_lf [0, 1, 2] rfl (fun _ e => e)
          · refine hp_GW hm (at1 16 rfl) (L' := [(0, (.ref z)), (2, (.int p1)), (3, (.int p3))]) rfl (fun hP => (by exact ⟨(rt_3_12 hz), (vp_cst (rl_3_12 hz) hP)⟩)) (pc' := 116) rfl (fun q20 h1 => ?_)
            refine hp_JZ 130 (fun (p21 : Int32) => [(0, (.ref z)), (2, (.int p1)), (3, (.int p3))]) (fun (p21 : Int32) => [(.int p21), (.int (rdI h1 z 16)), (.ref z)]) (fun (p21 : Int32) => h1) ?_ (fun p21 => ?_)
            · refine hp_sv0 ?_
              refine hp_if_eq hm (at1 17 rfl) rfl (by exact hz) (pc' := 122) rfl 18 rfl (tgt := 129) rfl (fun c22 => ?_) (fun c22 => ?_)
              · refine hp_b hm (at1 18 rfl) (L' := [(0, (.ref z)), (2, (.int p1)), (3, (.int p3))]) (st' := [(.int (1 : Int32)), (.int (rdI h1 z 16)), (.ref z)]) rfl (by exact trivial) (pc' := 130) rfl ?_
                exact hp_lf [0, 1, 2] rfl (fun _ e => e)
              · refine hp_b hm (at1 19 rfl) (L' := [(0, (.ref z)), (2, (.int p1)), (3, (.int p3))]) (st' := [(.int (2 : Int32)), (.int (rdI h1 z 16)), (.ref z)]) rfl (by exact trivial) (pc' := 126) rfl ?_
                refine hp_goto hm 17 rfl (tgt := 130) rfl ?_
                exact hp_lf [0, 1, 2] rfl (fun _ e => e)
            · refine hp_w hm (at1 20 rfl) (L' := [(0, (.ref z)), (2, (.int p1)), (3, (.int p3))]) rfl (by exact hz) (pc' := 134) rfl (fun h2 => ?_)
              refine hp_J 207 (fun (p23 : Int32) => [(0, (.ref z)), (2, (.int p1))]) (fun (p23 : Int32) => [(.int p23), (.int (rdI h2 z 9)), (.ref (rf z 13))]) (fun (p23 : Int32) => h2) ?_ (fun p23 => ?_)
              · refine hp_if_eq hm (at1 21 rfl) rfl (by exact ⟨hz, hz⟩) (pc' := 143) rfl 28 rfl (tgt := 178) rfl (fun c34 => ?_) (fun c34 => ?_)
                · refine hp_if_eq hm (at1 22 rfl) rfl (by exact trivial) (pc' := 179) rfl 22 rfl (tgt := 196) rfl (fun c28 => ?_) (fun c28 => ?_)
                  · refine hp_G0 (fun q24 => ?_)
                    refine hp_b hm (at1 23 rfl) (L' := [(0, (.ref z)), (2, (.int p1)), (3, (.int p3))]) (st' := [(.int (rdI h2 z 16)), (.ref (rdP h2 z 15)), (.int (rdI h2 z 9)), (.ref (rf z 13))]) rfl (by exact ⟨hz, hz⟩) (pc' := 204) rfl ?_
                    refine hp_cVP (M2 := M_By_u1) hm at0 (as := [(.int (rdI h2 z 16))]) (rest := [(.int (rdI h2 z 9)), (.ref (rf z 13))]) (z := (rdP h2 z 15)) rfl (by exact trivial) (pc' := 204) rfl 19 rfl (lw_g (lw_at lw_m4 177 rfl) rfl) y_By_u1 rfl (d2 := 1) ⟨le_b rfl, pd_By_u1, le_b rfl⟩ (le_b rfl) q24 (k_By_u1 (rdP h2 z 15) (rdI h2 z 16) h2 q24) (fun a25 => ?_)
                    exact hp_lf [0, 1] rfl (fun _ e => e)
                  · refine hp_G0 (fun q26 => ?_)
                    refine hp_b hm (at1 24 rfl) (L' := [(0, (.ref z)), (2, (.int p1)), (3, (.int p3))]) (st' := [(.int (rdI h2 z 16)), (.ref (rdP h2 z 15)), (.int (rdI h2 z 9)), (.ref (rf z 13))]) rfl (by exact ⟨hz, hz⟩) (pc' := 190) rfl ?_
                    refine hp_cVP (M2 := M_By_s1) hm at0 (as := [(.int (rdI h2 z 16))]) (rest := [(.int (rdI h2 z 9)), (.ref (rf z 13))]) (z := (rdP h2 z 15)) rfl (by exact trivial) (pc' := 190) rfl 20 rfl (lw_g (lw_at lw_m4 173 rfl) rfl) y_By_s1 rfl (d2 := 1) ⟨le_b rfl, pd_By_s1, le_b rfl⟩ (le_b rfl) q26 (k_By_s1 (rdP h2 z 15) (rdI h2 z 16) h2 q26) (fun a27 => ?_)
                    refine hp_goto hm 21 rfl (tgt := 207) rfl ?_
                    exact hp_lf [0, 1] rfl (fun _ e => e)
                · refine hp_if_eq hm (at1 25 rfl) rfl (by exact trivial) (pc' := 147) rfl 27 rfl (tgt := 164) rfl (fun c33 => ?_) (fun c33 => ?_)
                  · refine hp_G0 (fun q29 => ?_)
                    refine hp_b hm (at1 26 rfl) (L' := [(0, (.ref z)), (2, (.int p1)), (3, (.int p3))]) (st' := [(.int (rdI h2 z 16)), (.ref (rdP h2 z 15)), (.int (rdI h2 z 9)), (.ref (rf z 13))]) rfl (by exact ⟨hz, hz⟩) (pc' := 172) rfl ?_
                    refine hp_cVP (M2 := M_By_u2) hm at0 (as := [(.int (rdI h2 z 16))]) (rest := [(.int (rdI h2 z 9)), (.ref (rf z 13))]) (z := (rdP h2 z 15)) rfl (by exact trivial) (pc' := 172) rfl 23 rfl (lw_g (lw_at lw_m4 168 rfl) rfl) y_By_u2 rfl (d2 := 2) ⟨le_b rfl, pd_By_u2, le_b rfl⟩ (le_b rfl) q29 (k_By_u2 (rdP h2 z 15) (rdI h2 z 16) h2 q29) (fun a30 => ?_)
                    refine hp_goto hm 24 rfl (tgt := 207) rfl ?_
                    exact hp_lf [0, 1] rfl (fun _ e => e)
                  · refine hp_G0 (fun q31 => ?_)
                    refine hp_b hm (at1 27 rfl) (L' := [(0, (.ref z)), (2, (.int p1)), (3, (.int p3))]) (st' := [(.int (rdI h2 z 16)), (.ref (rdP h2 z 15)), (.int (rdI h2 z 9)), (.ref (rf z 13))]) rfl (by exact ⟨hz, hz⟩) (pc' := 158) rfl ?_
                    refine hp_cVP (M2 := M_By_s2) hm at0 (as := [(.int (rdI h2 z 16))]) (rest := [(.int (rdI h2 z 9)), (.ref (rf z 13))]) (z := (rdP h2 z 15)) rfl (by exact trivial) (pc' := 158) rfl 25 rfl (lw_g (lw_at lw_m4 156 rfl) rfl) y_By_s2 rfl (d2 := 3) ⟨le_b rfl, pd_By_s2, le_b rfl⟩ (le_b rfl) q31 (k_By_s2 (rdP h2 z 15) (rdI h2 z 16) h2 q31) (fun a32 => ?_)
                    refine hp_goto hm 26 rfl (tgt := 207) rfl ?_
                    exact hp_lf [0, 1] rfl (fun _ e => e)
              · refine hp_GW hm (at1 28 rfl) (L' := [(0, (.ref z)), (2, (.int p1))]) rfl (fun hP => (by exact ⟨(rt_3_13 hz), (vp_cst (rl_3_13 hz) hP)⟩)) (pc' := 208) rfl (fun q35 h3 => ?_)
                refine hp_JZ 222 (fun (p36 : Int32) => []) (fun (p36 : Int32) => [(.int p36), (.int (rdI h3 z 16)), (.ref z)]) (fun (p36 : Int32) => h3) ?_ (fun p36 => ?_)
                · refine hp_sv0 ?_
                  refine hp_if_eq hm (at1 29 rfl) rfl (by exact hz) (pc' := 214) rfl 30 rfl (tgt := 221) rfl (fun c37 => ?_) (fun c37 => ?_)
                  · refine hp_b hm (at1 30 rfl) (L' := [(0, (.ref z)), (2, (.int p1))]) (st' := [(.int (1 : Int32)), (.int (rdI h3 z 16)), (.ref z)]) rfl (by exact trivial) (pc' := 222) rfl ?_
                    exact hp_lf [] rfl (fun _ e => e)
                  · refine hp_b hm (at1 31 rfl) (L' := [(0, (.ref z)), (2, (.int p1))]) (st' := [(.int (2 : Int32)), (.int (rdI h3 z 16)), (.ref z)]) rfl (by exact trivial) (pc' := 218) rfl ?_
                    refine hp_goto hm 29 rfl (tgt := 222) rfl ?_
                    exact hp_lf [] rfl (fun _ e => e)
                · refine hp_w hm (at1 32 rfl) (L' := []) rfl (by exact hz) (pc' := 226) rfl (fun h4 => ?_)
                  exact hp_ir hm (at1 33 rfl) rfl (by exact trivial) (pc' := 227) rfl 31 rfl rfl rfl (fun _ e => e)
        · exact hp_ir hm (at1 34 rfl) rfl (by exact trivial) (pc' := 41) rfl 32 rfl rfl rfl (fun _ e => e)
/-! HintHouse$Glyph.readMatrix(I)Z -/
def M_Gl_readMatrix : hM := (3, ⟨"HintHouse$Glyph", "readMatrix", "(I)Z"⟩, prog_4_method_10_code, 5, (Option.some Jvm.ClassFile.FieldType.boolean), [], [(0, [(.iload_n 1, 1, 0, 0, 0, .null), (.bipush 8, 2, 0, 0, 0, (.int (8 : Int32))), (.iand, 1, 0, 0, 0, .null)]), (11, [(.iload_n 1, 1, 0, 0, 0, .null), (.bipush 64, 2, 0, 0, 0, (.int (64 : Int32))), (.iand, 1, 0, 0, 0, .null)]), (22, [(.iload_n 1, 1, 0, 0, 0, .null), (.sipush 128, 3, 0, 0, 0, (.int (128 : Int32))), (.iand, 1, 0, 0, 0, .null)]), (34, [(.iconst 0, 1, 0, 0, 0, (.int (0 : Int32)))]), (30, [(.iconst 4, 1, 0, 0, 0, (.int (4 : Int32)))]), (18, [(.iconst 2, 1, 0, 0, 0, (.int (2 : Int32)))]), (7, [(.iconst 1, 1, 0, 0, 0, (.int (1 : Int32)))]), (35, [(.istore_n 2, 1, 0, 0, 0, .null), (.iconst 4, 1, 0, 0, 0, (.int (4 : Int32))), (.aload_n 0, 1, 0, 0, 0, .null), (.getfield 62, 3, 3, 9, 0, .null), (.imul, 1, 0, 0, 0, .null), (.istore_n 3, 1, 0, 0, 0, .null)]), (43, [(.aload_n 0, 1, 0, 0, 0, .null), (.getfield 36, 3, 3, 14, 4, .null), (.iload_n 3, 1, 0, 0, 0, .null), (.sipush 16384, 3, 0, 0, 0, (.int (16384 : Int32))), (.iastore, 1, 0, 0, 0, .null)]), (52, [(.aload_n 0, 1, 0, 0, 0, .null), (.getfield 36, 3, 3, 14, 4, .null), (.iload_n 3, 1, 0, 0, 0, .null), (.iconst 1, 1, 0, 0, 0, (.int (1 : Int32))), (.iadd, 1, 0, 0, 0, .null), (.iconst 0, 1, 0, 0, 0, (.int (0 : Int32))), (.iastore, 1, 0, 0, 0, .null)]), (61, [(.aload_n 0, 1, 0, 0, 0, .null), (.getfield 36, 3, 3, 14, 4, .null), (.iload_n 3, 1, 0, 0, 0, .null), (.iconst 2, 1, 0, 0, 0, (.int (2 : Int32))), (.iadd, 1, 0, 0, 0, .null), (.iconst 0, 1, 0, 0, 0, (.int (0 : Int32))), (.iastore, 1, 0, 0, 0, .null)]), (70, [(.aload_n 0, 1, 0, 0, 0, .null), (.getfield 36, 3, 3, 14, 4, .null), (.iload_n 3, 1, 0, 0, 0, .null), (.iconst 3, 1, 0, 0, 0, (.int (3 : Int32))), (.iadd, 1, 0, 0, 0, .null), (.sipush 16384, 3, 0, 0, 0, (.int (16384 : Int32))), (.iastore, 1, 0, 0, 0, .null)]), (81, [(.aload_n 0, 1, 0, 0, 0, .null), (.iconst 2, 1, 0, 0, 0, (.int (2 : Int32))), (.iload_n 2, 1, 0, 0, 0, .null), (.imul, 1, 0, 0, 0, .null)]), (93, [(.iload_n 2, 1, 0, 0, 0, .null), (.iconst 4, 1, 0, 0, 0, (.int (4 : Int32)))]), (141, [(.iload_n 2, 1, 0, 0, 0, .null)]), (145, [(.aload_n 0, 1, 0, 0, 0, .null), (.getfield 36, 3, 3, 14, 4, .null), (.iload_n 3, 1, 0, 0, 0, .null), (.aload_n 0, 1, 0, 0, 0, .null), (.getfield 39, 3, 3, 15, 3, .null), (.aload_n 0, 1, 0, 0, 0, .null), (.getfield 43, 3, 3, 16, 0, .null)]), (161, [(.iastore, 1, 0, 0, 0, .null)]), (162, [(.aload_n 0, 1, 0, 0, 0, .null), (.getfield 36, 3, 3, 14, 4, .null), (.iload_n 3, 1, 0, 0, 0, .null), (.iconst 3, 1, 0, 0, 0, (.int (3 : Int32))), (.iadd, 1, 0, 0, 0, .null), (.aload_n 0, 1, 0, 0, 0, .null), (.getfield 39, 3, 3, 15, 3, .null), (.aload_n 0, 1, 0, 0, 0, .null), (.getfield 43, 3, 3, 16, 0, .null), (.iconst 2, 1, 0, 0, 0, (.int (2 : Int32))), (.iload_n 2, 1, 0, 0, 0, .null), (.imul, 1, 0, 0, 0, .null), (.iadd, 1, 0, 0, 0, .null), (.iconst 2, 1, 0, 0, 0, (.int (2 : Int32))), (.isub, 1, 0, 0, 0, .null)]), (186, [(.iastore, 1, 0, 0, 0, .null)]), (98, [(.iconst 0, 1, 0, 0, 0, (.int (0 : Int32))), (.istore 4, 2, 0, 0, 0, .null)]), (101, [(.iload 4, 2, 0, 0, 0, .null), (.iconst 4, 1, 0, 0, 0, (.int (4 : Int32)))]), (107, [(.aload_n 0, 1, 0, 0, 0, .null), (.getfield 36, 3, 3, 14, 4, .null), (.iload_n 3, 1, 0, 0, 0, .null), (.iload 4, 2, 0, 0, 0, .null), (.iadd, 1, 0, 0, 0, .null), (.aload_n 0, 1, 0, 0, 0, .null), (.getfield 39, 3, 3, 15, 3, .null), (.aload_n 0, 1, 0, 0, 0, .null), (.getfield 43, 3, 3, 16, 0, .null), (.iconst 2, 1, 0, 0, 0, (.int (2 : Int32))), (.iload 4, 2, 0, 0, 0, .null), (.imul, 1, 0, 0, 0, .null), (.iadd, 1, 0, 0, 0, .null)]), (131, [(.iastore, 1, 0, 0, 0, .null)]), (132, [(.iinc 4 1, 3, 0, 0, 0, (.int (1 : Int32)))]), (187, [(.aload_n 0, 1, 0, 0, 0, .null), (.dup, 1, 0, 0, 0, .null), (.getfield 43, 3, 3, 16, 0, .null), (.iconst 2, 1, 0, 0, 0, (.int (2 : Int32))), (.iload_n 2, 1, 0, 0, 0, .null), (.imul, 1, 0, 0, 0, .null), (.iadd, 1, 0, 0, 0, .null), (.putfield 43, 3, 3, 16, 0, .null)]), (199, [(.iconst 1, 1, 0, 0, 0, (.int (1 : Int32)))]), (91, [(.iconst 0, 1, 0, 0, 0, (.int (0 : Int32)))])], [(31, .goto 4, 3), (27, .ifCond .eq 7, 3), (19, .goto 16, 3), (15, .ifCond .eq 7, 3), (8, .goto 27, 3), (4, .ifCond .eq 7, 3), (85, .invokevirtual 95, 3), (158, .invokevirtual 65, 3), (183, .invokevirtual 65, 3), (142, .ifCond .le 45, 3), (128, .invokevirtual 65, 3), (135, .goto (-34), 3), (104, .if_icmp .ge 34, 3), (138, .goto 49, 3), (95, .if_icmp .ne 46, 3), (200, .ireturn, 1), (92, .ireturn, 1), (88, .ifCond .ne 5, 3)])
set_option maxRecDepth 100000 in
theorem m_Gl_readMatrix : hx_mok M_Gl_readMatrix = true := by decide +kernel
theorem pd_Gl_readMatrix : (parseMethodDescriptor M_Gl_readMatrix.2.1.desc).map (fun q => q.parameters.length) = some 1 := by decide +kernel
theorem y_Gl_readMatrix : hx_okV M_Gl_readMatrix := ⟨⟨lw_g (lw_at lw_m4 181 rfl) rfl, lw_g (lw_at lw_m4 180 rfl) rfl, qs15, lw_g (lw_at lw_m1 4 rfl) rfl, rfl, by decide, by decide, by decide⟩, rfl, by decide, plainFor_of_name (by decide)⟩
noncomputable def f_Gl_readMatrix (z : Nat) (x1 : Int32) (h : hH) : Option (Int32 × hH) :=
  lz (A := Int32) (if (x1 &&& (8 : Int32)) = 0 then (if (x1 &&& (64 : Int32)) = 0 then (if (x1 &&& (128 : Int32)) = 0 then (0 : Int32) else (4 : Int32)) else (2 : Int32)) else (1 : Int32)) fun p1 =>
  lz (A := Int32) ((4 : Int32) * (rdI h z 9)) fun v5 =>
  gd (vp_in v5 32) <|
  lz (wrI h (rf z 14) (Int32.toNatClampNeg v5) (16384 : Int32)) fun h1 =>
  gd (vp_in (v5 + (1 : Int32)) 32) <|
  lz (wrI h1 (rf z 14) (Int32.toNatClampNeg (v5 + (1 : Int32))) (0 : Int32)) fun h2 =>
  gd (vp_in (v5 + (2 : Int32)) 32) <|
  lz (wrI h2 (rf z 14) (Int32.toNatClampNeg (v5 + (2 : Int32))) (0 : Int32)) fun h3 =>
  gd (vp_in (v5 + (3 : Int32)) 32) <|
  lz (wrI h3 (rf z 14) (Int32.toNatClampNeg (v5 + (3 : Int32))) (16384 : Int32)) fun h4 =>
  bP (f_Gl_has z ((2 : Int32) * p1) h4) fun a10 =>
  if a10 = 0 then (
    some ((0 : Int32), h4)
  ) else (
    bP (A := hH) (
      if p1 = (4 : Int32) then (
        bP (A := hH) (
          wh (A := (Int32 × hH)) (B := hH) (fun p19 =>
              if (4 : Int32) ≤ p19.1 then (
                some (.inr p19.2)
              ) else (
                gd (isA 1 (rdP p19.2 z 15)) <|
                bP (f_By_s2 (rdP p19.2 z 15) ((rdI p19.2 z 16) + ((2 : Int32) * p19.1)) p19.2) fun a22 =>
                gd (vp_in (v5 + p19.1) 32) <|
                lz (wrI p19.2 (rf z 14) (Int32.toNatClampNeg (v5 + p19.1)) a22) fun h7 =>
                lz (A := Int32) (p19.1 + (1 : Int32)) fun v24 =>
                some (.inl (v24, h7))
              )
          ) ((0 : Int32), h4)
        ) fun p20 =>
        some p20
      ) else (
        if p1 ≤ 0 then (
          some h4
        ) else (
          gd (isA 1 (rdP h4 z 15)) <|
          bP (f_By_s2 (rdP h4 z 15) (rdI h4 z 16) h4) fun a13 =>
          gd (vp_in v5 32) <|
          lz (wrI h4 (rf z 14) (Int32.toNatClampNeg v5) a13) fun h5 =>
          gd (isA 1 (rdP h5 z 15)) <|
          bP (f_By_s2 (rdP h5 z 15) (((rdI h5 z 16) + ((2 : Int32) * p1)) - (2 : Int32)) h5) fun a16 =>
          gd (vp_in (v5 + (3 : Int32)) 32) <|
          lz (wrI h5 (rf z 14) (Int32.toNatClampNeg (v5 + (3 : Int32))) a16) fun h6 =>
          some h6
        )
      )
    ) fun p11 =>
    lz (wrI p11 z 16 ((rdI p11 z 16) + ((2 : Int32) * p1))) fun h8 =>
    some ((1 : Int32), h8)
  )
set_option maxRecDepth 20000 in
theorem k_Gl_readMatrix (z : Nat) (x1 : Int32) (h : hH) (hz : isA 3 z) : hx_kS S0 M_Gl_readMatrix 4 NT [(.ref z), (.int x1)] h (f_Gl_readMatrix z x1 h) cvI := by
  have hm := m_Gl_readMatrix
  show hx_P S0 M_Gl_readMatrix 4 0 [(0, (.ref z)), (1, (.int x1))] [] NT h (f_Gl_readMatrix z x1 h) (hx_Rc cvI NT)
  unfold f_Gl_readMatrix
  refine hp_JZ 35 (fun (p1 : Int32) => [(0, (.ref z))]) (fun (p1 : Int32) => [(.int p1)]) (fun (p1 : Int32) => h) ?_ (fun p1 => ?_)
  · refine hp_sv0 ?_
    refine hp_if_eq hm (at1 0 rfl) rfl (by exact trivial) (pc' := 4) rfl 5 rfl (tgt := 11) rfl (fun c4 => ?_) (fun c4 => ?_)
    · refine hp_sv0 ?_
      refine hp_if_eq hm (at1 1 rfl) rfl (by exact trivial) (pc' := 15) rfl 3 rfl (tgt := 22) rfl (fun c3 => ?_) (fun c3 => ?_)
      · refine hp_sv0 ?_
        refine hp_if_eq hm (at1 2 rfl) rfl (by exact trivial) (pc' := 27) rfl 1 rfl (tgt := 34) rfl (fun c2 => ?_) (fun c2 => ?_)
        · refine hp_b hm (at1 3 rfl) (L' := [(0, (.ref z)), (1, (.int x1))]) (st' := [(.int (0 : Int32))]) rfl (by exact trivial) (pc' := 35) rfl ?_
          exact hp_lf [0] rfl (fun _ e => e)
        · refine hp_b hm (at1 4 rfl) (L' := [(0, (.ref z)), (1, (.int x1))]) (st' := [(.int (4 : Int32))]) rfl (by exact trivial) (pc' := 31) rfl ?_
          refine hp_goto hm 0 rfl (tgt := 35) rfl ?_
          exact hp_lf [0] rfl (fun _ e => e)
      · refine hp_b hm (at1 5 rfl) (L' := [(0, (.ref z)), (1, (.int x1))]) (st' := [(.int (2 : Int32))]) rfl (by exact trivial) (pc' := 19) rfl ?_
        refine hp_goto hm 2 rfl (tgt := 35) rfl ?_
        exact hp_lf [0] rfl (fun _ e => e)
    · refine hp_b hm (at1 6 rfl) (L' := [(0, (.ref z)), (1, (.int x1))]) (st' := [(.int (1 : Int32))]) rfl (by exact trivial) (pc' := 8) rfl ?_
      refine hp_goto hm 4 rfl (tgt := 35) rfl ?_
      exact hp_lf [0] rfl (fun _ e => e)
  · refine hp_z hm (at1 7 rfl) (fun (v5 : Int32) => [(3, (.int v5)), (2, (.int p1)), (0, (.ref z))]) (fun (v5 : Int32) => []) rfl (by exact hz) (pc' := 43) rfl (fun v5 => ?_)
    refine hp_GW hm (at1 8 rfl) (L' := [(3, (.int v5)), (2, (.int p1)), (0, (.ref z))]) rfl (fun hP => (by exact ⟨hz, ⟨(rt_3_14 hz), (vp_cst (rl_3_14 hz) hP)⟩⟩)) (pc' := 52) rfl (fun q6 h1 => ?_)
    refine hp_GW hm (at1 9 rfl) (L' := [(3, (.int v5)), (2, (.int p1)), (0, (.ref z))]) rfl (fun hP => (by exact ⟨hz, ⟨(rt_3_14 hz), (vp_cst (rl_3_14 hz) hP)⟩⟩)) (pc' := 61) rfl (fun q7 h2 => ?_)
    refine hp_GW hm (at1 10 rfl) (L' := [(3, (.int v5)), (2, (.int p1)), (0, (.ref z))]) rfl (fun hP => (by exact ⟨hz, ⟨(rt_3_14 hz), (vp_cst (rl_3_14 hz) hP)⟩⟩)) (pc' := 70) rfl (fun q8 h3 => ?_)
    refine hp_GW hm (at1 11 rfl) (L' := [(3, (.int v5)), (2, (.int p1)), (0, (.ref z))]) rfl (fun hP => (by exact ⟨hz, ⟨(rt_3_14 hz), (vp_cst (rl_3_14 hz) hP)⟩⟩)) (pc' := 81) rfl (fun q9 h4 => ?_)
    refine hp_cVP (M2 := M_Gl_has) hm (at1 12 rfl) (as := [(.int ((2 : Int32) * p1))]) (rest := []) (z := z) rfl (by exact trivial) (pc' := 85) rfl 6 rfl (lw_g (lw_at lw_m4 164 rfl) rfl) y_Gl_has rfl (d2 := 1) ⟨le_b rfl, pd_Gl_has, le_b rfl⟩ (le_b rfl) hz (k_Gl_has z ((2 : Int32) * p1) h4 hz) (fun a10 => ?_)
    refine hp_if_ne hm at0 rfl (by exact trivial) (pc' := 88) rfl 17 rfl (tgt := 93) rfl (fun c27 => ?_) (fun c27 => ?_)
    · refine hp_J 187 (fun (p11 : hH) => [(0, (.ref z)), (2, (.int p1))]) (fun (p11 : hH) => []) (fun (p11 : hH) => p11) ?_ (fun p11 => ?_)
      · refine hp_ic_ne hm (at1 13 rfl) rfl (by exact trivial) (pc' := 95) rfl 14 rfl (tgt := 141) rfl (fun c26 => ?_) (fun c26 => ?_)
        · refine hp_if_le hm (at1 14 rfl) rfl (by exact trivial) (pc' := 142) rfl 9 rfl (tgt := 187) rfl (fun c18 => ?_) (fun c18 => ?_)
          · exact hp_lf [2, 1] rfl (fun _ e => e)
          · refine hp_G0 (fun q12 => ?_)
            refine hp_b hm (at1 15 rfl) (L' := [(3, (.int v5)), (2, (.int p1)), (0, (.ref z))]) (st' := [(.int (rdI h4 z 16)), (.ref (rdP h4 z 15)), (.int v5), (.ref (rf z 14))]) rfl (by exact ⟨⟨hz, hz⟩, hz⟩) (pc' := 158) rfl ?_
            refine hp_cVP (M2 := M_By_s2) hm at0 (as := [(.int (rdI h4 z 16))]) (rest := [(.int v5), (.ref (rf z 14))]) (z := (rdP h4 z 15)) rfl (by exact trivial) (pc' := 158) rfl 7 rfl (lw_g (lw_at lw_m4 156 rfl) rfl) y_By_s2 rfl (d2 := 3) ⟨le_b rfl, pd_By_s2, le_b rfl⟩ (le_b rfl) q12 (k_By_s2 (rdP h4 z 15) (rdI h4 z 16) h4 q12) (fun a13 => ?_)
            refine hp_GW hm (at1 16 rfl) (L' := [(3, (.int v5)), (2, (.int p1)), (0, (.ref z))]) rfl (fun hP => (by exact ⟨(rt_3_14 hz), (vp_cst (rl_3_14 hz) hP)⟩)) (pc' := 162) rfl (fun q14 h5 => ?_)
            refine hp_G0 (fun q15 => ?_)
            refine hp_b hm (at1 17 rfl) (L' := [(3, (.int v5)), (2, (.int p1)), (0, (.ref z))]) (st' := [(.int (((rdI h5 z 16) + ((2 : Int32) * p1)) - (2 : Int32))), (.ref (rdP h5 z 15)), (.int (v5 + (3 : Int32))), (.ref (rf z 14))]) rfl (by exact ⟨⟨hz, hz⟩, hz⟩) (pc' := 183) rfl ?_
            refine hp_cVP (M2 := M_By_s2) hm at0 (as := [(.int (((rdI h5 z 16) + ((2 : Int32) * p1)) - (2 : Int32)))]) (rest := [(.int (v5 + (3 : Int32))), (.ref (rf z 14))]) (z := (rdP h5 z 15)) rfl (by exact trivial) (pc' := 183) rfl 8 rfl (lw_g (lw_at lw_m4 156 rfl) rfl) y_By_s2 rfl (d2 := 3) ⟨le_b rfl, pd_By_s2, le_b rfl⟩ (le_b rfl) q15 (k_By_s2 (rdP h5 z 15) (((rdI h5 z 16) + ((2 : Int32) * p1)) - (2 : Int32)) h5 q15) (fun a16 => ?_)
            refine hp_GW hm (at1 18 rfl) (L' := [(3, (.int v5)), (2, (.int p1)), (0, (.ref z))]) rfl (fun hP => (by exact ⟨(rt_3_14 hz), (vp_cst (rl_3_14 hz) hP)⟩)) (pc' := 187) rfl (fun q17 h6 => ?_)
            exact hp_lf [2, 1] rfl (fun _ e => e)
        · refine hp_b hm (at1 19 rfl) (L' := [(4, (.int (0 : Int32))), (3, (.int v5)), (2, (.int p1)), (0, (.ref z))]) (st' := []) rfl (by exact trivial) (pc' := 101) rfl ?_
          refine hp_J 138 (fun (p20 : hH) => [(0, (.ref z)), (2, (.int p1))]) (fun (p20 : hH) => []) (fun (p20 : hH) => p20) ?_ (fun p20 => ?_)
          · refine hp_s [3, 2, 1, 0] rfl (L' := [(0, (.ref z)), (2, (.int p1)), (3, (.int v5)), (4, (.int (0 : Int32)))]) ?_
            refine hp_wh (fun (p19 : (Int32 × hH)) => [(0, (.ref z)), (2, (.int p1)), (3, (.int v5)), (4, (.int p19.1))]) [] (fun (p19 : (Int32 × hH)) => p19.2) (fun p19 => ?_) ((0 : Int32), h4)
            refine hp_ic_ge hm (at1 20 rfl) rfl (by exact trivial) (pc' := 104) rfl 12 rfl (tgt := 138) rfl (fun c25 => ?_) (fun c25 => ?_)
            · exact hp_lf [0, 1] rfl (fun _ e => e)
            · refine hp_G0 (fun q21 => ?_)
              refine hp_b hm (at1 21 rfl) (L' := [(0, (.ref z)), (2, (.int p1)), (3, (.int v5)), (4, (.int p19.1))]) (st' := [(.int ((rdI p19.2 z 16) + ((2 : Int32) * p19.1))), (.ref (rdP p19.2 z 15)), (.int (v5 + p19.1)), (.ref (rf z 14))]) rfl (by exact ⟨⟨hz, hz⟩, hz⟩) (pc' := 128) rfl ?_
              refine hp_cVP (M2 := M_By_s2) hm at0 (as := [(.int ((rdI p19.2 z 16) + ((2 : Int32) * p19.1)))]) (rest := [(.int (v5 + p19.1)), (.ref (rf z 14))]) (z := (rdP p19.2 z 15)) rfl (by exact trivial) (pc' := 128) rfl 10 rfl (lw_g (lw_at lw_m4 156 rfl) rfl) y_By_s2 rfl (d2 := 3) ⟨le_b rfl, pd_By_s2, le_b rfl⟩ (le_b rfl) q21 (k_By_s2 (rdP p19.2 z 15) ((rdI p19.2 z 16) + ((2 : Int32) * p19.1)) p19.2 q21) (fun a22 => ?_)
              refine hp_GW hm (at1 22 rfl) (L' := [(0, (.ref z)), (2, (.int p1)), (3, (.int v5)), (4, (.int p19.1))]) rfl (fun hP => (by exact ⟨(rt_3_14 hz), (vp_cst (rl_3_14 hz) hP)⟩)) (pc' := 132) rfl (fun q23 h7 => ?_)
              refine hp_z hm (at1 23 rfl) (fun (v24 : Int32) => [(4, (.int v24)), (0, (.ref z)), (2, (.int p1)), (3, (.int v5))]) (fun (v24 : Int32) => []) rfl (by exact trivial) (pc' := 135) rfl (fun v24 => ?_)
              refine hp_goto hm 11 rfl (tgt := 101) rfl ?_
              exact hp_lf [1, 2, 3, 0] rfl (fun _ e => e)
          · refine hp_goto hm 13 rfl (tgt := 187) rfl ?_
            exact hp_lf [0, 1] rfl (fun _ e => e)
      · refine hp_w hm (at1 24 rfl) (L' := [(0, (.ref z)), (2, (.int p1))]) rfl (by exact ⟨hz, hz⟩) (pc' := 199) rfl (fun h8 => ?_)
        exact hp_ir hm (at1 25 rfl) rfl (by exact trivial) (pc' := 200) rfl 15 rfl rfl rfl (fun _ e => e)
    · exact hp_ir hm (at1 26 rfl) rfl (by exact trivial) (pc' := 92) rfl 16 rfl rfl rfl (fun _ e => e)
/-! HintHouse$Glyph.readProgram()Z -/
def M_Gl_readProgram : hM := (3, ⟨"HintHouse$Glyph", "readProgram", "()Z"⟩, prog_4_method_5_code, 1, (Option.some Jvm.ClassFile.FieldType.boolean), [], [(0, [(.aload_n 0, 1, 0, 0, 0, .null), (.iconst 2, 1, 0, 0, 0, (.int (2 : Int32)))]), (10, [(.aload_n 0, 1, 0, 0, 0, .null), (.aload_n 0, 1, 0, 0, 0, .null), (.getfield 39, 3, 3, 15, 3, .null), (.aload_n 0, 1, 0, 0, 0, .null), (.getfield 43, 3, 3, 16, 0, .null)]), (22, [(.putfield 59, 3, 3, 8, 0, .null)]), (25, [(.aload_n 0, 1, 0, 0, 0, .null), (.aload_n 0, 1, 0, 0, 0, .null), (.getfield 43, 3, 3, 16, 0, .null), (.iconst 2, 1, 0, 0, 0, (.int (2 : Int32))), (.iadd, 1, 0, 0, 0, .null), (.putfield 101, 3, 3, 7, 0, .null)]), (35, [(.aload_n 0, 1, 0, 0, 0, .null), (.dup, 1, 0, 0, 0, .null), (.getfield 43, 3, 3, 16, 0, .null), (.iconst 2, 1, 0, 0, 0, (.int (2 : Int32))), (.aload_n 0, 1, 0, 0, 0, .null), (.getfield 59, 3, 3, 8, 0, .null), (.iadd, 1, 0, 0, 0, .null), (.iadd, 1, 0, 0, 0, .null), (.putfield 43, 3, 3, 16, 0, .null)]), (50, [(.aload_n 0, 1, 0, 0, 0, .null), (.getfield 59, 3, 3, 8, 0, .null), (.sipush 400, 3, 0, 0, 0, (.int (400 : Int32)))]), (75, [(.iconst 0, 1, 0, 0, 0, (.int (0 : Int32)))]), (60, [(.aload_n 0, 1, 0, 0, 0, .null), (.getfield 43, 3, 3, 16, 0, .null), (.aload_n 0, 1, 0, 0, 0, .null), (.getfield 47, 3, 3, 17, 0, .null)]), (71, [(.iconst 1, 1, 0, 0, 0, (.int (1 : Int32)))]), (8, [(.iconst 0, 1, 0, 0, 0, (.int (0 : Int32)))])], [(2, .invokevirtual 95, 3), (19, .invokevirtual 98, 3), (76, .ireturn, 1), (72, .goto 4, 3), (68, .if_icmp .gt 7, 3), (57, .if_icmp .gt 18, 3), (9, .ireturn, 1), (5, .ifCond .ne 5, 3)])
set_option maxRecDepth 100000 in
theorem m_Gl_readProgram : hx_mok M_Gl_readProgram = true := by decide +kernel
theorem pd_Gl_readProgram : (parseMethodDescriptor M_Gl_readProgram.2.1.desc).map (fun q => q.parameters.length) = some 0 := by decide +kernel
theorem y_Gl_readProgram : hx_okV M_Gl_readProgram := ⟨⟨lw_g (lw_at lw_m4 185 rfl) rfl, lw_g (lw_at lw_m4 184 rfl) rfl, qs16, lw_g (lw_at lw_m1 4 rfl) rfl, rfl, by decide, by decide, by decide⟩, rfl, by decide, plainFor_of_name (by decide)⟩
noncomputable def f_Gl_readProgram (z : Nat) (h : hH) : Option (Int32 × hH) :=
  bP (f_Gl_has z (2 : Int32) h) fun a1 =>
  if a1 = 0 then (
    some ((0 : Int32), h)
  ) else (
    gd (isA 1 (rdP h z 15)) <|
    bP (f_By_u2 (rdP h z 15) (rdI h z 16) h) fun a3 =>
    lz (wrI h z 8 a3) fun h1 =>
    lz (wrI h1 z 7 ((rdI h1 z 16) + (2 : Int32))) fun h2 =>
    lz (wrI h2 z 16 ((rdI h2 z 16) + ((2 : Int32) + (rdI h2 z 8)))) fun h3 =>
    if (400 : Int32) < (rdI h3 z 8) then (
      some ((0 : Int32), h3)
    ) else (
      if (rdI h3 z 17) < (rdI h3 z 16) then (
        some ((0 : Int32), h3)
      ) else (
        some ((1 : Int32), h3)
      )
    )
  )
set_option maxRecDepth 20000 in
theorem k_Gl_readProgram (z : Nat) (h : hH) (hz : isA 3 z) : hx_kS S0 M_Gl_readProgram 3 NT [(.ref z)] h (f_Gl_readProgram z h) cvI := by
  have hm := m_Gl_readProgram
  show hx_P S0 M_Gl_readProgram 3 0 [(0, (.ref z))] [] NT h (f_Gl_readProgram z h) (hx_Rc cvI NT)
  unfold f_Gl_readProgram
  refine hp_cVP (M2 := M_Gl_has) hm (at1 0 rfl) (as := [(.int (2 : Int32))]) (rest := []) (z := z) rfl (by exact trivial) (pc' := 2) rfl 0 rfl (lw_g (lw_at lw_m4 164 rfl) rfl) y_Gl_has rfl (d2 := 1) ⟨le_b rfl, pd_Gl_has, le_b rfl⟩ (le_b rfl) hz (k_Gl_has z (2 : Int32) h hz) (fun a1 => ?_)
  refine hp_if_ne hm at0 rfl (by exact trivial) (pc' := 5) rfl 7 rfl (tgt := 10) rfl (fun c6 => ?_) (fun c6 => ?_)
  · refine hp_G0 (fun q2 => ?_)
    refine hp_b hm (at1 1 rfl) (L' := [(0, (.ref z))]) (st' := [(.int (rdI h z 16)), (.ref (rdP h z 15)), (.ref z)]) rfl (by exact ⟨hz, hz⟩) (pc' := 19) rfl ?_
    refine hp_cVP (M2 := M_By_u2) hm at0 (as := [(.int (rdI h z 16))]) (rest := [(.ref z)]) (z := (rdP h z 15)) rfl (by exact trivial) (pc' := 19) rfl 1 rfl (lw_g (lw_at lw_m4 168 rfl) rfl) y_By_u2 rfl (d2 := 2) ⟨le_b rfl, pd_By_u2, le_b rfl⟩ (le_b rfl) q2 (k_By_u2 (rdP h z 15) (rdI h z 16) h q2) (fun a3 => ?_)
    refine hp_w hm (at1 2 rfl) (L' := [(0, (.ref z))]) rfl (by exact hz) (pc' := 25) rfl (fun h1 => ?_)
    refine hp_w hm (at1 3 rfl) (L' := [(0, (.ref z))]) rfl (by exact ⟨hz, hz⟩) (pc' := 35) rfl (fun h2 => ?_)
    refine hp_w hm (at1 4 rfl) (L' := [(0, (.ref z))]) rfl (by exact ⟨⟨hz, hz⟩, hz⟩) (pc' := 50) rfl (fun h3 => ?_)
    refine hp_ic_gt hm (at1 5 rfl) rfl (by exact hz) (pc' := 57) rfl 5 rfl (tgt := 75) rfl (fun c5 => ?_) (fun c5 => ?_)
    · refine hp_b hm (at1 6 rfl) (L' := [(0, (.ref z))]) (st' := [(.int (0 : Int32))]) rfl (by exact trivial) (pc' := 76) rfl ?_
      exact hp_ir hm at0 rfl (by exact trivial) (pc' := 76) rfl 2 rfl rfl rfl (fun _ e => e)
    · refine hp_ic_gt hm (at1 7 rfl) rfl (by exact ⟨hz, hz⟩) (pc' := 68) rfl 4 rfl (tgt := 75) rfl (fun c4 => ?_) (fun c4 => ?_)
      · refine hp_b hm (at1 6 rfl) (L' := [(0, (.ref z))]) (st' := [(.int (0 : Int32))]) rfl (by exact trivial) (pc' := 76) rfl ?_
        exact hp_ir hm at0 rfl (by exact trivial) (pc' := 76) rfl 2 rfl rfl rfl (fun _ e => e)
      · refine hp_b hm (at1 8 rfl) (L' := [(0, (.ref z))]) (st' := [(.int (1 : Int32))]) rfl (by exact trivial) (pc' := 72) rfl ?_
        refine hp_goto hm 3 rfl (tgt := 76) rfl ?_
        exact hp_ir hm at0 rfl (by exact trivial) (pc' := 76) rfl 2 rfl rfl rfl (fun _ e => e)
  · exact hp_ir hm (at1 9 rfl) rfl (by exact trivial) (pc' := 9) rfl 6 rfl rfl rfl (fun _ e => e)
/-! HintHouse$Glyph.readParts(I)Z -/
def M_Gl_readParts : hM := (3, ⟨"HintHouse$Glyph", "readParts", "(I)Z"⟩, prog_4_method_8_code, 4, (Option.some Jvm.ClassFile.FieldType.boolean), [], [(0, [(.iconst 1, 1, 0, 0, 0, (.int (1 : Int32))), (.istore_n 2, 1, 0, 0, 0, .null), (.iconst 0, 1, 0, 0, 0, (.int (0 : Int32))), (.istore_n 3, 1, 0, 0, 0, .null)]), (4, [(.iload_n 2, 1, 0, 0, 0, .null)]), (8, [(.aload_n 0, 1, 0, 0, 0, .null), (.getfield 62, 3, 3, 9, 0, .null), (.bipush 8, 2, 0, 0, 0, (.int (8 : Int32)))]), (25, [(.iconst 0, 1, 0, 0, 0, (.int (0 : Int32)))]), (17, [(.aload_n 0, 1, 0, 0, 0, .null), (.iconst 4, 1, 0, 0, 0, (.int (4 : Int32)))]), (27, [(.aload_n 0, 1, 0, 0, 0, .null), (.getfield 39, 3, 3, 15, 3, .null), (.aload_n 0, 1, 0, 0, 0, .null), (.getfield 43, 3, 3, 16, 0, .null)]), (38, [(.istore_n 3, 1, 0, 0, 0, .null), (.aload_n 0, 1, 0, 0, 0, .null), (.getfield 24, 3, 3, 10, 4, .null), (.aload_n 0, 1, 0, 0, 0, .null), (.getfield 62, 3, 3, 9, 0, .null), (.iload_n 3, 1, 0, 0, 0, .null), (.iastore, 1, 0, 0, 0, .null)]), (49, [(.aload_n 0, 1, 0, 0, 0, .null), (.getfield 27, 3, 3, 11, 4, .null), (.aload_n 0, 1, 0, 0, 0, .null), (.getfield 62, 3, 3, 9, 0, .null), (.aload_n 0, 1, 0, 0, 0, .null), (.getfield 39, 3, 3, 15, 3, .null), (.aload_n 0, 1, 0, 0, 0, .null), (.getfield 43, 3, 3, 16, 0, .null), (.iconst 2, 1, 0, 0, 0, (.int (2 : Int32))), (.iadd, 1, 0, 0, 0, .null)]), (70, [(.iastore, 1, 0, 0, 0, .null)]), (71, [(.aload_n 0, 1, 0, 0, 0, .null), (.dup, 1, 0, 0, 0, .null), (.getfield 43, 3, 3, 16, 0, .null), (.iconst 4, 1, 0, 0, 0, (.int (4 : Int32))), (.iadd, 1, 0, 0, 0, .null), (.putfield 43, 3, 3, 16, 0, .null)]), (81, [(.aload_n 0, 1, 0, 0, 0, .null), (.getfield 27, 3, 3, 11, 4, .null), (.aload_n 0, 1, 0, 0, 0, .null), (.getfield 62, 3, 3, 9, 0, .null), (.iaload, 1, 0, 0, 0, .null), (.iload_n 1, 1, 0, 0, 0, .null)]), (110, [(.iconst 0, 1, 0, 0, 0, (.int (0 : Int32)))]), (94, [(.aload_n 0, 1, 0, 0, 0, .null), (.iload_n 3, 1, 0, 0, 0, .null)]), (102, [(.aload_n 0, 1, 0, 0, 0, .null), (.iload_n 3, 1, 0, 0, 0, .null)]), (112, [(.aload_n 0, 1, 0, 0, 0, .null), (.dup, 1, 0, 0, 0, .null), (.getfield 62, 3, 3, 9, 0, .null), (.iconst 1, 1, 0, 0, 0, (.int (1 : Int32))), (.iadd, 1, 0, 0, 0, .null), (.putfield 62, 3, 3, 9, 0, .null)]), (122, [(.iload_n 3, 1, 0, 0, 0, .null), (.bipush 32, 2, 0, 0, 0, (.int (32 : Int32))), (.iand, 1, 0, 0, 0, .null)]), (133, [(.iconst 0, 1, 0, 0, 0, (.int (0 : Int32)))]), (129, [(.iconst 1, 1, 0, 0, 0, (.int (1 : Int32)))]), (134, [(.istore_n 2, 1, 0, 0, 0, .null)]), (138, [(.iload_n 3, 1, 0, 0, 0, .null), (.sipush 256, 3, 0, 0, 0, (.int (256 : Int32))), (.iand, 1, 0, 0, 0, .null)]), (153, [(.iconst 1, 1, 0, 0, 0, (.int (1 : Int32)))]), (146, [(.aload_n 0, 1, 0, 0, 0, .null)]), (157, [(.iconst 0, 1, 0, 0, 0, (.int (0 : Int32)))])], [(26, .ireturn, 1), (19, .invokevirtual 95, 3), (35, .invokevirtual 98, 3), (67, .invokevirtual 98, 3), (111, .ireturn, 1), (96, .invokevirtual 107, 3), (104, .invokevirtual 110, 3), (130, .goto 4, 3), (126, .ifCond .eq 7, 3), (135, .goto (-131), 3), (107, .ifCond .ne 5, 3), (99, .ifCond .eq 11, 3), (91, .if_icmp .ge 19, 3), (22, .ifCond .ne 5, 3), (14, .if_icmp .eq 11, 3), (5, .ifCond .eq 133, 3), (158, .ireturn, 1), (154, .goto 4, 3), (147, .invokevirtual 85, 3), (150, .ifCond .eq 7, 3), (143, .ifCond .eq 10, 3)])
set_option maxRecDepth 100000 in
theorem m_Gl_readParts : hx_mok M_Gl_readParts = true := by decide +kernel
theorem pd_Gl_readParts : (parseMethodDescriptor M_Gl_readParts.2.1.desc).map (fun q => q.parameters.length) = some 1 := by decide +kernel
theorem y_Gl_readParts : hx_okV M_Gl_readParts := ⟨⟨lw_g (lw_at lw_m4 163 rfl) rfl, lw_g (lw_at lw_m4 162 rfl) rfl, qs12, lw_g (lw_at lw_m1 4 rfl) rfl, rfl, by decide, by decide, by decide⟩, rfl, by decide, plainFor_of_name (by decide)⟩
noncomputable def f_Gl_readParts (z : Nat) (x1 : Int32) (h : hH) : Option (Int32 × hH) :=
  bE (P := (Int32 × hH)) (X := (Int32 × hH)) (
    wh (A := (Int32 × Int32 × hH)) (B := ((Int32 × hH) ⊕ (Int32 × hH))) (fun p1 =>
        if p1.1 = 0 then (
          some (.inr (.inl (p1.2.1, p1.2.2)))
        ) else (
          if (rdI p1.2.2 z 9) = (8 : Int32) then (
            some (.inr (.inr ((0 : Int32), p1.2.2)))
          ) else (
            bP (f_Gl_has z (4 : Int32) p1.2.2) fun a3 =>
            if a3 = 0 then (
              some (.inr (.inr ((0 : Int32), p1.2.2)))
            ) else (
              gd (isA 1 (rdP p1.2.2 z 15)) <|
              bP (f_By_u2 (rdP p1.2.2 z 15) (rdI p1.2.2 z 16) p1.2.2) fun a5 =>
              gd (vp_in (rdI p1.2.2 z 9) 8) <|
              lz (wrI p1.2.2 (rf z 10) (Int32.toNatClampNeg (rdI p1.2.2 z 9)) a5) fun h1 =>
              gd (isA 1 (rdP h1 z 15)) <|
              bP (f_By_u2 (rdP h1 z 15) ((rdI h1 z 16) + (2 : Int32)) h1) fun a8 =>
              gd (vp_in (rdI h1 z 9) 8) <|
              lz (wrI h1 (rf z 11) (Int32.toNatClampNeg (rdI h1 z 9)) a8) fun h2 =>
              lz (wrI h2 z 16 ((rdI h2 z 16) + (4 : Int32))) fun h3 =>
              gd (vp_in (rdI h3 z 9) 8) <|
              if x1 ≤ (rdI h3 (rf z 11) (Int32.toNatClampNeg (rdI h3 z 9))) then (
                some (.inr (.inr ((0 : Int32), h3)))
              ) else (
                bS (f_Gl_readNumbers z a5 h3) fun a11 h4 =>
                if a11 = 0 then (
                  some (.inr (.inr ((0 : Int32), h4)))
                ) else (
                  bS (f_Gl_readMatrix z a5 h4) fun a12 h5 =>
                  if a12 = 0 then (
                    some (.inr (.inr ((0 : Int32), h5)))
                  ) else (
                    lz (wrI h5 z 9 ((rdI h5 z 9) + (1 : Int32))) fun h6 =>
                    lz (A := Int32) (if (a5 &&& (32 : Int32)) = 0 then (0 : Int32) else (1 : Int32)) fun p13 =>
                    some (.inl (p13, a5, h6))
                  )
                )
              )
            )
          )
        )
    ) ((1 : Int32), (0 : Int32), h)
  ) fun p2 =>
  if (p2.1 &&& (256 : Int32)) = 0 then (
    some ((1 : Int32), p2.2)
  ) else (
    bS (f_Gl_readProgram z p2.2) fun a21 h7 =>
    if a21 = 0 then (
      some ((0 : Int32), h7)
    ) else (
      some ((1 : Int32), h7)
    )
  )
set_option maxRecDepth 20000 in
theorem k_Gl_readParts (z : Nat) (x1 : Int32) (h : hH) (hz : isA 3 z) : hx_kS S0 M_Gl_readParts 5 NT [(.ref z), (.int x1)] h (f_Gl_readParts z x1 h) cvI := by
  have hm := m_Gl_readParts
  show hx_P S0 M_Gl_readParts 5 0 [(0, (.ref z)), (1, (.int x1))] [] NT h (f_Gl_readParts z x1 h) (hx_Rc cvI NT)
  unfold f_Gl_readParts
  refine hp_b hm (at1 0 rfl) (L' := [(3, (.int (0 : Int32))), (2, (.int (1 : Int32))), (0, (.ref z)), (1, (.int x1))]) (st' := []) rfl (by exact trivial) (pc' := 4) rfl ?_
  refine hp_E 138 (fun (p2 : (Int32 × hH)) => [(0, (.ref z)), (3, (.int p2.1))]) (fun (p2 : (Int32 × hH)) => []) (fun (p2 : (Int32 × hH)) => p2.2) ?_ (fun p2 => ?_)
  · refine hp_s [2, 3, 1, 0] rfl (L' := [(0, (.ref z)), (1, (.int x1)), (2, (.int (1 : Int32))), (3, (.int (0 : Int32)))]) ?_
    refine hp_wh (fun (p1 : (Int32 × Int32 × hH)) => [(0, (.ref z)), (1, (.int x1)), (2, (.int p1.1)), (3, (.int p1.2.1))]) [] (fun (p1 : (Int32 × Int32 × hH)) => p1.2.2) (fun p1 => ?_) ((1 : Int32), (0 : Int32), h)
    refine hp_if_eq hm (at1 1 rfl) rfl (by exact trivial) (pc' := 5) rfl 15 rfl (tgt := 138) rfl (fun c20 => ?_) (fun c20 => ?_)
    · exact hp_lf [0, 3] rfl (fun _ e => e)
    · refine hp_ic_eq hm (at1 2 rfl) rfl (by exact hz) (pc' := 14) rfl 14 rfl (tgt := 25) rfl (fun c19 => ?_) (fun c19 => ?_)
      · exact hp_ir hm (at1 3 rfl) rfl (by exact trivial) (pc' := 26) rfl 0 rfl rfl rfl (fun _ e => e)
      · refine hp_cVP (M2 := M_Gl_has) hm (at1 4 rfl) (as := [(.int (4 : Int32))]) (rest := []) (z := z) rfl (by exact trivial) (pc' := 19) rfl 1 rfl (lw_g (lw_at lw_m4 164 rfl) rfl) y_Gl_has rfl (d2 := 1) ⟨le_b rfl, pd_Gl_has, le_b rfl⟩ (le_b rfl) hz (k_Gl_has z (4 : Int32) p1.2.2 hz) (fun a3 => ?_)
        refine hp_if_ne hm at0 rfl (by exact trivial) (pc' := 22) rfl 13 rfl (tgt := 27) rfl (fun c18 => ?_) (fun c18 => ?_)
        · refine hp_G0 (fun q4 => ?_)
          refine hp_b hm (at1 5 rfl) (L' := [(0, (.ref z)), (1, (.int x1)), (2, (.int p1.1)), (3, (.int p1.2.1))]) (st' := [(.int (rdI p1.2.2 z 16)), (.ref (rdP p1.2.2 z 15))]) rfl (by exact ⟨hz, hz⟩) (pc' := 35) rfl ?_
          refine hp_cVP (M2 := M_By_u2) hm at0 (as := [(.int (rdI p1.2.2 z 16))]) (rest := []) (z := (rdP p1.2.2 z 15)) rfl (by exact trivial) (pc' := 35) rfl 2 rfl (lw_g (lw_at lw_m4 168 rfl) rfl) y_By_u2 rfl (d2 := 2) ⟨le_b rfl, pd_By_u2, le_b rfl⟩ (le_b rfl) q4 (k_By_u2 (rdP p1.2.2 z 15) (rdI p1.2.2 z 16) p1.2.2 q4) (fun a5 => ?_)
          refine hp_GW hm (at1 6 rfl) (L' := [(3, (.int a5)), (0, (.ref z)), (1, (.int x1)), (2, (.int p1.1))]) rfl (fun hP => (by exact ⟨⟨hz, hz⟩, ⟨(rt_3_10 hz), (vp_cst (rl_3_10 hz) hP)⟩⟩)) (pc' := 49) rfl (fun q6 h1 => ?_)
          refine hp_G0 (fun q7 => ?_)
          refine hp_b hm (at1 7 rfl) (L' := [(3, (.int a5)), (0, (.ref z)), (1, (.int x1)), (2, (.int p1.1))]) (st' := [(.int ((rdI h1 z 16) + (2 : Int32))), (.ref (rdP h1 z 15)), (.int (rdI h1 z 9)), (.ref (rf z 11))]) rfl (by exact ⟨⟨⟨hz, hz⟩, hz⟩, hz⟩) (pc' := 67) rfl ?_
          refine hp_cVP (M2 := M_By_u2) hm at0 (as := [(.int ((rdI h1 z 16) + (2 : Int32)))]) (rest := [(.int (rdI h1 z 9)), (.ref (rf z 11))]) (z := (rdP h1 z 15)) rfl (by exact trivial) (pc' := 67) rfl 3 rfl (lw_g (lw_at lw_m4 168 rfl) rfl) y_By_u2 rfl (d2 := 2) ⟨le_b rfl, pd_By_u2, le_b rfl⟩ (le_b rfl) q7 (k_By_u2 (rdP h1 z 15) ((rdI h1 z 16) + (2 : Int32)) h1 q7) (fun a8 => ?_)
          refine hp_GW hm (at1 8 rfl) (L' := [(3, (.int a5)), (0, (.ref z)), (1, (.int x1)), (2, (.int p1.1))]) rfl (fun hP => (by exact ⟨(rt_3_11 hz), (vp_cst (rl_3_11 hz) hP)⟩)) (pc' := 71) rfl (fun q9 h2 => ?_)
          refine hp_w hm (at1 9 rfl) (L' := [(3, (.int a5)), (0, (.ref z)), (1, (.int x1)), (2, (.int p1.1))]) rfl (by exact ⟨hz, hz⟩) (pc' := 81) rfl (fun h3 => ?_)
          refine hp_G hm (at1 10 rfl) (L' := [(3, (.int a5)), (0, (.ref z)), (1, (.int x1)), (2, (.int p1.1))]) (st' := [(.int x1), (.int (rdI h3 (rf z 11) (Int32.toNatClampNeg (rdI h3 z 9))))]) rfl (fun hP => (by exact ⟨⟨hz, hz⟩, ⟨(rt_3_11 hz), (vp_cst (rl_3_11 hz) hP)⟩⟩)) (pc' := 91) rfl (fun q10 => ?_)
          refine hp_ic_ge hm at0 rfl (by exact trivial) (pc' := 91) rfl 12 rfl (tgt := 110) rfl (fun c17 => ?_) (fun c17 => ?_)
          · exact hp_ir hm (at1 11 rfl) rfl (by exact trivial) (pc' := 111) rfl 4 rfl rfl rfl (fun _ e => e)
          · refine hp_cVS (M2 := M_Gl_readNumbers) hm (at1 12 rfl) (as := [(.int a5)]) (rest := []) (z := z) rfl (by exact trivial) (pc' := 96) rfl 5 rfl (lw_g (lw_at lw_m4 169 rfl) rfl) y_Gl_readNumbers rfl (d2 := 4) ⟨le_b rfl, pd_Gl_readNumbers, le_b rfl⟩ (le_b rfl) hz (k_Gl_readNumbers z a5 h3 hz) (fun a11 h4 => ?_)
            refine hp_if_eq hm at0 rfl (by exact trivial) (pc' := 99) rfl 11 rfl (tgt := 110) rfl (fun c16 => ?_) (fun c16 => ?_)
            · exact hp_ir hm (at1 11 rfl) rfl (by exact trivial) (pc' := 111) rfl 4 rfl rfl rfl (fun _ e => e)
            · refine hp_cVS (M2 := M_Gl_readMatrix) hm (at1 13 rfl) (as := [(.int a5)]) (rest := []) (z := z) rfl (by exact trivial) (pc' := 104) rfl 6 rfl (lw_g (lw_at lw_m4 178 rfl) rfl) y_Gl_readMatrix rfl (d2 := 4) ⟨le_b rfl, pd_Gl_readMatrix, le_b rfl⟩ (le_b rfl) hz (k_Gl_readMatrix z a5 h4 hz) (fun a12 h5 => ?_)
              refine hp_if_ne hm at0 rfl (by exact trivial) (pc' := 107) rfl 10 rfl (tgt := 112) rfl (fun c15 => ?_) (fun c15 => ?_)
              · refine hp_w hm (at1 14 rfl) (L' := [(3, (.int a5)), (0, (.ref z)), (1, (.int x1)), (2, (.int p1.1))]) rfl (by exact ⟨hz, hz⟩) (pc' := 122) rfl (fun h6 => ?_)
                refine hp_JZ 134 (fun (p13 : Int32) => [(0, (.ref z)), (1, (.int x1)), (3, (.int a5))]) (fun (p13 : Int32) => [(.int p13)]) (fun (p13 : Int32) => h6) ?_ (fun p13 => ?_)
                · refine hp_sv0 ?_
                  refine hp_if_eq hm (at1 15 rfl) rfl (by exact trivial) (pc' := 126) rfl 8 rfl (tgt := 133) rfl (fun c14 => ?_) (fun c14 => ?_)
                  · refine hp_b hm (at1 16 rfl) (L' := [(3, (.int a5)), (0, (.ref z)), (1, (.int x1)), (2, (.int p1.1))]) (st' := [(.int (0 : Int32))]) rfl (by exact trivial) (pc' := 134) rfl ?_
                    exact hp_lf [1, 2, 0] rfl (fun _ e => e)
                  · refine hp_b hm (at1 17 rfl) (L' := [(3, (.int a5)), (0, (.ref z)), (1, (.int x1)), (2, (.int p1.1))]) (st' := [(.int (1 : Int32))]) rfl (by exact trivial) (pc' := 130) rfl ?_
                    refine hp_goto hm 7 rfl (tgt := 134) rfl ?_
                    exact hp_lf [1, 2, 0] rfl (fun _ e => e)
                · refine hp_b hm (at1 18 rfl) (L' := [(2, (.int p13)), (0, (.ref z)), (1, (.int x1)), (3, (.int a5))]) (st' := []) rfl (by exact trivial) (pc' := 135) rfl ?_
                  refine hp_goto hm 9 rfl (tgt := 4) rfl ?_
                  exact hp_lf [1, 2, 0, 3] rfl (fun _ e => e)
              · exact hp_ir hm (at1 11 rfl) rfl (by exact trivial) (pc' := 111) rfl 4 rfl rfl rfl (fun _ e => e)
        · exact hp_ir hm (at1 3 rfl) rfl (by exact trivial) (pc' := 26) rfl 0 rfl rfl rfl (fun _ e => e)
  · refine hp_if_eq hm (at1 19 rfl) rfl (by exact trivial) (pc' := 143) rfl 20 rfl (tgt := 153) rfl (fun c23 => ?_) (fun c23 => ?_)
    · refine hp_b hm (at1 20 rfl) (L' := [(0, (.ref z)), (3, (.int p2.1))]) (st' := [(.int (1 : Int32))]) rfl (by exact trivial) (pc' := 154) rfl ?_
      refine hp_goto hm 17 rfl (tgt := 158) rfl ?_
      exact hp_ir hm at0 rfl (by exact trivial) (pc' := 158) rfl 16 rfl rfl rfl (fun _ e => e)
    · refine hp_cVS (M2 := M_Gl_readProgram) hm (at1 21 rfl) (as := []) (rest := []) (z := z) rfl (by exact trivial) (pc' := 147) rfl 18 rfl (lw_g (lw_at lw_m4 182 rfl) rfl) y_Gl_readProgram rfl (d2 := 3) ⟨le_b rfl, pd_Gl_readProgram, le_b rfl⟩ (le_b rfl) hz (k_Gl_readProgram z p2.2 hz) (fun a21 h7 => ?_)
      refine hp_if_eq hm at0 rfl (by exact trivial) (pc' := 150) rfl 19 rfl (tgt := 157) rfl (fun c22 => ?_) (fun c22 => ?_)
      · refine hp_b hm (at1 22 rfl) (L' := [(0, (.ref z)), (3, (.int p2.1))]) (st' := [(.int (0 : Int32))]) rfl (by exact trivial) (pc' := 158) rfl ?_
        exact hp_ir hm at0 rfl (by exact trivial) (pc' := 158) rfl 16 rfl rfl rfl (fun _ e => e)
      · refine hp_b hm (at1 20 rfl) (L' := [(0, (.ref z)), (3, (.int p2.1))]) (st' := [(.int (1 : Int32))]) rfl (by exact trivial) (pc' := 154) rfl ?_
        refine hp_goto hm 17 rfl (tgt := 158) rfl ?_
        exact hp_ir hm at0 rfl (by exact trivial) (pc' := 158) rfl 16 rfl rfl rfl (fun _ e => e)
/-! HintHouse$Glyph.readEnds()Z -/
def M_Gl_readEnds : hM := (3, ⟨"HintHouse$Glyph", "readEnds", "()Z"⟩, prog_4_method_4_code, 3, (Option.some Jvm.ClassFile.FieldType.boolean), [], [(0, [(.aload_n 0, 1, 0, 0, 0, .null), (.iconst 2, 1, 0, 0, 0, (.int (2 : Int32))), (.aload_n 0, 1, 0, 0, 0, .null), (.getfield 50, 3, 3, 0, 0, .null), (.imul, 1, 0, 0, 0, .null)]), (15, [(.iconst (-1), 1, 0, 0, 0, (.int (-1 : Int32))), (.istore_n 1, 1, 0, 0, 0, .null), (.iconst 0, 1, 0, 0, 0, (.int (0 : Int32))), (.istore_n 2, 1, 0, 0, 0, .null)]), (19, [(.iload_n 2, 1, 0, 0, 0, .null), (.aload_n 0, 1, 0, 0, 0, .null), (.getfield 50, 3, 3, 0, 0, .null)]), (27, [(.aload_n 0, 1, 0, 0, 0, .null), (.getfield 9, 3, 3, 3, 4, .null), (.iload_n 2, 1, 0, 0, 0, .null), (.aload_n 0, 1, 0, 0, 0, .null), (.getfield 39, 3, 3, 15, 3, .null), (.aload_n 0, 1, 0, 0, 0, .null), (.getfield 43, 3, 3, 16, 0, .null)]), (43, [(.iastore, 1, 0, 0, 0, .null)]), (44, [(.aload_n 0, 1, 0, 0, 0, .null), (.dup, 1, 0, 0, 0, .null), (.getfield 43, 3, 3, 16, 0, .null), (.iconst 2, 1, 0, 0, 0, (.int (2 : Int32))), (.iadd, 1, 0, 0, 0, .null), (.putfield 43, 3, 3, 16, 0, .null)]), (54, [(.aload_n 0, 1, 0, 0, 0, .null), (.getfield 9, 3, 3, 3, 4, .null), (.iload_n 2, 1, 0, 0, 0, .null), (.iaload, 1, 0, 0, 0, .null), (.iload_n 1, 1, 0, 0, 0, .null)]), (75, [(.iconst 0, 1, 0, 0, 0, (.int (0 : Int32)))]), (64, [(.aload_n 0, 1, 0, 0, 0, .null), (.getfield 9, 3, 3, 3, 4, .null), (.iload_n 2, 1, 0, 0, 0, .null), (.iaload, 1, 0, 0, 0, .null), (.bipush 100, 2, 0, 0, 0, (.int (100 : Int32)))]), (77, [(.aload_n 0, 1, 0, 0, 0, .null), (.getfield 9, 3, 3, 3, 4, .null), (.iload_n 2, 1, 0, 0, 0, .null), (.iaload, 1, 0, 0, 0, .null), (.istore_n 1, 1, 0, 0, 0, .null)]), (84, [(.iinc 2 1, 3, 0, 0, 0, (.int (1 : Int32)))]), (90, [(.aload_n 0, 1, 0, 0, 0, .null), (.iload_n 1, 1, 0, 0, 0, .null), (.iconst 1, 1, 0, 0, 0, (.int (1 : Int32))), (.iadd, 1, 0, 0, 0, .null), (.putfield 56, 3, 3, 2, 0, .null)]), (97, [(.iconst 1, 1, 0, 0, 0, (.int (1 : Int32)))]), (13, [(.iconst 0, 1, 0, 0, 0, (.int (0 : Int32)))])], [(7, .invokevirtual 95, 3), (40, .invokevirtual 98, 3), (76, .ireturn, 1), (87, .goto (-68), 3), (72, .if_icmp .lt 5, 3), (61, .if_icmp .le 14, 3), (24, .if_icmp .ge 66, 3), (98, .ireturn, 1), (14, .ireturn, 1), (10, .ifCond .ne 5, 3)])
set_option maxRecDepth 100000 in
theorem m_Gl_readEnds : hx_mok M_Gl_readEnds = true := by decide +kernel
theorem pd_Gl_readEnds : (parseMethodDescriptor M_Gl_readEnds.2.1.desc).map (fun q => q.parameters.length) = some 0 := by decide +kernel
theorem y_Gl_readEnds : hx_okV M_Gl_readEnds := ⟨⟨lw_g (lw_at lw_m4 191 rfl) rfl, lw_g (lw_at lw_m4 190 rfl) rfl, qs17, lw_g (lw_at lw_m1 4 rfl) rfl, rfl, by decide, by decide, by decide⟩, rfl, by decide, plainFor_of_name (by decide)⟩
noncomputable def f_Gl_readEnds (z : Nat) (h : hH) : Option (Int32 × hH) :=
  bP (f_Gl_has z ((2 : Int32) * (rdI h z 0)) h) fun a1 =>
  if a1 = 0 then (
    some ((0 : Int32), h)
  ) else (
    bE (P := (Int32 × hH)) (X := (Int32 × hH)) (
      wh (A := (Int32 × Int32 × hH)) (B := ((Int32 × hH) ⊕ (Int32 × hH))) (fun p2 =>
          if (rdI p2.2.2 z 0) ≤ p2.2.1 then (
            some (.inr (.inl (p2.1, p2.2.2)))
          ) else (
            gd (isA 1 (rdP p2.2.2 z 15)) <|
            bP (f_By_u2 (rdP p2.2.2 z 15) (rdI p2.2.2 z 16) p2.2.2) fun a5 =>
            gd (vp_in p2.2.1 12) <|
            lz (wrI p2.2.2 (rf z 3) (Int32.toNatClampNeg p2.2.1) a5) fun h1 =>
            lz (wrI h1 z 16 ((rdI h1 z 16) + (2 : Int32))) fun h2 =>
            gd (vp_in p2.2.1 12) <|
            if (rdI h2 (rf z 3) (Int32.toNatClampNeg p2.2.1)) ≤ p2.1 then (
              some (.inr (.inr ((0 : Int32), h2)))
            ) else (
              gd (vp_in p2.2.1 12) <|
              if (rdI h2 (rf z 3) (Int32.toNatClampNeg p2.2.1)) < (100 : Int32) then (
                gd (vp_in p2.2.1 12) <|
                lz (A := Int32) (rdI h2 (rf z 3) (Int32.toNatClampNeg p2.2.1)) fun v9 =>
                lz (A := Int32) (p2.2.1 + (1 : Int32)) fun v11 =>
                some (.inl (v9, v11, h2))
              ) else (
                some (.inr (.inr ((0 : Int32), h2)))
              )
            )
          )
      ) ((-1 : Int32), (0 : Int32), h)
    ) fun p3 =>
    lz (wrI p3.2 z 2 (p3.1 + (1 : Int32))) fun h3 =>
    some ((1 : Int32), h3)
  )
set_option maxRecDepth 20000 in
theorem k_Gl_readEnds (z : Nat) (h : hH) (hz : isA 3 z) : hx_kS S0 M_Gl_readEnds 3 NT [(.ref z)] h (f_Gl_readEnds z h) cvI := by
  have hm := m_Gl_readEnds
  show hx_P S0 M_Gl_readEnds 3 0 [(0, (.ref z))] [] NT h (f_Gl_readEnds z h) (hx_Rc cvI NT)
  unfold f_Gl_readEnds
  refine hp_cVP (M2 := M_Gl_has) hm (at1 0 rfl) (as := [(.int ((2 : Int32) * (rdI h z 0)))]) (rest := []) (z := z) rfl (by exact hz) (pc' := 7) rfl 0 rfl (lw_g (lw_at lw_m4 164 rfl) rfl) y_Gl_has rfl (d2 := 1) ⟨le_b rfl, pd_Gl_has, le_b rfl⟩ (le_b rfl) hz (k_Gl_has z ((2 : Int32) * (rdI h z 0)) h hz) (fun a1 => ?_)
  refine hp_if_ne hm at0 rfl (by exact trivial) (pc' := 10) rfl 9 rfl (tgt := 15) rfl (fun c15 => ?_) (fun c15 => ?_)
  · refine hp_b hm (at1 1 rfl) (L' := [(2, (.int (0 : Int32))), (1, (.int (-1 : Int32))), (0, (.ref z))]) (st' := []) rfl (by exact trivial) (pc' := 19) rfl ?_
    refine hp_E 90 (fun (p3 : (Int32 × hH)) => [(0, (.ref z)), (1, (.int p3.1))]) (fun (p3 : (Int32 × hH)) => []) (fun (p3 : (Int32 × hH)) => p3.2) ?_ (fun p3 => ?_)
    · refine hp_s [2, 1, 0] rfl (L' := [(0, (.ref z)), (1, (.int (-1 : Int32))), (2, (.int (0 : Int32)))]) ?_
      refine hp_wh (fun (p2 : (Int32 × Int32 × hH)) => [(0, (.ref z)), (1, (.int p2.1)), (2, (.int p2.2.1))]) [] (fun (p2 : (Int32 × Int32 × hH)) => p2.2.2) (fun p2 => ?_) ((-1 : Int32), (0 : Int32), h)
      refine hp_ic_ge hm (at1 2 rfl) rfl (by exact hz) (pc' := 24) rfl 6 rfl (tgt := 90) rfl (fun c14 => ?_) (fun c14 => ?_)
      · exact hp_lf [0, 1] rfl (fun _ e => e)
      · refine hp_G0 (fun q4 => ?_)
        refine hp_b hm (at1 3 rfl) (L' := [(0, (.ref z)), (1, (.int p2.1)), (2, (.int p2.2.1))]) (st' := [(.int (rdI p2.2.2 z 16)), (.ref (rdP p2.2.2 z 15)), (.int p2.2.1), (.ref (rf z 3))]) rfl (by exact ⟨⟨hz, hz⟩, hz⟩) (pc' := 40) rfl ?_
        refine hp_cVP (M2 := M_By_u2) hm at0 (as := [(.int (rdI p2.2.2 z 16))]) (rest := [(.int p2.2.1), (.ref (rf z 3))]) (z := (rdP p2.2.2 z 15)) rfl (by exact trivial) (pc' := 40) rfl 1 rfl (lw_g (lw_at lw_m4 168 rfl) rfl) y_By_u2 rfl (d2 := 2) ⟨le_b rfl, pd_By_u2, le_b rfl⟩ (le_b rfl) q4 (k_By_u2 (rdP p2.2.2 z 15) (rdI p2.2.2 z 16) p2.2.2 q4) (fun a5 => ?_)
        refine hp_GW hm (at1 4 rfl) (L' := [(0, (.ref z)), (1, (.int p2.1)), (2, (.int p2.2.1))]) rfl (fun hP => (by exact ⟨(rt_3_3 hz), (vp_cst (rl_3_3 hz) hP)⟩)) (pc' := 44) rfl (fun q6 h1 => ?_)
        refine hp_w hm (at1 5 rfl) (L' := [(0, (.ref z)), (1, (.int p2.1)), (2, (.int p2.2.1))]) rfl (by exact ⟨hz, hz⟩) (pc' := 54) rfl (fun h2 => ?_)
        refine hp_G hm (at1 6 rfl) (L' := [(0, (.ref z)), (1, (.int p2.1)), (2, (.int p2.2.1))]) (st' := [(.int p2.1), (.int (rdI h2 (rf z 3) (Int32.toNatClampNeg p2.2.1)))]) rfl (fun hP => (by exact ⟨hz, ⟨(rt_3_3 hz), (vp_cst (rl_3_3 hz) hP)⟩⟩)) (pc' := 61) rfl (fun q7 => ?_)
        refine hp_ic_le hm at0 rfl (by exact trivial) (pc' := 61) rfl 5 rfl (tgt := 75) rfl (fun c13 => ?_) (fun c13 => ?_)
        · exact hp_ir hm (at1 7 rfl) rfl (by exact trivial) (pc' := 76) rfl 2 rfl rfl rfl (fun _ e => e)
        · refine hp_G hm (at1 8 rfl) (L' := [(0, (.ref z)), (1, (.int p2.1)), (2, (.int p2.2.1))]) (st' := [(.int (100 : Int32)), (.int (rdI h2 (rf z 3) (Int32.toNatClampNeg p2.2.1)))]) rfl (fun hP => (by exact ⟨hz, ⟨(rt_3_3 hz), (vp_cst (rl_3_3 hz) hP)⟩⟩)) (pc' := 72) rfl (fun q8 => ?_)
          refine hp_ic_lt hm at0 rfl (by exact trivial) (pc' := 72) rfl 4 rfl (tgt := 77) rfl (fun c12 => ?_) (fun c12 => ?_)
          · refine hp_GZ hm (at1 9 rfl) (fun (v9 : Int32) => [(1, (.int v9)), (0, (.ref z)), (2, (.int p2.2.1))]) (fun (v9 : Int32) => []) rfl (fun hP => (by exact ⟨hz, ⟨(rt_3_3 hz), (vp_cst (rl_3_3 hz) hP)⟩⟩)) (pc' := 84) rfl (fun q10 v9 => ?_)
            refine hp_z hm (at1 10 rfl) (fun (v11 : Int32) => [(2, (.int v11)), (1, (.int v9)), (0, (.ref z))]) (fun (v11 : Int32) => []) rfl (by exact trivial) (pc' := 87) rfl (fun v11 => ?_)
            refine hp_goto hm 3 rfl (tgt := 19) rfl ?_
            exact hp_lf [2, 1, 0] rfl (fun _ e => e)
          · exact hp_ir hm (at1 7 rfl) rfl (by exact trivial) (pc' := 76) rfl 2 rfl rfl rfl (fun _ e => e)
    · refine hp_w hm (at1 11 rfl) (L' := [(0, (.ref z)), (1, (.int p3.1))]) rfl (by exact hz) (pc' := 97) rfl (fun h3 => ?_)
      exact hp_ir hm (at1 12 rfl) rfl (by exact trivial) (pc' := 98) rfl 7 rfl rfl rfl (fun _ e => e)
  · exact hp_ir hm (at1 13 rfl) rfl (by exact trivial) (pc' := 14) rfl 8 rfl rfl rfl (fun _ e => e)
/-! HintHouse$Glyph.readFlags()Z -/
def M_Gl_readFlags : hM := (3, ⟨"HintHouse$Glyph", "readFlags", "()Z"⟩, prog_4_method_6_code, 5, (Option.some Jvm.ClassFile.FieldType.boolean), [], [(0, [(.iconst 0, 1, 0, 0, 0, (.int (0 : Int32))), (.istore_n 1, 1, 0, 0, 0, .null)]), (2, [(.iload_n 1, 1, 0, 0, 0, .null), (.aload_n 0, 1, 0, 0, 0, .null), (.getfield 56, 3, 3, 2, 0, .null)]), (10, [(.aload_n 0, 1, 0, 0, 0, .null), (.iconst 1, 1, 0, 0, 0, (.int (1 : Int32)))]), (20, [(.aload_n 0, 1, 0, 0, 0, .null), (.getfield 39, 3, 3, 15, 3, .null), (.aload_n 0, 1, 0, 0, 0, .null), (.getfield 43, 3, 3, 16, 0, .null)]), (31, [(.istore_n 2, 1, 0, 0, 0, .null), (.aload_n 0, 1, 0, 0, 0, .null), (.dup, 1, 0, 0, 0, .null), (.getfield 43, 3, 3, 16, 0, .null), (.iconst 1, 1, 0, 0, 0, (.int (1 : Int32))), (.iadd, 1, 0, 0, 0, .null), (.putfield 43, 3, 3, 16, 0, .null)]), (42, [(.iconst 0, 1, 0, 0, 0, (.int (0 : Int32))), (.istore_n 3, 1, 0, 0, 0, .null), (.iload_n 2, 1, 0, 0, 0, .null), (.bipush 8, 2, 0, 0, 0, (.int (8 : Int32))), (.iand, 1, 0, 0, 0, .null)]), (51, [(.aload_n 0, 1, 0, 0, 0, .null), (.iconst 1, 1, 0, 0, 0, (.int (1 : Int32)))]), (61, [(.aload_n 0, 1, 0, 0, 0, .null), (.getfield 39, 3, 3, 15, 3, .null), (.aload_n 0, 1, 0, 0, 0, .null), (.getfield 43, 3, 3, 16, 0, .null)]), (72, [(.istore_n 3, 1, 0, 0, 0, .null), (.aload_n 0, 1, 0, 0, 0, .null), (.dup, 1, 0, 0, 0, .null), (.getfield 43, 3, 3, 16, 0, .null), (.iconst 1, 1, 0, 0, 0, (.int (1 : Int32))), (.iadd, 1, 0, 0, 0, .null), (.putfield 43, 3, 3, 16, 0, .null)]), (59, [(.iconst 0, 1, 0, 0, 0, (.int (0 : Int32)))]), (83, [(.iload_n 1, 1, 0, 0, 0, .null), (.iload_n 3, 1, 0, 0, 0, .null), (.iadd, 1, 0, 0, 0, .null), (.aload_n 0, 1, 0, 0, 0, .null), (.getfield 56, 3, 3, 2, 0, .null)]), (95, [(.iconst 0, 1, 0, 0, 0, (.int (0 : Int32))), (.istore 4, 2, 0, 0, 0, .null)]), (98, [(.iload 4, 2, 0, 0, 0, .null), (.iload_n 3, 1, 0, 0, 0, .null)]), (104, [(.aload_n 0, 1, 0, 0, 0, .null), (.getfield 21, 3, 3, 6, 4, .null), (.iload_n 1, 1, 0, 0, 0, .null), (.iload_n 2, 1, 0, 0, 0, .null), (.iastore, 1, 0, 0, 0, .null)]), (111, [(.iinc 1 1, 3, 0, 0, 0, (.int (1 : Int32)))]), (114, [(.iinc 4 1, 3, 0, 0, 0, (.int (1 : Int32)))]), (93, [(.iconst 0, 1, 0, 0, 0, (.int (0 : Int32)))]), (18, [(.iconst 0, 1, 0, 0, 0, (.int (0 : Int32)))]), (123, [(.iconst 1, 1, 0, 0, 0, (.int (1 : Int32)))])], [(12, .invokevirtual 95, 3), (28, .invokevirtual 104, 3), (53, .invokevirtual 95, 3), (69, .invokevirtual 104, 3), (60, .ireturn, 1), (56, .ifCond .ne 5, 3), (48, .ifCond .eq 35, 3), (117, .goto (-19), 3), (101, .if_icmp .gt 19, 3), (120, .goto (-118), 3), (94, .ireturn, 1), (90, .if_icmp .lt 5, 3), (19, .ireturn, 1), (15, .ifCond .ne 5, 3), (7, .if_icmp .ge 116, 3), (124, .ireturn, 1)])
set_option maxRecDepth 100000 in
theorem m_Gl_readFlags : hx_mok M_Gl_readFlags = true := by decide +kernel
theorem pd_Gl_readFlags : (parseMethodDescriptor M_Gl_readFlags.2.1.desc).map (fun q => q.parameters.length) = some 0 := by decide +kernel
theorem y_Gl_readFlags : hx_okV M_Gl_readFlags := ⟨⟨lw_g (lw_at lw_m4 195 rfl) rfl, lw_g (lw_at lw_m4 194 rfl) rfl, qs18, lw_g (lw_at lw_m1 4 rfl) rfl, rfl, by decide, by decide, by decide⟩, rfl, by decide, plainFor_of_name (by decide)⟩
noncomputable def f_Gl_readFlags (z : Nat) (h : hH) : Option (Int32 × hH) :=
  bE (P := hH) (X := (Int32 × hH)) (
    wh (A := (Int32 × hH)) (B := (hH ⊕ (Int32 × hH))) (fun p1 =>
        if (rdI p1.2 z 2) ≤ p1.1 then (
          some (.inr (.inl p1.2))
        ) else (
          bP (f_Gl_has z (1 : Int32) p1.2) fun a3 =>
          if a3 = 0 then (
            some (.inr (.inr ((0 : Int32), p1.2)))
          ) else (
            gd (isA 1 (rdP p1.2 z 15)) <|
            bP (f_By_u1 (rdP p1.2 z 15) (rdI p1.2 z 16) p1.2) fun a5 =>
            lz (wrI p1.2 z 16 ((rdI p1.2 z 16) + (1 : Int32))) fun h1 =>
            bE (P := (Int32 × hH)) (X := ((Int32 × hH) ⊕ (hH ⊕ (Int32 × hH)))) (
              if (a5 &&& (8 : Int32)) = 0 then (
                some (.inl ((0 : Int32), h1))
              ) else (
                bP (f_Gl_has z (1 : Int32) h1) fun a7 =>
                if a7 = 0 then (
                  some (.inr (.inr (.inr ((0 : Int32), h1))))
                ) else (
                  gd (isA 1 (rdP h1 z 15)) <|
                  bP (f_By_u1 (rdP h1 z 15) (rdI h1 z 16) h1) fun a9 =>
                  lz (wrI h1 z 16 ((rdI h1 z 16) + (1 : Int32))) fun h2 =>
                  some (.inl (a9, h2))
                )
              )
            ) fun p6 =>
            if (p1.1 + p6.1) < (rdI p6.2 z 2) then (
              bP (A := (Int32 × hH)) (
                wh (A := (Int32 × Int32 × hH)) (B := (Int32 × hH)) (fun p12 =>
                    if p6.1 < p12.2.1 then (
                      some (.inr (p12.1, p12.2.2))
                    ) else (
                      gd (vp_in p12.1 100) <|
                      lz (wrI p12.2.2 (rf z 6) (Int32.toNatClampNeg p12.1) a5) fun h3 =>
                      lz (A := Int32) (p12.1 + (1 : Int32)) fun v15 =>
                      lz (A := Int32) (p12.2.1 + (1 : Int32)) fun v16 =>
                      some (.inl (v15, v16, h3))
                    )
                ) (p1.1, (0 : Int32), p6.2)
              ) fun p13 =>
              some (.inl (p13.1, p13.2))
            ) else (
              some (.inr (.inr ((0 : Int32), p6.2)))
            )
          )
        )
    ) ((0 : Int32), h)
  ) fun p2 =>
  some ((1 : Int32), p2)
set_option maxRecDepth 20000 in
theorem k_Gl_readFlags (z : Nat) (h : hH) (hz : isA 3 z) : hx_kS S0 M_Gl_readFlags 2 NT [(.ref z)] h (f_Gl_readFlags z h) cvI := by
  have hm := m_Gl_readFlags
  show hx_P S0 M_Gl_readFlags 2 0 [(0, (.ref z))] [] NT h (f_Gl_readFlags z h) (hx_Rc cvI NT)
  unfold f_Gl_readFlags
  refine hp_b hm (at1 0 rfl) (L' := [(1, (.int (0 : Int32))), (0, (.ref z))]) (st' := []) rfl (by exact trivial) (pc' := 2) rfl ?_
  refine hp_E 123 (fun (p2 : hH) => []) (fun (p2 : hH) => []) (fun (p2 : hH) => p2) ?_ (fun p2 => ?_)
  · refine hp_s [1, 0] rfl (L' := [(0, (.ref z)), (1, (.int (0 : Int32)))]) ?_
    refine hp_wh (fun (p1 : (Int32 × hH)) => [(0, (.ref z)), (1, (.int p1.1))]) [] (fun (p1 : (Int32 × hH)) => p1.2) (fun p1 => ?_) ((0 : Int32), h)
    refine hp_ic_ge hm (at1 1 rfl) rfl (by exact hz) (pc' := 7) rfl 14 rfl (tgt := 123) rfl (fun c20 => ?_) (fun c20 => ?_)
    · exact hp_lf [] rfl (fun _ e => e)
    · refine hp_cVP (M2 := M_Gl_has) hm (at1 2 rfl) (as := [(.int (1 : Int32))]) (rest := []) (z := z) rfl (by exact trivial) (pc' := 12) rfl 0 rfl (lw_g (lw_at lw_m4 164 rfl) rfl) y_Gl_has rfl (d2 := 1) ⟨le_b rfl, pd_Gl_has, le_b rfl⟩ (le_b rfl) hz (k_Gl_has z (1 : Int32) p1.2 hz) (fun a3 => ?_)
      refine hp_if_ne hm at0 rfl (by exact trivial) (pc' := 15) rfl 13 rfl (tgt := 20) rfl (fun c19 => ?_) (fun c19 => ?_)
      · refine hp_G0 (fun q4 => ?_)
        refine hp_b hm (at1 3 rfl) (L' := [(0, (.ref z)), (1, (.int p1.1))]) (st' := [(.int (rdI p1.2 z 16)), (.ref (rdP p1.2 z 15))]) rfl (by exact ⟨hz, hz⟩) (pc' := 28) rfl ?_
        refine hp_cVP (M2 := M_By_u1) hm at0 (as := [(.int (rdI p1.2 z 16))]) (rest := []) (z := (rdP p1.2 z 15)) rfl (by exact trivial) (pc' := 28) rfl 1 rfl (lw_g (lw_at lw_m4 177 rfl) rfl) y_By_u1 rfl (d2 := 1) ⟨le_b rfl, pd_By_u1, le_b rfl⟩ (le_b rfl) q4 (k_By_u1 (rdP p1.2 z 15) (rdI p1.2 z 16) p1.2 q4) (fun a5 => ?_)
        refine hp_w hm (at1 4 rfl) (L' := [(2, (.int a5)), (0, (.ref z)), (1, (.int p1.1))]) rfl (by exact ⟨hz, hz⟩) (pc' := 42) rfl (fun h1 => ?_)
        refine hp_b hm (at1 5 rfl) (L' := [(3, (.int (0 : Int32))), (2, (.int a5)), (0, (.ref z)), (1, (.int p1.1))]) (st' := [(.int (a5 &&& (8 : Int32)))]) rfl (by exact trivial) (pc' := 48) rfl ?_
        refine hp_E 83 (fun (p6 : (Int32 × hH)) => [(0, (.ref z)), (1, (.int p1.1)), (2, (.int a5)), (3, (.int p6.1))]) (fun (p6 : (Int32 × hH)) => []) (fun (p6 : (Int32 × hH)) => p6.2) ?_ (fun p6 => ?_)
        · refine hp_if_eq hm at0 rfl (by exact trivial) (pc' := 48) rfl 6 rfl (tgt := 83) rfl (fun c11 => ?_) (fun c11 => ?_)
          · exact hp_lf [2, 3, 1, 0] rfl (fun _ e => e)
          · refine hp_cVP (M2 := M_Gl_has) hm (at1 6 rfl) (as := [(.int (1 : Int32))]) (rest := []) (z := z) rfl (by exact trivial) (pc' := 53) rfl 2 rfl (lw_g (lw_at lw_m4 164 rfl) rfl) y_Gl_has rfl (d2 := 1) ⟨le_b rfl, pd_Gl_has, le_b rfl⟩ (le_b rfl) hz (k_Gl_has z (1 : Int32) h1 hz) (fun a7 => ?_)
            refine hp_if_ne hm at0 rfl (by exact trivial) (pc' := 56) rfl 5 rfl (tgt := 61) rfl (fun c10 => ?_) (fun c10 => ?_)
            · refine hp_G0 (fun q8 => ?_)
              refine hp_b hm (at1 7 rfl) (L' := [(3, (.int (0 : Int32))), (2, (.int a5)), (0, (.ref z)), (1, (.int p1.1))]) (st' := [(.int (rdI h1 z 16)), (.ref (rdP h1 z 15))]) rfl (by exact ⟨hz, hz⟩) (pc' := 69) rfl ?_
              refine hp_cVP (M2 := M_By_u1) hm at0 (as := [(.int (rdI h1 z 16))]) (rest := []) (z := (rdP h1 z 15)) rfl (by exact trivial) (pc' := 69) rfl 3 rfl (lw_g (lw_at lw_m4 177 rfl) rfl) y_By_u1 rfl (d2 := 1) ⟨le_b rfl, pd_By_u1, le_b rfl⟩ (le_b rfl) q8 (k_By_u1 (rdP h1 z 15) (rdI h1 z 16) h1 q8) (fun a9 => ?_)
              refine hp_w hm (at1 8 rfl) (L' := [(3, (.int a9)), (2, (.int a5)), (0, (.ref z)), (1, (.int p1.1))]) rfl (by exact ⟨hz, hz⟩) (pc' := 83) rfl (fun h2 => ?_)
              exact hp_lf [2, 3, 1, 0] rfl (fun _ e => e)
            · exact hp_ir hm (at1 9 rfl) rfl (by exact trivial) (pc' := 60) rfl 4 rfl rfl rfl (fun _ e => e)
        · refine hp_ic_lt hm (at1 10 rfl) rfl (by exact hz) (pc' := 90) rfl 11 rfl (tgt := 95) rfl (fun c18 => ?_) (fun c18 => ?_)
          · refine hp_b hm (at1 11 rfl) (L' := [(4, (.int (0 : Int32))), (0, (.ref z)), (1, (.int p1.1)), (2, (.int a5)), (3, (.int p6.1))]) (st' := []) rfl (by exact trivial) (pc' := 98) rfl ?_
            refine hp_J 120 (fun (p13 : (Int32 × hH)) => [(0, (.ref z)), (1, (.int p13.1))]) (fun (p13 : (Int32 × hH)) => []) (fun (p13 : (Int32 × hH)) => p13.2) ?_ (fun p13 => ?_)
            · refine hp_s [1, 2, 3, 4, 0] rfl (L' := [(0, (.ref z)), (1, (.int p1.1)), (2, (.int a5)), (3, (.int p6.1)), (4, (.int (0 : Int32)))]) ?_
              refine hp_wh (fun (p12 : (Int32 × Int32 × hH)) => [(0, (.ref z)), (1, (.int p12.1)), (2, (.int a5)), (3, (.int p6.1)), (4, (.int p12.2.1))]) [] (fun (p12 : (Int32 × Int32 × hH)) => p12.2.2) (fun p12 => ?_) (p1.1, (0 : Int32), p6.2)
              refine hp_ic_gt hm (at1 12 rfl) rfl (by exact trivial) (pc' := 101) rfl 8 rfl (tgt := 120) rfl (fun c17 => ?_) (fun c17 => ?_)
              · exact hp_lf [0, 1] rfl (fun _ e => e)
              · refine hp_GW hm (at1 13 rfl) (L' := [(0, (.ref z)), (1, (.int p12.1)), (2, (.int a5)), (3, (.int p6.1)), (4, (.int p12.2.1))]) rfl (fun hP => (by exact ⟨hz, ⟨(rt_3_6 hz), (vp_cst (rl_3_6 hz) hP)⟩⟩)) (pc' := 111) rfl (fun q14 h3 => ?_)
                refine hp_z hm (at1 14 rfl) (fun (v15 : Int32) => [(1, (.int v15)), (0, (.ref z)), (2, (.int a5)), (3, (.int p6.1)), (4, (.int p12.2.1))]) (fun (v15 : Int32) => []) rfl (by exact trivial) (pc' := 114) rfl (fun v15 => ?_)
                refine hp_z hm (at1 15 rfl) (fun (v16 : Int32) => [(4, (.int v16)), (1, (.int v15)), (0, (.ref z)), (2, (.int a5)), (3, (.int p6.1))]) (fun (v16 : Int32) => []) rfl (by exact trivial) (pc' := 117) rfl (fun v16 => ?_)
                refine hp_goto hm 7 rfl (tgt := 98) rfl ?_
                exact hp_lf [2, 1, 3, 4, 0] rfl (fun _ e => e)
            · refine hp_goto hm 9 rfl (tgt := 2) rfl ?_
              exact hp_lf [0, 1] rfl (fun _ e => e)
          · exact hp_ir hm (at1 16 rfl) rfl (by exact trivial) (pc' := 94) rfl 10 rfl rfl rfl (fun _ e => e)
      · exact hp_ir hm (at1 17 rfl) rfl (by exact trivial) (pc' := 19) rfl 12 rfl rfl rfl (fun _ e => e)
  · exact hp_ir hm (at1 18 rfl) rfl (by exact trivial) (pc' := 124) rfl 15 rfl rfl rfl (fun _ e => e)
/-! HintHouse$Glyph.readPlaces([III)Z -/
def M_Gl_readPlaces : hM := (3, ⟨"HintHouse$Glyph", "readPlaces", "([III)Z"⟩, prog_4_method_7_code, 9, (Option.some Jvm.ClassFile.FieldType.boolean), [], [(0, [(.iconst 0, 1, 0, 0, 0, (.int (0 : Int32))), (.istore 4, 2, 0, 0, 0, .null), (.iconst 0, 1, 0, 0, 0, (.int (0 : Int32))), (.istore 5, 2, 0, 0, 0, .null)]), (6, [(.iload 5, 2, 0, 0, 0, .null), (.aload_n 0, 1, 0, 0, 0, .null), (.getfield 56, 3, 3, 2, 0, .null)]), (15, [(.aload_n 0, 1, 0, 0, 0, .null), (.getfield 21, 3, 3, 6, 4, .null), (.iload 5, 2, 0, 0, 0, .null), (.iaload, 1, 0, 0, 0, .null), (.iload_n 2, 1, 0, 0, 0, .null), (.iand, 1, 0, 0, 0, .null)]), (31, [(.iconst 0, 1, 0, 0, 0, (.int (0 : Int32)))]), (27, [(.iconst 1, 1, 0, 0, 0, (.int (1 : Int32)))]), (32, [(.istore 6, 2, 0, 0, 0, .null), (.aload_n 0, 1, 0, 0, 0, .null), (.getfield 21, 3, 3, 6, 4, .null), (.iload 5, 2, 0, 0, 0, .null), (.iaload, 1, 0, 0, 0, .null), (.iload_n 3, 1, 0, 0, 0, .null), (.iand, 1, 0, 0, 0, .null)]), (50, [(.iconst 0, 1, 0, 0, 0, (.int (0 : Int32)))]), (46, [(.iconst 1, 1, 0, 0, 0, (.int (1 : Int32)))]), (51, [(.istore 7, 2, 0, 0, 0, .null), (.iload 6, 2, 0, 0, 0, .null)]), (62, [(.iload 7, 2, 0, 0, 0, .null)]), (71, [(.iconst 2, 1, 0, 0, 0, (.int (2 : Int32)))]), (67, [(.iconst 0, 1, 0, 0, 0, (.int (0 : Int32)))]), (58, [(.iconst 1, 1, 0, 0, 0, (.int (1 : Int32)))]), (72, [(.istore 8, 2, 0, 0, 0, .null), (.aload_n 0, 1, 0, 0, 0, .null), (.iload 8, 2, 0, 0, 0, .null)]), (85, [(.iload 4, 2, 0, 0, 0, .null), (.iload 8, 2, 0, 0, 0, .null), (.iconst 1, 1, 0, 0, 0, (.int (1 : Int32)))]), (127, [(.iload 8, 2, 0, 0, 0, .null), (.iconst 2, 1, 0, 0, 0, (.int (2 : Int32)))]), (147, [(.iconst 0, 1, 0, 0, 0, (.int (0 : Int32)))]), (133, [(.aload_n 0, 1, 0, 0, 0, .null), (.getfield 39, 3, 3, 15, 3, .null), (.aload_n 0, 1, 0, 0, 0, .null), (.getfield 43, 3, 3, 16, 0, .null)]), (93, [(.iload 7, 2, 0, 0, 0, .null)]), (112, [(.aload_n 0, 1, 0, 0, 0, .null), (.getfield 39, 3, 3, 15, 3, .null), (.aload_n 0, 1, 0, 0, 0, .null), (.getfield 43, 3, 3, 16, 0, .null)]), (123, [(.ineg, 1, 0, 0, 0, .null)]), (98, [(.aload_n 0, 1, 0, 0, 0, .null), (.getfield 39, 3, 3, 15, 3, .null), (.aload_n 0, 1, 0, 0, 0, .null), (.getfield 43, 3, 3, 16, 0, .null)]), (148, [(.iadd, 1, 0, 0, 0, .null), (.istore 4, 2, 0, 0, 0, .null)]), (151, [(.aload_n 0, 1, 0, 0, 0, .null), (.dup, 1, 0, 0, 0, .null), (.getfield 43, 3, 3, 16, 0, .null), (.iload 8, 2, 0, 0, 0, .null), (.iadd, 1, 0, 0, 0, .null), (.putfield 43, 3, 3, 16, 0, .null)]), (162, [(.aload_n 1, 1, 0, 0, 0, .null), (.iload 5, 2, 0, 0, 0, .null), (.iload 4, 2, 0, 0, 0, .null), (.iastore, 1, 0, 0, 0, .null)]), (168, [(.iinc 5 1, 3, 0, 0, 0, (.int (1 : Int32)))]), (83, [(.iconst 0, 1, 0, 0, 0, (.int (0 : Int32)))]), (174, [(.iconst 1, 1, 0, 0, 0, (.int (1 : Int32)))])], [(28, .goto 4, 3), (24, .ifCond .eq 7, 3), (47, .goto 4, 3), (43, .ifCond .eq 7, 3), (68, .goto 4, 3), (64, .ifCond .eq 7, 3), (59, .goto 13, 3), (55, .ifCond .eq 7, 3), (77, .invokevirtual 95, 3), (141, .invokevirtual 65, 3), (144, .goto 4, 3), (130, .if_icmp .ne 17, 3), (120, .invokevirtual 104, 3), (124, .goto 24, 3), (106, .invokevirtual 104, 3), (109, .goto 39, 3), (95, .ifCond .eq 17, 3), (90, .if_icmp .ne 37, 3), (171, .goto (-165), 3), (84, .ireturn, 1), (80, .ifCond .ne 5, 3), (12, .if_icmp .ge 162, 3), (175, .ireturn, 1)])
set_option maxRecDepth 100000 in
theorem m_Gl_readPlaces : hx_mok M_Gl_readPlaces = true := by decide +kernel
theorem pd_Gl_readPlaces : (parseMethodDescriptor M_Gl_readPlaces.2.1.desc).map (fun q => q.parameters.length) = some 3 := by decide +kernel
theorem y_Gl_readPlaces : hx_okV M_Gl_readPlaces := ⟨⟨lw_g (lw_at lw_m4 199 rfl) rfl, lw_g (lw_at lw_m4 198 rfl) rfl, qs19, lw_g (lw_at lw_m1 4 rfl) rfl, rfl, by decide, by decide, by decide⟩, rfl, by decide, plainFor_of_name (by decide)⟩
noncomputable def f_Gl_readPlaces (z : Nat) (x1 : Nat) (x2 : Int32) (x3 : Int32) (h : hH) : Option (Int32 × hH) :=
  bE (P := hH) (X := (Int32 × hH)) (
    wh (A := (Int32 × Int32 × hH)) (B := (hH ⊕ (Int32 × hH))) (fun p1 =>
        if (rdI p1.2.2 z 2) ≤ p1.2.1 then (
          some (.inr (.inl p1.2.2))
        ) else (
          gd (vp_in p1.2.1 100) <|
          lz (A := Int32) (if ((rdI p1.2.2 (rf z 6) (Int32.toNatClampNeg p1.2.1)) &&& x2) = 0 then (0 : Int32) else (1 : Int32)) fun p4 =>
          gd (vp_in p1.2.1 100) <|
          lz (A := Int32) (if ((rdI p1.2.2 (rf z 6) (Int32.toNatClampNeg p1.2.1)) &&& x3) = 0 then (0 : Int32) else (1 : Int32)) fun p7 =>
          lz (A := Int32) (if p4 = 0 then (if p7 = 0 then (2 : Int32) else (0 : Int32)) else (1 : Int32)) fun p9 =>
          bP (f_Gl_has z p9 p1.2.2) fun a12 =>
          if a12 = 0 then (
            some (.inr (.inr ((0 : Int32), p1.2.2)))
          ) else (
            bP (A := Int32) (
              if p9 = (1 : Int32) then (
                if p7 = 0 then (
                  gd (isA 1 (rdP p1.2.2 z 15)) <|
                  bP (f_By_u1 (rdP p1.2.2 z 15) (rdI p1.2.2 z 16) p1.2.2) fun a18 =>
                  some (-a18)
                ) else (
                  gd (isA 1 (rdP p1.2.2 z 15)) <|
                  bP (f_By_u1 (rdP p1.2.2 z 15) (rdI p1.2.2 z 16) p1.2.2) fun a20 =>
                  some a20
                )
              ) else (
                if p9 = (2 : Int32) then (
                  gd (isA 1 (rdP p1.2.2 z 15)) <|
                  bP (f_By_s2 (rdP p1.2.2 z 15) (rdI p1.2.2 z 16) p1.2.2) fun a15 =>
                  some a15
                ) else (
                  some (0 : Int32)
                )
              )
            ) fun p13 =>
            lz (A := Int32) (p1.1 + p13) fun v23 =>
            lz (wrI p1.2.2 z 16 ((rdI p1.2.2 z 16) + p9)) fun h1 =>
            gd (vp_in p1.2.1 (ln x1)) <|
            lz (wrI h1 x1 (Int32.toNatClampNeg p1.2.1) v23) fun h2 =>
            lz (A := Int32) (p1.2.1 + (1 : Int32)) fun v25 =>
            some (.inl (v23, v25, h2))
          )
        )
    ) ((0 : Int32), (0 : Int32), h)
  ) fun p2 =>
  some ((1 : Int32), p2)
set_option maxRecDepth 20000 in
theorem k_Gl_readPlaces (z : Nat) (x1 : Nat) (x2 : Int32) (x3 : Int32) (h : hH) (hz : isA 3 z) (hx1 : isA 100 x1) : hx_kS S0 M_Gl_readPlaces 4 NT [(.ref z), (.ref x1), (.int x2), (.int x3)] h (f_Gl_readPlaces z x1 x2 x3 h) cvI := by
  have hm := m_Gl_readPlaces
  show hx_P S0 M_Gl_readPlaces 4 0 [(0, (.ref z)), (1, (.ref x1)), (2, (.int x2)), (3, (.int x3))] [] NT h (f_Gl_readPlaces z x1 x2 x3 h) (hx_Rc cvI NT)
  unfold f_Gl_readPlaces
  refine hp_b hm (at1 0 rfl) (L' := [(5, (.int (0 : Int32))), (4, (.int (0 : Int32))), (0, (.ref z)), (1, (.ref x1)), (2, (.int x2)), (3, (.int x3))]) (st' := []) rfl (by exact trivial) (pc' := 6) rfl ?_
  refine hp_E 174 (fun (p2 : hH) => []) (fun (p2 : hH) => []) (fun (p2 : hH) => p2) ?_ (fun p2 => ?_)
  · refine hp_s [2, 3, 4, 5, 1, 0] rfl (L' := [(0, (.ref z)), (1, (.ref x1)), (2, (.int x2)), (3, (.int x3)), (4, (.int (0 : Int32))), (5, (.int (0 : Int32)))]) ?_
    refine hp_wh (fun (p1 : (Int32 × Int32 × hH)) => [(0, (.ref z)), (1, (.ref x1)), (2, (.int x2)), (3, (.int x3)), (4, (.int p1.1)), (5, (.int p1.2.1))]) [] (fun (p1 : (Int32 × Int32 × hH)) => p1.2.2) (fun p1 => ?_) ((0 : Int32), (0 : Int32), h)
    refine hp_ic_ge hm (at1 1 rfl) rfl (by exact hz) (pc' := 12) rfl 21 rfl (tgt := 174) rfl (fun c27 => ?_) (fun c27 => ?_)
    · exact hp_lf [] rfl (fun _ e => e)
    · refine hp_G hm (at1 2 rfl) (L' := [(0, (.ref z)), (1, (.ref x1)), (2, (.int x2)), (3, (.int x3)), (4, (.int p1.1)), (5, (.int p1.2.1))]) (st' := [(.int ((rdI p1.2.2 (rf z 6) (Int32.toNatClampNeg p1.2.1)) &&& x2))]) rfl (fun hP => (by exact ⟨hz, ⟨(rt_3_6 hz), (vp_cst (rl_3_6 hz) hP)⟩⟩)) (pc' := 24) rfl (fun q3 => ?_)
      refine hp_JZ 32 (fun (p4 : Int32) => [(0, (.ref z)), (1, (.ref x1)), (2, (.int x2)), (3, (.int x3)), (4, (.int p1.1)), (5, (.int p1.2.1))]) (fun (p4 : Int32) => [(.int p4)]) (fun (p4 : Int32) => p1.2.2) ?_ (fun p4 => ?_)
      · refine hp_sv0 ?_
        refine hp_if_eq hm at0 rfl (by exact trivial) (pc' := 24) rfl 1 rfl (tgt := 31) rfl (fun c5 => ?_) (fun c5 => ?_)
        · refine hp_b hm (at1 3 rfl) (L' := [(0, (.ref z)), (1, (.ref x1)), (2, (.int x2)), (3, (.int x3)), (4, (.int p1.1)), (5, (.int p1.2.1))]) (st' := [(.int (0 : Int32))]) rfl (by exact trivial) (pc' := 32) rfl ?_
          exact hp_lf [0, 1, 2, 3, 4, 5] rfl (fun _ e => e)
        · refine hp_b hm (at1 4 rfl) (L' := [(0, (.ref z)), (1, (.ref x1)), (2, (.int x2)), (3, (.int x3)), (4, (.int p1.1)), (5, (.int p1.2.1))]) (st' := [(.int (1 : Int32))]) rfl (by exact trivial) (pc' := 28) rfl ?_
          refine hp_goto hm 0 rfl (tgt := 32) rfl ?_
          exact hp_lf [0, 1, 2, 3, 4, 5] rfl (fun _ e => e)
      · refine hp_G hm (at1 5 rfl) (L' := [(6, (.int p4)), (0, (.ref z)), (1, (.ref x1)), (2, (.int x2)), (3, (.int x3)), (4, (.int p1.1)), (5, (.int p1.2.1))]) (st' := [(.int ((rdI p1.2.2 (rf z 6) (Int32.toNatClampNeg p1.2.1)) &&& x3))]) rfl (fun hP => (by exact ⟨hz, ⟨(rt_3_6 hz), (vp_cst (rl_3_6 hz) hP)⟩⟩)) (pc' := 43) rfl (fun q6 => ?_)
        refine hp_JZ 51 (fun (p7 : Int32) => [(0, (.ref z)), (1, (.ref x1)), (2, (.int x2)), (3, (.int x3)), (4, (.int p1.1)), (5, (.int p1.2.1)), (6, (.int p4))]) (fun (p7 : Int32) => [(.int p7)]) (fun (p7 : Int32) => p1.2.2) ?_ (fun p7 => ?_)
        · refine hp_sv0 ?_
          refine hp_if_eq hm at0 rfl (by exact trivial) (pc' := 43) rfl 3 rfl (tgt := 50) rfl (fun c8 => ?_) (fun c8 => ?_)
          · refine hp_b hm (at1 6 rfl) (L' := [(6, (.int p4)), (0, (.ref z)), (1, (.ref x1)), (2, (.int x2)), (3, (.int x3)), (4, (.int p1.1)), (5, (.int p1.2.1))]) (st' := [(.int (0 : Int32))]) rfl (by exact trivial) (pc' := 51) rfl ?_
            exact hp_lf [1, 2, 3, 4, 5, 6, 0] rfl (fun _ e => e)
          · refine hp_b hm (at1 7 rfl) (L' := [(6, (.int p4)), (0, (.ref z)), (1, (.ref x1)), (2, (.int x2)), (3, (.int x3)), (4, (.int p1.1)), (5, (.int p1.2.1))]) (st' := [(.int (1 : Int32))]) rfl (by exact trivial) (pc' := 47) rfl ?_
            refine hp_goto hm 2 rfl (tgt := 51) rfl ?_
            exact hp_lf [1, 2, 3, 4, 5, 6, 0] rfl (fun _ e => e)
        · refine hp_b hm (at1 8 rfl) (L' := [(7, (.int p7)), (0, (.ref z)), (1, (.ref x1)), (2, (.int x2)), (3, (.int x3)), (4, (.int p1.1)), (5, (.int p1.2.1)), (6, (.int p4))]) (st' := [(.int p4)]) rfl (by exact trivial) (pc' := 55) rfl ?_
          refine hp_JZ 72 (fun (p9 : Int32) => [(0, (.ref z)), (1, (.ref x1)), (2, (.int x2)), (3, (.int x3)), (4, (.int p1.1)), (5, (.int p1.2.1)), (7, (.int p7))]) (fun (p9 : Int32) => [(.int p9)]) (fun (p9 : Int32) => p1.2.2) ?_ (fun p9 => ?_)
          · refine hp_sv0 ?_
            refine hp_if_eq hm at0 rfl (by exact trivial) (pc' := 55) rfl 7 rfl (tgt := 62) rfl (fun c11 => ?_) (fun c11 => ?_)
            · refine hp_sv0 ?_
              refine hp_if_eq hm (at1 9 rfl) rfl (by exact trivial) (pc' := 64) rfl 5 rfl (tgt := 71) rfl (fun c10 => ?_) (fun c10 => ?_)
              · refine hp_b hm (at1 10 rfl) (L' := [(7, (.int p7)), (0, (.ref z)), (1, (.ref x1)), (2, (.int x2)), (3, (.int x3)), (4, (.int p1.1)), (5, (.int p1.2.1)), (6, (.int p4))]) (st' := [(.int (2 : Int32))]) rfl (by exact trivial) (pc' := 72) rfl ?_
                exact hp_lf [1, 2, 3, 4, 5, 6, 0] rfl (fun _ e => e)
              · refine hp_b hm (at1 11 rfl) (L' := [(7, (.int p7)), (0, (.ref z)), (1, (.ref x1)), (2, (.int x2)), (3, (.int x3)), (4, (.int p1.1)), (5, (.int p1.2.1)), (6, (.int p4))]) (st' := [(.int (0 : Int32))]) rfl (by exact trivial) (pc' := 68) rfl ?_
                refine hp_goto hm 4 rfl (tgt := 72) rfl ?_
                exact hp_lf [1, 2, 3, 4, 5, 6, 0] rfl (fun _ e => e)
            · refine hp_b hm (at1 12 rfl) (L' := [(7, (.int p7)), (0, (.ref z)), (1, (.ref x1)), (2, (.int x2)), (3, (.int x3)), (4, (.int p1.1)), (5, (.int p1.2.1)), (6, (.int p4))]) (st' := [(.int (1 : Int32))]) rfl (by exact trivial) (pc' := 59) rfl ?_
              refine hp_goto hm 6 rfl (tgt := 72) rfl ?_
              exact hp_lf [1, 2, 3, 4, 5, 6, 0] rfl (fun _ e => e)
          · refine hp_b hm (at1 13 rfl) (L' := [(8, (.int p9)), (0, (.ref z)), (1, (.ref x1)), (2, (.int x2)), (3, (.int x3)), (4, (.int p1.1)), (5, (.int p1.2.1)), (7, (.int p7))]) (st' := [(.int p9), (.ref z)]) rfl (by exact trivial) (pc' := 77) rfl ?_
            refine hp_cVP (M2 := M_Gl_has) hm at0 (as := [(.int p9)]) (rest := []) (z := z) rfl (by exact trivial) (pc' := 77) rfl 8 rfl (lw_g (lw_at lw_m4 164 rfl) rfl) y_Gl_has rfl (d2 := 1) ⟨le_b rfl, pd_Gl_has, le_b rfl⟩ (le_b rfl) hz (k_Gl_has z p9 p1.2.2 hz) (fun a12 => ?_)
            refine hp_if_ne hm at0 rfl (by exact trivial) (pc' := 80) rfl 20 rfl (tgt := 85) rfl (fun c26 => ?_) (fun c26 => ?_)
            · refine hp_J 148 (fun (p13 : Int32) => [(0, (.ref z)), (1, (.ref x1)), (2, (.int x2)), (3, (.int x3)), (5, (.int p1.2.1)), (8, (.int p9))]) (fun (p13 : Int32) => [(.int p13), (.int p1.1)]) (fun (p13 : Int32) => p1.2.2) ?_ (fun p13 => ?_)
              · refine hp_ic_ne hm (at1 14 rfl) rfl (by exact trivial) (pc' := 90) rfl 17 rfl (tgt := 127) rfl (fun c22 => ?_) (fun c22 => ?_)
                · refine hp_ic_ne hm (at1 15 rfl) rfl (by exact trivial) (pc' := 130) rfl 11 rfl (tgt := 147) rfl (fun c16 => ?_) (fun c16 => ?_)
                  · refine hp_b hm (at1 16 rfl) (L' := [(8, (.int p9)), (0, (.ref z)), (1, (.ref x1)), (2, (.int x2)), (3, (.int x3)), (4, (.int p1.1)), (5, (.int p1.2.1)), (7, (.int p7))]) (st' := [(.int (0 : Int32)), (.int p1.1)]) rfl (by exact trivial) (pc' := 148) rfl ?_
                    exact hp_lf [1, 2, 3, 4, 6, 0] rfl (fun _ e => e)
                  · refine hp_G0 (fun q14 => ?_)
                    refine hp_b hm (at1 17 rfl) (L' := [(8, (.int p9)), (0, (.ref z)), (1, (.ref x1)), (2, (.int x2)), (3, (.int x3)), (4, (.int p1.1)), (5, (.int p1.2.1)), (7, (.int p7))]) (st' := [(.int (rdI p1.2.2 z 16)), (.ref (rdP p1.2.2 z 15)), (.int p1.1)]) rfl (by exact ⟨hz, hz⟩) (pc' := 141) rfl ?_
                    refine hp_cVP (M2 := M_By_s2) hm at0 (as := [(.int (rdI p1.2.2 z 16))]) (rest := [(.int p1.1)]) (z := (rdP p1.2.2 z 15)) rfl (by exact trivial) (pc' := 141) rfl 9 rfl (lw_g (lw_at lw_m4 156 rfl) rfl) y_By_s2 rfl (d2 := 3) ⟨le_b rfl, pd_By_s2, le_b rfl⟩ (le_b rfl) q14 (k_By_s2 (rdP p1.2.2 z 15) (rdI p1.2.2 z 16) p1.2.2 q14) (fun a15 => ?_)
                    refine hp_goto hm 10 rfl (tgt := 148) rfl ?_
                    exact hp_lf [1, 2, 3, 4, 6, 0] rfl (fun _ e => e)
                · refine hp_if_eq hm (at1 18 rfl) rfl (by exact trivial) (pc' := 95) rfl 16 rfl (tgt := 112) rfl (fun c21 => ?_) (fun c21 => ?_)
                  · refine hp_G0 (fun q17 => ?_)
                    refine hp_b hm (at1 19 rfl) (L' := [(8, (.int p9)), (0, (.ref z)), (1, (.ref x1)), (2, (.int x2)), (3, (.int x3)), (4, (.int p1.1)), (5, (.int p1.2.1)), (7, (.int p7))]) (st' := [(.int (rdI p1.2.2 z 16)), (.ref (rdP p1.2.2 z 15)), (.int p1.1)]) rfl (by exact ⟨hz, hz⟩) (pc' := 120) rfl ?_
                    refine hp_cVP (M2 := M_By_u1) hm at0 (as := [(.int (rdI p1.2.2 z 16))]) (rest := [(.int p1.1)]) (z := (rdP p1.2.2 z 15)) rfl (by exact trivial) (pc' := 120) rfl 12 rfl (lw_g (lw_at lw_m4 177 rfl) rfl) y_By_u1 rfl (d2 := 1) ⟨le_b rfl, pd_By_u1, le_b rfl⟩ (le_b rfl) q17 (k_By_u1 (rdP p1.2.2 z 15) (rdI p1.2.2 z 16) p1.2.2 q17) (fun a18 => ?_)
                    refine hp_b hm (at1 20 rfl) (L' := [(8, (.int p9)), (0, (.ref z)), (1, (.ref x1)), (2, (.int x2)), (3, (.int x3)), (4, (.int p1.1)), (5, (.int p1.2.1)), (7, (.int p7))]) (st' := [(.int (-a18)), (.int p1.1)]) rfl (by exact trivial) (pc' := 124) rfl ?_
                    refine hp_goto hm 13 rfl (tgt := 148) rfl ?_
                    exact hp_lf [1, 2, 3, 4, 6, 0] rfl (fun _ e => e)
                  · refine hp_G0 (fun q19 => ?_)
                    refine hp_b hm (at1 21 rfl) (L' := [(8, (.int p9)), (0, (.ref z)), (1, (.ref x1)), (2, (.int x2)), (3, (.int x3)), (4, (.int p1.1)), (5, (.int p1.2.1)), (7, (.int p7))]) (st' := [(.int (rdI p1.2.2 z 16)), (.ref (rdP p1.2.2 z 15)), (.int p1.1)]) rfl (by exact ⟨hz, hz⟩) (pc' := 106) rfl ?_
                    refine hp_cVP (M2 := M_By_u1) hm at0 (as := [(.int (rdI p1.2.2 z 16))]) (rest := [(.int p1.1)]) (z := (rdP p1.2.2 z 15)) rfl (by exact trivial) (pc' := 106) rfl 14 rfl (lw_g (lw_at lw_m4 177 rfl) rfl) y_By_u1 rfl (d2 := 1) ⟨le_b rfl, pd_By_u1, le_b rfl⟩ (le_b rfl) q19 (k_By_u1 (rdP p1.2.2 z 15) (rdI p1.2.2 z 16) p1.2.2 q19) (fun a20 => ?_)
                    refine hp_goto hm 15 rfl (tgt := 148) rfl ?_
                    exact hp_lf [1, 2, 3, 4, 6, 0] rfl (fun _ e => e)
              · refine hp_z hm (at1 22 rfl) (fun (v23 : Int32) => [(4, (.int v23)), (0, (.ref z)), (1, (.ref x1)), (2, (.int x2)), (3, (.int x3)), (5, (.int p1.2.1)), (8, (.int p9))]) (fun (v23 : Int32) => []) rfl (by exact trivial) (pc' := 151) rfl (fun v23 => ?_)
                refine hp_w hm (at1 23 rfl) (L' := [(4, (.int v23)), (0, (.ref z)), (1, (.ref x1)), (2, (.int x2)), (3, (.int x3)), (5, (.int p1.2.1)), (8, (.int p9))]) rfl (by exact ⟨hz, hz⟩) (pc' := 162) rfl (fun h1 => ?_)
                refine hp_GW hm (at1 24 rfl) (L' := [(4, (.int v23)), (0, (.ref z)), (1, (.ref x1)), (2, (.int x2)), (3, (.int x3)), (5, (.int p1.2.1)), (8, (.int p9))]) rfl (fun hP => (by exact ⟨hx1, hP⟩)) (pc' := 168) rfl (fun q24 h2 => ?_)
                refine hp_z hm (at1 25 rfl) (fun (v25 : Int32) => [(5, (.int v25)), (4, (.int v23)), (0, (.ref z)), (1, (.ref x1)), (2, (.int x2)), (3, (.int x3)), (8, (.int p9))]) (fun (v25 : Int32) => []) rfl (by exact trivial) (pc' := 171) rfl (fun v25 => ?_)
                refine hp_goto hm 18 rfl (tgt := 6) rfl ?_
                exact hp_lf [2, 3, 4, 5, 1, 0] rfl (fun _ e => e)
            · exact hp_ir hm (at1 26 rfl) rfl (by exact trivial) (pc' := 84) rfl 19 rfl rfl rfl (fun _ e => e)
  · exact hp_ir hm (at1 27 rfl) rfl (by exact trivial) (pc' := 175) rfl 22 rfl rfl rfl (fun _ e => e)
/-! HintHouse$Glyph.read(LHintHouse$Bytes;III)Z -/
def M_Gl_read : hM := (3, ⟨"HintHouse$Glyph", "read", "(LHintHouse$Bytes;III)Z"⟩, prog_4_method_2_code, 5, (Option.some Jvm.ClassFile.FieldType.boolean), [], [(0, [(.aload_n 0, 1, 0, 0, 0, .null), (.aload_n 1, 1, 0, 0, 0, .null), (.putfield 39, 3, 3, 15, 3, .null)]), (5, [(.aload_n 0, 1, 0, 0, 0, .null), (.iload_n 2, 1, 0, 0, 0, .null), (.putfield 43, 3, 3, 16, 0, .null)]), (10, [(.aload_n 0, 1, 0, 0, 0, .null), (.iload_n 3, 1, 0, 0, 0, .null), (.putfield 47, 3, 3, 17, 0, .null)]), (15, [(.aload_n 0, 1, 0, 0, 0, .null), (.iconst 0, 1, 0, 0, 0, (.int (0 : Int32))), (.putfield 50, 3, 3, 0, 0, .null)]), (20, [(.aload_n 0, 1, 0, 0, 0, .null), (.iconst 0, 1, 0, 0, 0, (.int (0 : Int32))), (.putfield 53, 3, 3, 1, 0, .null)]), (25, [(.aload_n 0, 1, 0, 0, 0, .null), (.iconst 0, 1, 0, 0, 0, (.int (0 : Int32))), (.putfield 56, 3, 3, 2, 0, .null)]), (30, [(.aload_n 0, 1, 0, 0, 0, .null), (.iconst 0, 1, 0, 0, 0, (.int (0 : Int32))), (.putfield 59, 3, 3, 8, 0, .null)]), (35, [(.aload_n 0, 1, 0, 0, 0, .null), (.iconst 0, 1, 0, 0, 0, (.int (0 : Int32))), (.putfield 62, 3, 3, 9, 0, .null)]), (40, [(.iload_n 2, 1, 0, 0, 0, .null), (.iload_n 3, 1, 0, 0, 0, .null)]), (47, [(.aload_n 0, 1, 0, 0, 0, .null), (.getfield 47, 3, 3, 17, 0, .null), (.aload_n 0, 1, 0, 0, 0, .null), (.getfield 43, 3, 3, 16, 0, .null), (.isub, 1, 0, 0, 0, .null), (.bipush 10, 2, 0, 0, 0, (.int (10 : Int32)))]), (63, [(.aload_n 0, 1, 0, 0, 0, .null), (.aload_n 0, 1, 0, 0, 0, .null), (.getfield 39, 3, 3, 15, 3, .null), (.aload_n 0, 1, 0, 0, 0, .null), (.getfield 43, 3, 3, 16, 0, .null)]), (75, [(.putfield 50, 3, 3, 0, 0, .null)]), (78, [(.aload_n 0, 1, 0, 0, 0, .null), (.aload_n 0, 1, 0, 0, 0, .null), (.getfield 39, 3, 3, 15, 3, .null), (.aload_n 0, 1, 0, 0, 0, .null), (.getfield 43, 3, 3, 16, 0, .null), (.iconst 2, 1, 0, 0, 0, (.int (2 : Int32))), (.iadd, 1, 0, 0, 0, .null)]), (92, [(.putfield 53, 3, 3, 1, 0, .null)]), (95, [(.aload_n 0, 1, 0, 0, 0, .null), (.dup, 1, 0, 0, 0, .null), (.getfield 43, 3, 3, 16, 0, .null), (.bipush 10, 2, 0, 0, 0, (.int (10 : Int32))), (.iadd, 1, 0, 0, 0, .null), (.putfield 43, 3, 3, 16, 0, .null)]), (106, [(.aload_n 0, 1, 0, 0, 0, .null), (.getfield 50, 3, 3, 0, 0, .null), (.iconst (-1), 1, 0, 0, 0, (.int (-1 : Int32)))]), (121, [(.aload_n 0, 1, 0, 0, 0, .null), (.getfield 50, 3, 3, 0, 0, .null), (.i2l, 1, 0, 0, 0, .null), (.lconst 0, 1, 0, 0, 0, (.long (0 : Int64))), (.ldc2_w 75, 3, 0, 0, 0, (.long (12 : Int64)))]), (189, [(.iconst 0, 1, 0, 0, 0, (.int (0 : Int32)))]), (136, [(.aload_n 0, 1, 0, 0, 0, .null)]), (143, [(.aload_n 0, 1, 0, 0, 0, .null)]), (150, [(.aload_n 0, 1, 0, 0, 0, .null)]), (157, [(.aload_n 0, 1, 0, 0, 0, .null), (.aload_n 0, 1, 0, 0, 0, .null), (.getfield 15, 3, 3, 4, 4, .null), (.iconst 2, 1, 0, 0, 0, (.int (2 : Int32))), (.bipush 16, 2, 0, 0, 0, (.int (16 : Int32)))]), (171, [(.aload_n 0, 1, 0, 0, 0, .null), (.aload_n 0, 1, 0, 0, 0, .null), (.getfield 18, 3, 3, 5, 4, .null), (.iconst 4, 1, 0, 0, 0, (.int (4 : Int32))), (.bipush 32, 2, 0, 0, 0, (.int (32 : Int32)))]), (185, [(.iconst 1, 1, 0, 0, 0, (.int (1 : Int32)))]), (114, [(.aload_n 0, 1, 0, 0, 0, .null), (.iload 4, 2, 0, 0, 0, .null)]), (61, [(.iconst 0, 1, 0, 0, 0, (.int (0 : Int32)))]), (45, [(.iconst 1, 1, 0, 0, 0, (.int (1 : Int32)))])], [(72, .invokevirtual 65, 3), (89, .invokevirtual 65, 3), (130, .invokestatic 77, 3), (190, .ireturn, 1), (137, .invokevirtual 81, 3), (144, .invokevirtual 85, 3), (151, .invokevirtual 88, 3), (165, .invokevirtual 91, 3), (179, .invokevirtual 91, 3), (186, .goto 4, 3), (182, .ifCond .eq 7, 3), (168, .ifCond .eq 21, 3), (154, .ifCond .eq 35, 3), (147, .ifCond .eq 42, 3), (140, .ifCond .eq 49, 3), (133, .ifCond .eq 56, 3), (117, .invokevirtual 71, 3), (120, .ireturn, 1), (111, .if_icmp .ne 10, 3), (62, .ireturn, 1), (58, .if_icmp .ge 5, 3), (46, .ireturn, 1), (42, .if_icmp .ne 5, 3)])
set_option maxRecDepth 100000 in
theorem m_Gl_read : hx_mok M_Gl_read = true := by decide +kernel
theorem pd_Gl_read : (parseMethodDescriptor M_Gl_read.2.1.desc).map (fun q => q.parameters.length) = some 4 := by decide +kernel
theorem y_Gl_read : hx_okV M_Gl_read := ⟨⟨lw_g (lw_at lw_m4 155 rfl) rfl, lw_g (lw_at lw_m4 153 rfl) rfl, lw_g (lw_at lw_m4 154 rfl) rfl, lw_g (lw_at lw_m1 4 rfl) rfl, rfl, by decide, by decide, by decide⟩, rfl, by decide, plainFor_of_name (by decide)⟩
noncomputable def f_Gl_read (z : Nat) (x1 : Nat) (x2 : Int32) (x3 : Int32) (x4 : Int32) (h : hH) : Option (Int32 × hH) :=
  lz (wrP h z 15 x1) fun h1 =>
  lz (wrI h1 z 16 x2) fun h2 =>
  lz (wrI h2 z 17 x3) fun h3 =>
  lz (wrI h3 z 0 (0 : Int32)) fun h4 =>
  lz (wrI h4 z 1 (0 : Int32)) fun h5 =>
  lz (wrI h5 z 2 (0 : Int32)) fun h6 =>
  lz (wrI h6 z 8 (0 : Int32)) fun h7 =>
  lz (wrI h7 z 9 (0 : Int32)) fun h8 =>
  if x2 = x3 then (
    some ((1 : Int32), h8)
  ) else (
    if (10 : Int32) ≤ ((rdI h8 z 17) - (rdI h8 z 16)) then (
      gd (isA 1 (rdP h8 z 15)) <|
      bP (f_By_s2 (rdP h8 z 15) (rdI h8 z 16) h8) fun a2 =>
      lz (wrI h8 z 0 a2) fun h9 =>
      gd (isA 1 (rdP h9 z 15)) <|
      bP (f_By_s2 (rdP h9 z 15) ((rdI h9 z 16) + (2 : Int32)) h9) fun a4 =>
      lz (wrI h9 z 1 a4) fun h10 =>
      lz (wrI h10 z 16 ((rdI h10 z 16) + (10 : Int32))) fun h11 =>
      if (rdI h11 z 0) = (-1 : Int32) then (
        bS (f_Gl_readParts z x4 h11) fun a17 h17 =>
        gd ((a17 = 0 ∨ a17 = 1)) <|
        some (a17, h17)
      ) else (
        bP (f_HH_within (Int32.toInt64 (rdI h11 z 0)) (0 : Int64) (12 : Int64)) fun a5 =>
        if a5 = 0 then (
          some ((0 : Int32), h11)
        ) else (
          bS (f_Gl_readEnds z h11) fun a6 h12 =>
          if a6 = 0 then (
            some ((0 : Int32), h12)
          ) else (
            bS (f_Gl_readProgram z h12) fun a7 h13 =>
            if a7 = 0 then (
              some ((0 : Int32), h13)
            ) else (
              bS (f_Gl_readFlags z h13) fun a8 h14 =>
              if a8 = 0 then (
                some ((0 : Int32), h14)
              ) else (
                bS (f_Gl_readPlaces z (rf z 4) (2 : Int32) (16 : Int32) h14) fun a9 h15 =>
                if a9 = 0 then (
                  some ((0 : Int32), h15)
                ) else (
                  bS (f_Gl_readPlaces z (rf z 5) (4 : Int32) (32 : Int32) h15) fun a10 h16 =>
                  if a10 = 0 then (
                    some ((0 : Int32), h16)
                  ) else (
                    some ((1 : Int32), h16)
                  )
                )
              )
            )
          )
        )
      )
    ) else (
      some ((0 : Int32), h8)
    )
  )
set_option maxRecDepth 20000 in
theorem k_Gl_read (z : Nat) (x1 : Nat) (x2 : Int32) (x3 : Int32) (x4 : Int32) (h : hH) (hz : isA 3 z) (hx1 : isA 1 x1) : hx_kS S0 M_Gl_read 6 NT [(.ref z), (.ref x1), (.int x2), (.int x3), (.int x4)] h (f_Gl_read z x1 x2 x3 x4 h) cvI := by
  have hm := m_Gl_read
  show hx_P S0 M_Gl_read 6 0 [(0, (.ref z)), (1, (.ref x1)), (2, (.int x2)), (3, (.int x3)), (4, (.int x4))] [] NT h (f_Gl_read z x1 x2 x3 x4 h) (hx_Rc cvI NT)
  unfold f_Gl_read
  refine hp_w hm (at1 0 rfl) (L' := [(0, (.ref z)), (1, (.ref x1)), (2, (.int x2)), (3, (.int x3)), (4, (.int x4))]) rfl (by exact hz) (pc' := 5) rfl (fun h1 => ?_)
  refine hp_w hm (at1 1 rfl) (L' := [(0, (.ref z)), (1, (.ref x1)), (2, (.int x2)), (3, (.int x3)), (4, (.int x4))]) rfl (by exact hz) (pc' := 10) rfl (fun h2 => ?_)
  refine hp_w hm (at1 2 rfl) (L' := [(0, (.ref z)), (1, (.ref x1)), (2, (.int x2)), (3, (.int x3)), (4, (.int x4))]) rfl (by exact hz) (pc' := 15) rfl (fun h3 => ?_)
  refine hp_w hm (at1 3 rfl) (L' := [(0, (.ref z)), (1, (.ref x1)), (2, (.int x2)), (3, (.int x3)), (4, (.int x4))]) rfl (by exact hz) (pc' := 20) rfl (fun h4 => ?_)
  refine hp_w hm (at1 4 rfl) (L' := [(0, (.ref z)), (1, (.ref x1)), (2, (.int x2)), (3, (.int x3)), (4, (.int x4))]) rfl (by exact hz) (pc' := 25) rfl (fun h5 => ?_)
  refine hp_w hm (at1 5 rfl) (L' := [(0, (.ref z)), (1, (.ref x1)), (2, (.int x2)), (3, (.int x3)), (4, (.int x4))]) rfl (by exact hz) (pc' := 30) rfl (fun h6 => ?_)
  refine hp_w hm (at1 6 rfl) (L' := [(0, (.ref z)), (1, (.ref x1)), (2, (.int x2)), (3, (.int x3)), (4, (.int x4))]) rfl (by exact hz) (pc' := 35) rfl (fun h7 => ?_)
  refine hp_w hm (at1 7 rfl) (L' := [(0, (.ref z)), (1, (.ref x1)), (2, (.int x2)), (3, (.int x3)), (4, (.int x4))]) rfl (by exact hz) (pc' := 40) rfl (fun h8 => ?_)
  refine hp_ic_ne hm (at1 8 rfl) rfl (by exact trivial) (pc' := 42) rfl 22 rfl (tgt := 47) rfl (fun c21 => ?_) (fun c21 => ?_)
  · refine hp_ic_ge hm (at1 9 rfl) rfl (by exact ⟨hz, hz⟩) (pc' := 58) rfl 20 rfl (tgt := 63) rfl (fun c20 => ?_) (fun c20 => ?_)
    · refine hp_G0 (fun q1 => ?_)
      refine hp_b hm (at1 10 rfl) (L' := [(0, (.ref z)), (1, (.ref x1)), (2, (.int x2)), (3, (.int x3)), (4, (.int x4))]) (st' := [(.int (rdI h8 z 16)), (.ref (rdP h8 z 15)), (.ref z)]) rfl (by exact ⟨hz, hz⟩) (pc' := 72) rfl ?_
      refine hp_cVP (M2 := M_By_s2) hm at0 (as := [(.int (rdI h8 z 16))]) (rest := [(.ref z)]) (z := (rdP h8 z 15)) rfl (by exact trivial) (pc' := 72) rfl 0 rfl (lw_g (lw_at lw_m4 156 rfl) rfl) y_By_s2 rfl (d2 := 3) ⟨le_b rfl, pd_By_s2, le_b rfl⟩ (le_b rfl) q1 (k_By_s2 (rdP h8 z 15) (rdI h8 z 16) h8 q1) (fun a2 => ?_)
      refine hp_w hm (at1 11 rfl) (L' := [(0, (.ref z)), (1, (.ref x1)), (2, (.int x2)), (3, (.int x3)), (4, (.int x4))]) rfl (by exact hz) (pc' := 78) rfl (fun h9 => ?_)
      refine hp_G0 (fun q3 => ?_)
      refine hp_b hm (at1 12 rfl) (L' := [(0, (.ref z)), (1, (.ref x1)), (2, (.int x2)), (3, (.int x3)), (4, (.int x4))]) (st' := [(.int ((rdI h9 z 16) + (2 : Int32))), (.ref (rdP h9 z 15)), (.ref z)]) rfl (by exact ⟨hz, hz⟩) (pc' := 89) rfl ?_
      refine hp_cVP (M2 := M_By_s2) hm at0 (as := [(.int ((rdI h9 z 16) + (2 : Int32)))]) (rest := [(.ref z)]) (z := (rdP h9 z 15)) rfl (by exact trivial) (pc' := 89) rfl 1 rfl (lw_g (lw_at lw_m4 156 rfl) rfl) y_By_s2 rfl (d2 := 3) ⟨le_b rfl, pd_By_s2, le_b rfl⟩ (le_b rfl) q3 (k_By_s2 (rdP h9 z 15) ((rdI h9 z 16) + (2 : Int32)) h9 q3) (fun a4 => ?_)
      refine hp_w hm (at1 13 rfl) (L' := [(0, (.ref z)), (1, (.ref x1)), (2, (.int x2)), (3, (.int x3)), (4, (.int x4))]) rfl (by exact hz) (pc' := 95) rfl (fun h10 => ?_)
      refine hp_w hm (at1 14 rfl) (L' := [(0, (.ref z)), (1, (.ref x1)), (2, (.int x2)), (3, (.int x3)), (4, (.int x4))]) rfl (by exact ⟨hz, hz⟩) (pc' := 106) rfl (fun h11 => ?_)
      refine hp_ic_ne hm (at1 15 rfl) rfl (by exact hz) (pc' := 111) rfl 18 rfl (tgt := 121) rfl (fun c19 => ?_) (fun c19 => ?_)
      · refine hp_cNP (M2 := M_HH_within) hm (at1 16 rfl) (as := [(.long (Int32.toInt64 (rdI h11 z 0))), (.long (0 : Int64)), (.long (12 : Int64))]) (rest := []) rfl (by exact hz) (pc' := 130) rfl 2 rfl (hmn_3_77) y_HH_within rfl (d2 := 1) ⟨le_b rfl, pd_HH_within, le_b rfl⟩ (le_b rfl) (k_HH_within (Int32.toInt64 (rdI h11 z 0)) (0 : Int64) (12 : Int64) h11) (fun a5 => ?_)
        refine hp_if_eq hm at0 rfl (by exact trivial) (pc' := 133) rfl 15 rfl (tgt := 189) rfl (fun c16 => ?_) (fun c16 => ?_)
        · refine hp_b hm (at1 17 rfl) (L' := [(0, (.ref z)), (1, (.ref x1)), (2, (.int x2)), (3, (.int x3)), (4, (.int x4))]) (st' := [(.int (0 : Int32))]) rfl (by exact trivial) (pc' := 190) rfl ?_
          exact hp_ir hm at0 rfl (by exact trivial) (pc' := 190) rfl 3 rfl rfl rfl (fun _ e => e)
        · refine hp_cVS (M2 := M_Gl_readEnds) hm (at1 18 rfl) (as := []) (rest := []) (z := z) rfl (by exact trivial) (pc' := 137) rfl 4 rfl (lw_g (lw_at lw_m4 188 rfl) rfl) y_Gl_readEnds rfl (d2 := 3) ⟨le_b rfl, pd_Gl_readEnds, le_b rfl⟩ (le_b rfl) hz (k_Gl_readEnds z h11 hz) (fun a6 h12 => ?_)
          refine hp_if_eq hm at0 rfl (by exact trivial) (pc' := 140) rfl 14 rfl (tgt := 189) rfl (fun c15 => ?_) (fun c15 => ?_)
          · refine hp_b hm (at1 17 rfl) (L' := [(0, (.ref z)), (1, (.ref x1)), (2, (.int x2)), (3, (.int x3)), (4, (.int x4))]) (st' := [(.int (0 : Int32))]) rfl (by exact trivial) (pc' := 190) rfl ?_
            exact hp_ir hm at0 rfl (by exact trivial) (pc' := 190) rfl 3 rfl rfl rfl (fun _ e => e)
          · refine hp_cVS (M2 := M_Gl_readProgram) hm (at1 19 rfl) (as := []) (rest := []) (z := z) rfl (by exact trivial) (pc' := 144) rfl 5 rfl (lw_g (lw_at lw_m4 182 rfl) rfl) y_Gl_readProgram rfl (d2 := 3) ⟨le_b rfl, pd_Gl_readProgram, le_b rfl⟩ (le_b rfl) hz (k_Gl_readProgram z h12 hz) (fun a7 h13 => ?_)
            refine hp_if_eq hm at0 rfl (by exact trivial) (pc' := 147) rfl 13 rfl (tgt := 189) rfl (fun c14 => ?_) (fun c14 => ?_)
            · refine hp_b hm (at1 17 rfl) (L' := [(0, (.ref z)), (1, (.ref x1)), (2, (.int x2)), (3, (.int x3)), (4, (.int x4))]) (st' := [(.int (0 : Int32))]) rfl (by exact trivial) (pc' := 190) rfl ?_
              exact hp_ir hm at0 rfl (by exact trivial) (pc' := 190) rfl 3 rfl rfl rfl (fun _ e => e)
            · refine hp_cVS (M2 := M_Gl_readFlags) hm (at1 20 rfl) (as := []) (rest := []) (z := z) rfl (by exact trivial) (pc' := 151) rfl 6 rfl (lw_g (lw_at lw_m4 192 rfl) rfl) y_Gl_readFlags rfl (d2 := 2) ⟨le_b rfl, pd_Gl_readFlags, le_b rfl⟩ (le_b rfl) hz (k_Gl_readFlags z h13 hz) (fun a8 h14 => ?_)
              refine hp_if_eq hm at0 rfl (by exact trivial) (pc' := 154) rfl 12 rfl (tgt := 189) rfl (fun c13 => ?_) (fun c13 => ?_)
              · refine hp_b hm (at1 17 rfl) (L' := [(0, (.ref z)), (1, (.ref x1)), (2, (.int x2)), (3, (.int x3)), (4, (.int x4))]) (st' := [(.int (0 : Int32))]) rfl (by exact trivial) (pc' := 190) rfl ?_
                exact hp_ir hm at0 rfl (by exact trivial) (pc' := 190) rfl 3 rfl rfl rfl (fun _ e => e)
              · refine hp_cVS (M2 := M_Gl_readPlaces) hm (at1 21 rfl) (as := [(.ref (rf z 4)), (.int (2 : Int32)), (.int (16 : Int32))]) (rest := []) (z := z) rfl (by exact hz) (pc' := 165) rfl 7 rfl (lw_g (lw_at lw_m4 196 rfl) rfl) y_Gl_readPlaces rfl (d2 := 4) ⟨le_b rfl, pd_Gl_readPlaces, le_b rfl⟩ (le_b rfl) hz (k_Gl_readPlaces z (rf z 4) (2 : Int32) (16 : Int32) h14 hz (rt_3_4 hz)) (fun a9 h15 => ?_)
                refine hp_if_eq hm at0 rfl (by exact trivial) (pc' := 168) rfl 11 rfl (tgt := 189) rfl (fun c12 => ?_) (fun c12 => ?_)
                · refine hp_b hm (at1 17 rfl) (L' := [(0, (.ref z)), (1, (.ref x1)), (2, (.int x2)), (3, (.int x3)), (4, (.int x4))]) (st' := [(.int (0 : Int32))]) rfl (by exact trivial) (pc' := 190) rfl ?_
                  exact hp_ir hm at0 rfl (by exact trivial) (pc' := 190) rfl 3 rfl rfl rfl (fun _ e => e)
                · refine hp_cVS (M2 := M_Gl_readPlaces) hm (at1 22 rfl) (as := [(.ref (rf z 5)), (.int (4 : Int32)), (.int (32 : Int32))]) (rest := []) (z := z) rfl (by exact hz) (pc' := 179) rfl 8 rfl (lw_g (lw_at lw_m4 196 rfl) rfl) y_Gl_readPlaces rfl (d2 := 4) ⟨le_b rfl, pd_Gl_readPlaces, le_b rfl⟩ (le_b rfl) hz (k_Gl_readPlaces z (rf z 5) (4 : Int32) (32 : Int32) h15 hz (rt_3_5 hz)) (fun a10 h16 => ?_)
                  refine hp_if_eq hm at0 rfl (by exact trivial) (pc' := 182) rfl 10 rfl (tgt := 189) rfl (fun c11 => ?_) (fun c11 => ?_)
                  · refine hp_b hm (at1 17 rfl) (L' := [(0, (.ref z)), (1, (.ref x1)), (2, (.int x2)), (3, (.int x3)), (4, (.int x4))]) (st' := [(.int (0 : Int32))]) rfl (by exact trivial) (pc' := 190) rfl ?_
                    exact hp_ir hm at0 rfl (by exact trivial) (pc' := 190) rfl 3 rfl rfl rfl (fun _ e => e)
                  · refine hp_b hm (at1 23 rfl) (L' := [(0, (.ref z)), (1, (.ref x1)), (2, (.int x2)), (3, (.int x3)), (4, (.int x4))]) (st' := [(.int (1 : Int32))]) rfl (by exact trivial) (pc' := 186) rfl ?_
                    refine hp_goto hm 9 rfl (tgt := 190) rfl ?_
                    exact hp_ir hm at0 rfl (by exact trivial) (pc' := 190) rfl 3 rfl rfl rfl (fun _ e => e)
      · refine hp_cVS (M2 := M_Gl_readParts) hm (at1 24 rfl) (as := [(.int x4)]) (rest := []) (z := z) rfl (by exact trivial) (pc' := 117) rfl 16 rfl (lw_g (lw_at lw_m4 160 rfl) rfl) y_Gl_readParts rfl (d2 := 5) ⟨le_b rfl, pd_Gl_readParts, le_b rfl⟩ (le_b rfl) hz (k_Gl_readParts z x4 h11 hz) (fun a17 h17 => ?_)
        refine hp_G0 (fun q18 => ?_)
        exact hp_ir hm at0 rfl (by exact trivial) (pc' := 120) rfl 17 rfl rfl (nar01 q18) (fun _ e => e)
    · exact hp_ir hm (at1 25 rfl) rfl (by exact trivial) (pc' := 62) rfl 19 rfl rfl rfl (fun _ e => e)
  · exact hp_ir hm (at1 26 rfl) rfl (by exact trivial) (pc' := 46) rfl 21 rfl rfl rfl (fun _ e => e)
/-! HintHouse$Font.read(ILHintHouse$Glyph;)Z -/
def M_Fo_read : hM := (2, ⟨"HintHouse$Font", "read", "(ILHintHouse$Glyph;)Z"⟩, prog_3_method_14_code, 3, (Option.some Jvm.ClassFile.FieldType.boolean), [], [(0, [(.aload_n 2, 1, 0, 0, 0, .null), (.aload_n 0, 1, 0, 0, 0, .null), (.getfield 12, 3, 2, 0, 4, .null), (.aload_n 0, 1, 0, 0, 0, .null), (.getfield 204, 3, 2, 19, 0, .null), (.aload_n 0, 1, 0, 0, 0, .null), (.iload_n 1, 1, 0, 0, 0, .null)]), (14, [(.l2i, 1, 0, 0, 0, .null), (.iadd, 1, 0, 0, 0, .null), (.aload_n 0, 1, 0, 0, 0, .null), (.getfield 204, 3, 2, 19, 0, .null), (.aload_n 0, 1, 0, 0, 0, .null), (.iload_n 1, 1, 0, 0, 0, .null), (.iconst 1, 1, 0, 0, 0, (.int (1 : Int32))), (.iadd, 1, 0, 0, 0, .null)]), (27, [(.l2i, 1, 0, 0, 0, .null), (.iadd, 1, 0, 0, 0, .null), (.aload_n 0, 1, 0, 0, 0, .null), (.getfield 109, 3, 2, 8, 0, .null)])], [(11, .invokevirtual 207, 3), (24, .invokevirtual 207, 3), (33, .invokevirtual 210, 3), (36, .ireturn, 1)])
set_option maxRecDepth 100000 in
theorem m_Fo_read : hx_mok M_Fo_read = true := by decide +kernel
theorem pd_Fo_read : (parseMethodDescriptor M_Fo_read.2.1.desc).map (fun q => q.parameters.length) = some 2 := by decide +kernel
theorem y_Fo_read : hx_okV M_Fo_read := ⟨⟨lw_g (lw_at lw_m4 151 rfl) rfl, lw_g (lw_at lw_m4 149 rfl) rfl, lw_g (lw_at lw_m4 150 rfl) rfl, lw_g (lw_at lw_m1 3 rfl) rfl, rfl, by decide, by decide, by decide⟩, rfl, by decide, plainFor_of_name (by decide)⟩
noncomputable def f_Fo_read (x1 : Int32) (x2 : Nat) (h : hH) : Option (Int32 × hH) :=
  bP (f_Fo_locaOf x1 h) fun a1 =>
  bP (f_Fo_locaOf (x1 + (1 : Int32)) h) fun a2 =>
  bS (f_Gl_read x2 5 ((rdI h 4 19) + (Int64.toInt32 a1)) ((rdI h 4 19) + (Int64.toInt32 a2)) (rdI h 4 8) h) fun a3 h1 =>
  gd ((a3 = 0 ∨ a3 = 1)) <|
  some (a3, h1)
set_option maxRecDepth 20000 in
theorem k_Fo_read (x1 : Int32) (x2 : Nat) (h : hH) (hx2 : isA 3 x2) : hx_kS S0 M_Fo_read 7 NT [(.ref 4), (.int x1), (.ref x2)] h (f_Fo_read x1 x2 h) cvI := by
  have hm := m_Fo_read
  show hx_P S0 M_Fo_read 7 0 [(0, (.ref 4)), (1, (.int x1)), (2, (.ref x2))] [] NT h (f_Fo_read x1 x2 h) (hx_Rc cvI NT)
  unfold f_Fo_read
  refine hp_cVP (M2 := M_Fo_locaOf) hm (at1 0 rfl) (as := [(.int x1)]) (rest := [(.int (rdI h 4 19)), (.ref 5), (.ref x2)]) (z := 4) rfl (by exact ⟨og_4, og_4⟩) (pc' := 11) rfl 0 rfl (lw_g (lw_at lw_m4 140 rfl) rfl) y_Fo_locaOf rfl (d2 := 4) ⟨le_b rfl, pd_Fo_locaOf, le_b rfl⟩ (le_b rfl) og_4 (k_Fo_locaOf x1 h) (fun a1 => ?_)
  refine hp_cVP (M2 := M_Fo_locaOf) hm (at1 1 rfl) (as := [(.int (x1 + (1 : Int32)))]) (rest := [(.int (rdI h 4 19)), (.int ((rdI h 4 19) + (Int64.toInt32 a1))), (.ref 5), (.ref x2)]) (z := 4) rfl (by exact og_4) (pc' := 24) rfl 1 rfl (lw_g (lw_at lw_m4 140 rfl) rfl) y_Fo_locaOf rfl (d2 := 4) ⟨le_b rfl, pd_Fo_locaOf, le_b rfl⟩ (le_b rfl) og_4 (k_Fo_locaOf (x1 + (1 : Int32)) h) (fun a2 => ?_)
  refine hp_cVS (M2 := M_Gl_read) hm (at1 2 rfl) (as := [(.ref 5), (.int ((rdI h 4 19) + (Int64.toInt32 a1))), (.int ((rdI h 4 19) + (Int64.toInt32 a2))), (.int (rdI h 4 8))]) (rest := []) (z := x2) rfl (by exact og_4) (pc' := 33) rfl 2 rfl (lw_g (lw_at lw_m4 152 rfl) rfl) y_Gl_read rfl (d2 := 6) ⟨le_b rfl, pd_Gl_read, le_b rfl⟩ (le_b rfl) hx2 (k_Gl_read x2 5 ((rdI h 4 19) + (Int64.toInt32 a1)) ((rdI h 4 19) + (Int64.toInt32 a2)) (rdI h 4 8) h hx2 og_5) (fun a3 h1 => ?_)
  refine hp_G0 (fun q4 => ?_)
  exact hp_ir hm at0 rfl (by exact trivial) (pc' := 36) rfl 3 rfl rfl (nar01 q4) (fun _ e => e)
/-! HintHouse$Font.isBelow(II)Z -/
def M_Fo_isBelow : hM := (2, ⟨"HintHouse$Font", "isBelow", "(II)Z"⟩, prog_3_method_17_code, 6, (Option.some Jvm.ClassFile.FieldType.boolean), [], [(0, [(.aload_n 0, 1, 0, 0, 0, .null), (.iload_n 1, 1, 0, 0, 0, .null), (.aload_n 0, 1, 0, 0, 0, .null), (.getfield 34, 3, 2, 31, 4, .null)]), (9, [(.istore_n 3, 1, 0, 0, 0, .null), (.iconst 0, 1, 0, 0, 0, (.int (0 : Int32))), (.istore 4, 2, 0, 0, 0, .null)]), (13, [(.iload 4, 2, 0, 0, 0, .null), (.aload_n 0, 1, 0, 0, 0, .null), (.getfield 34, 3, 2, 31, 4, .null), (.getfield 217, 3, 3, 9, 0, .null)]), (25, [(.aload_n 0, 1, 0, 0, 0, .null), (.getfield 38, 3, 2, 32, 4, .null), (.aload_n 0, 1, 0, 0, 0, .null), (.getfield 34, 3, 2, 31, 4, .null), (.getfield 224, 3, 3, 11, 4, .null), (.iload 4, 2, 0, 0, 0, .null), (.iaload, 1, 0, 0, 0, .null), (.iaload, 1, 0, 0, 0, .null), (.istore 5, 2, 0, 0, 0, .null)]), (42, [(.iload_n 3, 1, 0, 0, 0, .null)]), (62, [(.iconst 0, 1, 0, 0, 0, (.int (0 : Int32)))]), (46, [(.iload 5, 2, 0, 0, 0, .null), (.iconst (-1), 1, 0, 0, 0, (.int (-1 : Int32)))]), (52, [(.iload 5, 2, 0, 0, 0, .null), (.iload_n 2, 1, 0, 0, 0, .null)]), (58, [(.iconst 1, 1, 0, 0, 0, (.int (1 : Int32)))]), (63, [(.istore_n 3, 1, 0, 0, 0, .null), (.iinc 4 1, 3, 0, 0, 0, (.int (1 : Int32)))]), (70, [(.iload_n 3, 1, 0, 0, 0, .null)])], [(6, .invokevirtual 214, 3), (59, .goto 4, 3), (55, .if_icmp .ge 7, 3), (49, .if_icmp .eq 13, 3), (43, .ifCond .eq 19, 3), (67, .goto (-54), 3), (22, .if_icmp .ge 48, 3), (71, .ireturn, 1)])
set_option maxRecDepth 100000 in
theorem m_Fo_isBelow : hx_mok M_Fo_isBelow = true := by decide +kernel
theorem pd_Fo_isBelow : (parseMethodDescriptor M_Fo_isBelow.2.1.desc).map (fun q => q.parameters.length) = some 2 := by decide +kernel
theorem y_Fo_isBelow : hx_okV M_Fo_isBelow := ⟨⟨lw_g (lw_at lw_m4 203 rfl) rfl, lw_g (lw_at lw_m4 202 rfl) rfl, qs20, lw_g (lw_at lw_m1 3 rfl) rfl, rfl, by decide, by decide, by decide⟩, rfl, by decide, plainFor_of_name (by decide)⟩
noncomputable def f_Fo_isBelow (x1 : Int32) (x2 : Int32) (h : hH) : Option (Int32 × hH) :=
  bS (f_Fo_read x1 11 h) fun a1 h1 =>
  bP (A := Int32) (
    wh (A := (Int32 × Int32)) (B := Int32) (fun p2 =>
        if (rdI h1 11 9) ≤ p2.2 then (
          some (.inr p2.1)
        ) else (
          gd (vp_in p2.2 8 ∧ vp_in (rdI h1 17 (Int32.toNatClampNeg p2.2)) 200) <|
          lz (A := Int32) (rdI h1 21 (Int32.toNatClampNeg (rdI h1 17 (Int32.toNatClampNeg p2.2)))) fun v4 =>
          lz (A := Int32) (if p2.1 = 0 then (0 : Int32) else (if v4 = (-1 : Int32) then (0 : Int32) else (if x2 ≤ v4 then (0 : Int32) else (1 : Int32)))) fun p6 =>
          lz (A := Int32) (p2.2 + (1 : Int32)) fun v10 =>
          some (.inl (p6, v10))
        )
    ) (a1, (0 : Int32))
  ) fun p3 =>
  gd ((p3 = 0 ∨ p3 = 1)) <|
  some (p3, h1)
set_option maxRecDepth 20000 in
theorem k_Fo_isBelow (x1 : Int32) (x2 : Int32) (h : hH) : hx_kS S0 M_Fo_isBelow 8 NT [(.ref 4), (.int x1), (.int x2)] h (f_Fo_isBelow x1 x2 h) cvI := by
  have hm := m_Fo_isBelow
  show hx_P S0 M_Fo_isBelow 8 0 [(0, (.ref 4)), (1, (.int x1)), (2, (.int x2))] [] NT h (f_Fo_isBelow x1 x2 h) (hx_Rc cvI NT)
  unfold f_Fo_isBelow
  refine hp_cVS (M2 := M_Fo_read) hm (at1 0 rfl) (as := [(.int x1), (.ref 11)]) (rest := []) (z := 4) rfl (by exact og_4) (pc' := 6) rfl 0 rfl (lw_g (lw_at lw_m4 148 rfl) rfl) y_Fo_read rfl (d2 := 7) ⟨le_b rfl, pd_Fo_read, le_b rfl⟩ (le_b rfl) og_4 (k_Fo_read x1 11 h og_11) (fun a1 h1 => ?_)
  refine hp_b hm (at1 1 rfl) (L' := [(4, (.int (0 : Int32))), (3, (.int a1)), (0, (.ref 4)), (1, (.int x1)), (2, (.int x2))]) (st' := []) rfl (by exact trivial) (pc' := 13) rfl ?_
  refine hp_J 70 (fun (p3 : Int32) => [(3, (.int p3))]) (fun (p3 : Int32) => []) (fun (p3 : Int32) => h1) ?_ (fun p3 => ?_)
  · refine hp_s [2, 4, 1, 0] rfl (L' := [(0, (.ref 4)), (2, (.int x2)), (3, (.int a1)), (4, (.int (0 : Int32)))]) ?_
    refine hp_wh (fun (p2 : (Int32 × Int32)) => [(0, (.ref 4)), (2, (.int x2)), (3, (.int p2.1)), (4, (.int p2.2))]) [] (fun (p2 : (Int32 × Int32)) => h1) (fun p2 => ?_) (a1, (0 : Int32))
    refine hp_ic_ge hm (at1 2 rfl) rfl (by exact ⟨og_4, og_11⟩) (pc' := 22) rfl 6 rfl (tgt := 70) rfl (fun c11 => ?_) (fun c11 => ?_)
    · exact hp_lf [2] rfl (fun _ e => e)
    · refine hp_GZ hm (at1 3 rfl) (fun (v4 : Int32) => [(5, (.int v4)), (0, (.ref 4)), (2, (.int x2)), (3, (.int p2.1)), (4, (.int p2.2))]) (fun (v4 : Int32) => []) rfl (fun hP => (by exact ⟨⟨⟨⟨og_4, og_4⟩, og_11⟩, ⟨og_17, hP.1⟩⟩, ⟨og_21, hP.2⟩⟩)) (pc' := 42) rfl (fun q5 v4 => ?_)
      refine hp_JZ 63 (fun (p6 : Int32) => [(0, (.ref 4)), (2, (.int x2)), (4, (.int p2.2))]) (fun (p6 : Int32) => [(.int p6)]) (fun (p6 : Int32) => h1) ?_ (fun p6 => ?_)
      · refine hp_sv0 ?_
        refine hp_if_eq hm (at1 4 rfl) rfl (by exact trivial) (pc' := 43) rfl 4 rfl (tgt := 62) rfl (fun c9 => ?_) (fun c9 => ?_)
        · refine hp_b hm (at1 5 rfl) (L' := [(5, (.int v4)), (0, (.ref 4)), (2, (.int x2)), (3, (.int p2.1)), (4, (.int p2.2))]) (st' := [(.int (0 : Int32))]) rfl (by exact trivial) (pc' := 63) rfl ?_
          exact hp_lf [1, 2, 4] rfl (fun _ e => e)
        · refine hp_sv0 ?_
          refine hp_ic_eq hm (at1 6 rfl) rfl (by exact trivial) (pc' := 49) rfl 3 rfl (tgt := 62) rfl (fun c8 => ?_) (fun c8 => ?_)
          · refine hp_b hm (at1 5 rfl) (L' := [(5, (.int v4)), (0, (.ref 4)), (2, (.int x2)), (3, (.int p2.1)), (4, (.int p2.2))]) (st' := [(.int (0 : Int32))]) rfl (by exact trivial) (pc' := 63) rfl ?_
            exact hp_lf [1, 2, 4] rfl (fun _ e => e)
          · refine hp_sv0 ?_
            refine hp_ic_ge hm (at1 7 rfl) rfl (by exact trivial) (pc' := 55) rfl 2 rfl (tgt := 62) rfl (fun c7 => ?_) (fun c7 => ?_)
            · refine hp_b hm (at1 5 rfl) (L' := [(5, (.int v4)), (0, (.ref 4)), (2, (.int x2)), (3, (.int p2.1)), (4, (.int p2.2))]) (st' := [(.int (0 : Int32))]) rfl (by exact trivial) (pc' := 63) rfl ?_
              exact hp_lf [1, 2, 4] rfl (fun _ e => e)
            · refine hp_b hm (at1 8 rfl) (L' := [(5, (.int v4)), (0, (.ref 4)), (2, (.int x2)), (3, (.int p2.1)), (4, (.int p2.2))]) (st' := [(.int (1 : Int32))]) rfl (by exact trivial) (pc' := 59) rfl ?_
              refine hp_goto hm 1 rfl (tgt := 63) rfl ?_
              exact hp_lf [1, 2, 4] rfl (fun _ e => e)
      · refine hp_z hm (at1 9 rfl) (fun (v10 : Int32) => [(4, (.int v10)), (3, (.int p6)), (0, (.ref 4)), (2, (.int x2))]) (fun (v10 : Int32) => []) rfl (by exact trivial) (pc' := 67) rfl (fun v10 => ?_)
        refine hp_goto hm 5 rfl (tgt := 13) rfl ?_
        exact hp_lf [2, 3, 1, 0] rfl (fun _ e => e)
  · refine hp_G hm (at1 10 rfl) (L' := [(3, (.int p3))]) (st' := [(.int p3)]) rfl (fun hP => (by exact trivial)) (pc' := 71) rfl (fun q12 => ?_)
    exact hp_ir hm at0 rfl (by exact trivial) (pc' := 71) rfl 7 rfl rfl (nar01 q12) (fun _ e => e)
