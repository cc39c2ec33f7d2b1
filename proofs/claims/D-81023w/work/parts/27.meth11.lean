/-! LAYER 2b: methods (printed by gen/dec.py): Mo_keep Mo_size Mo_u4 Mo_loca Mo_bytesOf Mo_leftOf Mo_bearingOf Mo_advanceOf Mo_coordinates Mo_simple Mo_s1 Mo_composed Mo_isGlyph Mo_failOutside Mo_toPixel Mo_bring Mo_hint -/
/-! HintHouseModel.keep()V -/
def M_Mo_keep : hM := (11, ⟨"HintHouseModel", "keep", "()V"⟩, prog_13_method_97_code, 2, (Option.none : Option Jvm.ClassFile.FieldType), [], [(0, [(.aload_n 0, 1, 0, 0, 0, .null), (.getfield 140, 3, 11, 116, 4, .null), (.iconst 0, 1, 0, 0, 0, (.int (0 : Int32))), (.aload_n 0, 1, 0, 0, 0, .null), (.getfield 605, 3, 11, 80, 0, .null), (.iastore, 1, 0, 0, 0, .null)]), (10, [(.aload_n 0, 1, 0, 0, 0, .null), (.getfield 140, 3, 11, 116, 4, .null), (.iconst 1, 1, 0, 0, 0, (.int (1 : Int32))), (.aload_n 0, 1, 0, 0, 0, .null), (.getfield 615, 3, 11, 81, 0, .null), (.iastore, 1, 0, 0, 0, .null)]), (20, [(.aload_n 0, 1, 0, 0, 0, .null), (.getfield 140, 3, 11, 116, 4, .null), (.iconst 2, 1, 0, 0, 0, (.int (2 : Int32))), (.aload_n 0, 1, 0, 0, 0, .null), (.getfield 608, 3, 11, 82, 0, .null), (.iastore, 1, 0, 0, 0, .null)]), (30, [(.aload_n 0, 1, 0, 0, 0, .null), (.getfield 140, 3, 11, 116, 4, .null), (.iconst 3, 1, 0, 0, 0, (.int (3 : Int32))), (.aload_n 0, 1, 0, 0, 0, .null), (.getfield 595, 3, 11, 83, 0, .null), (.iastore, 1, 0, 0, 0, .null)]), (40, [(.aload_n 0, 1, 0, 0, 0, .null), (.getfield 140, 3, 11, 116, 4, .null), (.iconst 4, 1, 0, 0, 0, (.int (4 : Int32))), (.aload_n 0, 1, 0, 0, 0, .null), (.getfield 683, 3, 11, 84, 1, .null)]), (56, [(.iconst 0, 1, 0, 0, 0, (.int (0 : Int32)))]), (52, [(.iconst 1, 1, 0, 0, 0, (.int (1 : Int32)))]), (57, [(.iastore, 1, 0, 0, 0, .null)]), (58, [(.aload_n 0, 1, 0, 0, 0, .null), (.getfield 140, 3, 11, 116, 4, .null), (.iconst 5, 1, 0, 0, 0, (.int (5 : Int32))), (.aload_n 0, 1, 0, 0, 0, .null), (.getfield 700, 3, 11, 85, 0, .null), (.iastore, 1, 0, 0, 0, .null)]), (68, [(.aload_n 0, 1, 0, 0, 0, .null), (.getfield 140, 3, 11, 116, 4, .null), (.bipush 6, 2, 0, 0, 0, (.int (6 : Int32))), (.aload_n 0, 1, 0, 0, 0, .null), (.getfield 703, 3, 11, 86, 0, .null), (.iastore, 1, 0, 0, 0, .null)]), (79, [(.aload_n 0, 1, 0, 0, 0, .null), (.getfield 140, 3, 11, 116, 4, .null), (.bipush 7, 2, 0, 0, 0, (.int (7 : Int32))), (.aload_n 0, 1, 0, 0, 0, .null), (.getfield 739, 3, 11, 87, 0, .null), (.iastore, 1, 0, 0, 0, .null)]), (90, [(.aload_n 0, 1, 0, 0, 0, .null), (.getfield 140, 3, 11, 116, 4, .null), (.bipush 8, 2, 0, 0, 0, (.int (8 : Int32))), (.aload_n 0, 1, 0, 0, 0, .null), (.getfield 747, 3, 11, 88, 0, .null), (.iastore, 1, 0, 0, 0, .null)]), (101, [(.iconst 0, 1, 0, 0, 0, (.int (0 : Int32))), (.istore_n 1, 1, 0, 0, 0, .null)]), (103, [(.iload_n 1, 1, 0, 0, 0, .null), (.sipush 256, 3, 0, 0, 0, (.int (256 : Int32)))]), (110, [(.aload_n 0, 1, 0, 0, 0, .null), (.getfield 131, 3, 11, 113, 4, .null), (.iload_n 1, 1, 0, 0, 0, .null), (.aload_n 0, 1, 0, 0, 0, .null), (.getfield 64, 3, 11, 44, 4, .null), (.iload_n 1, 1, 0, 0, 0, .null), (.iaload, 1, 0, 0, 0, .null), (.iastore, 1, 0, 0, 0, .null)]), (122, [(.iinc 1 1, 3, 0, 0, 0, (.int (1 : Int32)))]), (128, [(.iconst 0, 1, 0, 0, 0, (.int (0 : Int32))), (.istore_n 1, 1, 0, 0, 0, .null)]), (130, [(.iload_n 1, 1, 0, 0, 0, .null), (.bipush 64, 2, 0, 0, 0, (.int (64 : Int32)))]), (136, [(.aload_n 0, 1, 0, 0, 0, .null), (.getfield 134, 3, 11, 114, 4, .null), (.iload_n 1, 1, 0, 0, 0, .null), (.aload_n 0, 1, 0, 0, 0, .null), (.getfield 67, 3, 11, 45, 4, .null), (.iload_n 1, 1, 0, 0, 0, .null), (.iaload, 1, 0, 0, 0, .null), (.iastore, 1, 0, 0, 0, .null)]), (148, [(.aload_n 0, 1, 0, 0, 0, .null), (.getfield 137, 3, 11, 115, 4, .null), (.iconst 4, 1, 0, 0, 0, (.int (4 : Int32))), (.iload_n 1, 1, 0, 0, 0, .null), (.imul, 1, 0, 0, 0, .null), (.aload_n 0, 1, 0, 0, 0, .null), (.getfield 76, 3, 11, 48, 4, .null), (.iload_n 1, 1, 0, 0, 0, .null), (.iaload, 1, 0, 0, 0, .null), (.iastore, 1, 0, 0, 0, .null)]), (162, [(.aload_n 0, 1, 0, 0, 0, .null), (.getfield 137, 3, 11, 115, 4, .null), (.iconst 4, 1, 0, 0, 0, (.int (4 : Int32))), (.iload_n 1, 1, 0, 0, 0, .null), (.imul, 1, 0, 0, 0, .null), (.iconst 1, 1, 0, 0, 0, (.int (1 : Int32))), (.iadd, 1, 0, 0, 0, .null), (.aload_n 0, 1, 0, 0, 0, .null), (.getfield 79, 3, 11, 49, 4, .null), (.iload_n 1, 1, 0, 0, 0, .null), (.iaload, 1, 0, 0, 0, .null), (.iastore, 1, 0, 0, 0, .null)]), (178, [(.aload_n 0, 1, 0, 0, 0, .null), (.getfield 137, 3, 11, 115, 4, .null), (.iconst 4, 1, 0, 0, 0, (.int (4 : Int32))), (.iload_n 1, 1, 0, 0, 0, .null), (.imul, 1, 0, 0, 0, .null), (.iconst 2, 1, 0, 0, 0, (.int (2 : Int32))), (.iadd, 1, 0, 0, 0, .null), (.aload_n 0, 1, 0, 0, 0, .null), (.getfield 70, 3, 11, 46, 4, .null), (.iload_n 1, 1, 0, 0, 0, .null), (.iaload, 1, 0, 0, 0, .null), (.iastore, 1, 0, 0, 0, .null)]), (194, [(.aload_n 0, 1, 0, 0, 0, .null), (.getfield 137, 3, 11, 115, 4, .null), (.iconst 4, 1, 0, 0, 0, (.int (4 : Int32))), (.iload_n 1, 1, 0, 0, 0, .null), (.imul, 1, 0, 0, 0, .null), (.iconst 3, 1, 0, 0, 0, (.int (3 : Int32))), (.iadd, 1, 0, 0, 0, .null), (.aload_n 0, 1, 0, 0, 0, .null), (.getfield 73, 3, 11, 47, 4, .null), (.iload_n 1, 1, 0, 0, 0, .null), (.iaload, 1, 0, 0, 0, .null), (.iastore, 1, 0, 0, 0, .null)]), (210, [(.iinc 1 1, 3, 0, 0, 0, (.int (1 : Int32)))])], [(53, .goto 4, 3), (49, .ifCond .eq 7, 3), (125, .goto (-22), 3), (107, .if_icmp .ge 21, 3), (213, .goto (-83), 3), (133, .if_icmp .ge 83, 3), (216, .return_, 1)])
set_option maxRecDepth 100000 in
theorem m_Mo_keep : hx_mok M_Mo_keep = true := by decide +kernel
theorem pd_Mo_keep : (parseMethodDescriptor M_Mo_keep.2.1.desc).map (fun q => q.parameters.length) = some 0 := by decide +kernel
theorem y_Mo_keep : hx_okV M_Mo_keep := ⟨⟨lw_g (lw_at lw_m10 231 rfl) rfl, lw_g (lw_at lw_m10 230 rfl) rfl, qs182, lw_g (lw_at lw_m1 12 rfl) rfl, rfl, by decide, by decide, by decide⟩, rfl, by decide, plainFor_of_name (by decide)⟩
noncomputable def f_Mo_keep (h : hH) : Option (Unit × hH) :=
  lz (wrI h 234 0 (rdI h 192 80)) fun h1 =>
  lz (wrI h1 234 1 (rdI h1 192 81)) fun h2 =>
  lz (wrI h2 234 2 (rdI h2 192 82)) fun h3 =>
  lz (wrI h3 234 3 (rdI h3 192 83)) fun h4 =>
  lz (A := Int32) (if (rdI h4 192 84) = 0 then (0 : Int32) else (1 : Int32)) fun p1 =>
  lz (wrI h4 234 4 p1) fun h5 =>
  lz (wrI h5 234 5 (rdI h5 192 85)) fun h6 =>
  lz (wrI h6 234 6 (rdI h6 192 86)) fun h7 =>
  lz (wrI h7 234 7 (rdI h7 192 87)) fun h8 =>
  lz (wrI h8 234 8 (rdI h8 192 88)) fun h9 =>
  bP (A := hH) (
    wh (A := (Int32 × hH)) (B := hH) (fun p3 =>
        if (256 : Int32) ≤ p3.1 then (
          some (.inr p3.2)
        ) else (
          gd (vp_in p3.1 256) <|
          lz (wrI p3.2 231 (Int32.toNatClampNeg p3.1) (rdI p3.2 210 (Int32.toNatClampNeg p3.1))) fun h10 =>
          lz (A := Int32) (p3.1 + (1 : Int32)) fun v6 =>
          some (.inl (v6, h10))
        )
    ) ((0 : Int32), h9)
  ) fun p4 =>
  bP (A := hH) (
    wh (A := (Int32 × hH)) (B := hH) (fun p8 =>
        if (64 : Int32) ≤ p8.1 then (
          some (.inr p8.2)
        ) else (
          gd (vp_in p8.1 64) <|
          lz (wrI p8.2 232 (Int32.toNatClampNeg p8.1) (rdI p8.2 211 (Int32.toNatClampNeg p8.1))) fun h11 =>
          gd (vp_in p8.1 204 ∧ vp_in ((4 : Int32) * p8.1) 256) <|
          lz (wrI h11 233 (Int32.toNatClampNeg ((4 : Int32) * p8.1)) (rdI h11 214 (Int32.toNatClampNeg p8.1))) fun h12 =>
          gd (vp_in p8.1 204 ∧ vp_in (((4 : Int32) * p8.1) + (1 : Int32)) 256) <|
          lz (wrI h12 233 (Int32.toNatClampNeg (((4 : Int32) * p8.1) + (1 : Int32))) (rdI h12 215 (Int32.toNatClampNeg p8.1))) fun h13 =>
          gd (vp_in p8.1 204 ∧ vp_in (((4 : Int32) * p8.1) + (2 : Int32)) 256) <|
          lz (wrI h13 233 (Int32.toNatClampNeg (((4 : Int32) * p8.1) + (2 : Int32))) (rdI h13 212 (Int32.toNatClampNeg p8.1))) fun h14 =>
          gd (vp_in p8.1 204 ∧ vp_in (((4 : Int32) * p8.1) + (3 : Int32)) 256) <|
          lz (wrI h14 233 (Int32.toNatClampNeg (((4 : Int32) * p8.1) + (3 : Int32))) (rdI h14 213 (Int32.toNatClampNeg p8.1))) fun h15 =>
          lz (A := Int32) (p8.1 + (1 : Int32)) fun v15 =>
          some (.inl (v15, h15))
        )
    ) ((0 : Int32), p4)
  ) fun p9 =>
  some ((), p9)
set_option maxRecDepth 20000 in
theorem k_Mo_keep (h : hH) : hx_kS S0 M_Mo_keep 1 NT [(.ref 192)] h (f_Mo_keep h) cvU := by
  have hm := m_Mo_keep
  show hx_P S0 M_Mo_keep 1 0 [(0, (.ref 192))] [] NT h (f_Mo_keep h) (hx_Rc cvU NT)
  unfold f_Mo_keep
  refine hp_w hm (at1 0 rfl) (L' := [(0, (.ref 192))]) rfl (by exact ⟨⟨og_192, og_192⟩, ⟨og_234, (show vp_in (0 : Int32) 9 from vp_lit (by decide))⟩⟩) (pc' := 10) rfl (fun h1 => ?_)
  refine hp_w hm (at1 1 rfl) (L' := [(0, (.ref 192))]) rfl (by exact ⟨⟨og_192, og_192⟩, ⟨og_234, (show vp_in (1 : Int32) 9 from vp_lit (by decide))⟩⟩) (pc' := 20) rfl (fun h2 => ?_)
  refine hp_w hm (at1 2 rfl) (L' := [(0, (.ref 192))]) rfl (by exact ⟨⟨og_192, og_192⟩, ⟨og_234, (show vp_in (2 : Int32) 9 from vp_lit (by decide))⟩⟩) (pc' := 30) rfl (fun h3 => ?_)
  refine hp_w hm (at1 3 rfl) (L' := [(0, (.ref 192))]) rfl (by exact ⟨⟨og_192, og_192⟩, ⟨og_234, (show vp_in (3 : Int32) 9 from vp_lit (by decide))⟩⟩) (pc' := 40) rfl (fun h4 => ?_)
  refine hp_JZ 57 (fun (p1 : Int32) => [(0, (.ref 192))]) (fun (p1 : Int32) => [(.int p1), (.int (4 : Int32)), (.ref 234)]) (fun (p1 : Int32) => h4) ?_ (fun p1 => ?_)
  · refine hp_sv0 ?_
    refine hp_if_eq hm (at1 4 rfl) rfl (by exact ⟨og_192, og_192⟩) (pc' := 49) rfl 1 rfl (tgt := 56) rfl (fun c2 => ?_) (fun c2 => ?_)
    · refine hp_b hm (at1 5 rfl) (L' := [(0, (.ref 192))]) (st' := [(.int (0 : Int32)), (.int (4 : Int32)), (.ref 234)]) rfl (by exact trivial) (pc' := 57) rfl ?_
      exact hp_lf [0] rfl (fun _ e => e)
    · refine hp_b hm (at1 6 rfl) (L' := [(0, (.ref 192))]) (st' := [(.int (1 : Int32)), (.int (4 : Int32)), (.ref 234)]) rfl (by exact trivial) (pc' := 53) rfl ?_
      refine hp_goto hm 0 rfl (tgt := 57) rfl ?_
      exact hp_lf [0] rfl (fun _ e => e)
  · refine hp_w hm (at1 7 rfl) (L' := [(0, (.ref 192))]) rfl (by exact ⟨og_234, (show vp_in (4 : Int32) 9 from vp_lit (by decide))⟩) (pc' := 58) rfl (fun h5 => ?_)
    refine hp_w hm (at1 8 rfl) (L' := [(0, (.ref 192))]) rfl (by exact ⟨⟨og_192, og_192⟩, ⟨og_234, (show vp_in (5 : Int32) 9 from vp_lit (by decide))⟩⟩) (pc' := 68) rfl (fun h6 => ?_)
    refine hp_w hm (at1 9 rfl) (L' := [(0, (.ref 192))]) rfl (by exact ⟨⟨og_192, og_192⟩, ⟨og_234, (show vp_in (6 : Int32) 9 from vp_lit (by decide))⟩⟩) (pc' := 79) rfl (fun h7 => ?_)
    refine hp_w hm (at1 10 rfl) (L' := [(0, (.ref 192))]) rfl (by exact ⟨⟨og_192, og_192⟩, ⟨og_234, (show vp_in (7 : Int32) 9 from vp_lit (by decide))⟩⟩) (pc' := 90) rfl (fun h8 => ?_)
    refine hp_w hm (at1 11 rfl) (L' := [(0, (.ref 192))]) rfl (by exact ⟨⟨og_192, og_192⟩, ⟨og_234, (show vp_in (8 : Int32) 9 from vp_lit (by decide))⟩⟩) (pc' := 101) rfl (fun h9 => ?_)
    refine hp_b hm (at1 12 rfl) (L' := [(1, (.int (0 : Int32))), (0, (.ref 192))]) (st' := []) rfl (by exact trivial) (pc' := 103) rfl ?_
    refine hp_J 128 (fun (p4 : hH) => [(0, (.ref 192))]) (fun (p4 : hH) => []) (fun (p4 : hH) => p4) ?_ (fun p4 => ?_)
    · refine hp_s [1, 0] rfl (L' := [(0, (.ref 192)), (1, (.int (0 : Int32)))]) ?_
      refine hp_wh (fun (p3 : (Int32 × hH)) => [(0, (.ref 192)), (1, (.int p3.1))]) [] (fun (p3 : (Int32 × hH)) => p3.2) (fun p3 => ?_) ((0 : Int32), h9)
      refine hp_ic_ge hm (at1 13 rfl) rfl (by exact trivial) (pc' := 107) rfl 3 rfl (tgt := 128) rfl (fun c7 => ?_) (fun c7 => ?_)
      · exact hp_lf [0] rfl (fun _ e => e)
      · refine hp_GW hm (at1 14 rfl) (L' := [(0, (.ref 192)), (1, (.int p3.1))]) rfl (fun hP => (by exact ⟨⟨⟨og_192, og_192⟩, ⟨og_210, hP⟩⟩, ⟨og_231, hP⟩⟩)) (pc' := 122) rfl (fun q5 h10 => ?_)
        refine hp_z hm (at1 15 rfl) (fun (v6 : Int32) => [(1, (.int v6)), (0, (.ref 192))]) (fun (v6 : Int32) => []) rfl (by exact trivial) (pc' := 125) rfl (fun v6 => ?_)
        refine hp_goto hm 2 rfl (tgt := 103) rfl ?_
        exact hp_lf [1, 0] rfl (fun _ e => e)
    · refine hp_b hm (at1 16 rfl) (L' := [(1, (.int (0 : Int32))), (0, (.ref 192))]) (st' := []) rfl (by exact trivial) (pc' := 130) rfl ?_
      refine hp_J 216 (fun (p9 : hH) => []) (fun (p9 : hH) => []) (fun (p9 : hH) => p9) ?_ (fun p9 => ?_)
      · refine hp_s [1, 0] rfl (L' := [(0, (.ref 192)), (1, (.int (0 : Int32)))]) ?_
        refine hp_wh (fun (p8 : (Int32 × hH)) => [(0, (.ref 192)), (1, (.int p8.1))]) [] (fun (p8 : (Int32 × hH)) => p8.2) (fun p8 => ?_) ((0 : Int32), p4)
        refine hp_ic_ge hm (at1 17 rfl) rfl (by exact trivial) (pc' := 133) rfl 5 rfl (tgt := 216) rfl (fun c16 => ?_) (fun c16 => ?_)
        · exact hp_lf [] rfl (fun _ e => e)
        · refine hp_GW hm (at1 18 rfl) (L' := [(0, (.ref 192)), (1, (.int p8.1))]) rfl (fun hP => (by exact ⟨⟨⟨og_192, og_192⟩, ⟨og_211, hP⟩⟩, ⟨og_232, hP⟩⟩)) (pc' := 148) rfl (fun q10 h11 => ?_)
          refine hp_GW hm (at1 19 rfl) (L' := [(0, (.ref 192)), (1, (.int p8.1))]) rfl (fun hP => (by exact ⟨⟨⟨og_192, og_192⟩, ⟨og_214, hP.1⟩⟩, ⟨og_233, hP.2⟩⟩)) (pc' := 162) rfl (fun q11 h12 => ?_)
          refine hp_GW hm (at1 20 rfl) (L' := [(0, (.ref 192)), (1, (.int p8.1))]) rfl (fun hP => (by exact ⟨⟨⟨og_192, og_192⟩, ⟨og_215, hP.1⟩⟩, ⟨og_233, hP.2⟩⟩)) (pc' := 178) rfl (fun q12 h13 => ?_)
          refine hp_GW hm (at1 21 rfl) (L' := [(0, (.ref 192)), (1, (.int p8.1))]) rfl (fun hP => (by exact ⟨⟨⟨og_192, og_192⟩, ⟨og_212, hP.1⟩⟩, ⟨og_233, hP.2⟩⟩)) (pc' := 194) rfl (fun q13 h14 => ?_)
          refine hp_GW hm (at1 22 rfl) (L' := [(0, (.ref 192)), (1, (.int p8.1))]) rfl (fun hP => (by exact ⟨⟨⟨og_192, og_192⟩, ⟨og_213, hP.1⟩⟩, ⟨og_233, hP.2⟩⟩)) (pc' := 210) rfl (fun q14 h15 => ?_)
          refine hp_z hm (at1 23 rfl) (fun (v15 : Int32) => [(1, (.int v15)), (0, (.ref 192))]) (fun (v15 : Int32) => []) rfl (by exact trivial) (pc' := 213) rfl (fun v15 => ?_)
          refine hp_goto hm 4 rfl (tgt := 130) rfl ?_
          exact hp_lf [1, 0] rfl (fun _ e => e)
      · exact hp_vr hm 6 rfl rfl (fun _ e => e)
/-! HintHouseModel.size(I)I -/
def M_Mo_size : hM := (11, ⟨"HintHouseModel", "size", "(I)I"⟩, prog_13_method_100_code, 4, (Option.some Jvm.ClassFile.FieldType.int), [], [(0, [(.aload_n 0, 1, 0, 0, 0, .null), (.getfield 759, 3, 11, 4, 1, .null)]), (10, [(.iload_n 1, 1, 0, 0, 0, .null), (.i2l, 1, 0, 0, 0, .null), (.ldc2_w 228, 3, 0, 0, 0, (.long (4 : Int64))), (.ldc2_w 762, 3, 0, 0, 0, (.long (48 : Int64)))]), (27, [(.aload_n 0, 1, 0, 0, 0, .null), (.iload_n 1, 1, 0, 0, 0, .null), (.putfield 621, 3, 11, 62, 0, .null)]), (32, [(.aload_n 0, 1, 0, 0, 0, .null), (.iconst 0, 1, 0, 0, 0, (.int (0 : Int32))), (.putfield 764, 3, 11, 108, 1, .null)]), (37, [(.aload_n 0, 1, 0, 0, 0, .null), (.iconst 0, 1, 0, 0, 0, (.int (0 : Int32))), (.putfield 767, 3, 11, 107, 1, .null)]), (42, [(.aload_n 0, 1, 0, 0, 0, .null), (.iconst 0, 1, 0, 0, 0, (.int (0 : Int32))), (.putfield 409, 3, 11, 59, 0, .null)]), (47, [(.aload_n 0, 1, 0, 0, 0, .null), (.iconst 0, 1, 0, 0, 0, (.int (0 : Int32))), (.putfield 505, 3, 11, 58, 0, .null)]), (52, [(.aload_n 0, 1, 0, 0, 0, .null), (.iconst 0, 1, 0, 0, 0, (.int (0 : Int32))), (.putfield 514, 3, 11, 52, 0, .null)]), (57, [(.aload_n 0, 1, 0, 0, 0, .null), (.iconst 0, 1, 0, 0, 0, (.int (0 : Int32))), (.putfield 706, 3, 11, 53, 0, .null)]), (62, [(.aload_n 0, 1, 0, 0, 0, .null), (.iconst 0, 1, 0, 0, 0, (.int (0 : Int32))), (.putfield 655, 3, 11, 98, 0, .null)]), (67, [(.iconst 0, 1, 0, 0, 0, (.int (0 : Int32))), (.istore_n 2, 1, 0, 0, 0, .null)]), (69, [(.iload_n 2, 1, 0, 0, 0, .null), (.bipush 64, 2, 0, 0, 0, (.int (64 : Int32)))]), (75, [(.aload_n 0, 1, 0, 0, 0, .null), (.getfield 100, 3, 11, 94, 4, .null), (.iload_n 2, 1, 0, 0, 0, .null), (.iconst (-1), 1, 0, 0, 0, (.int (-1 : Int32))), (.iastore, 1, 0, 0, 0, .null)]), (82, [(.aload_n 0, 1, 0, 0, 0, .null), (.getfield 67, 3, 11, 45, 4, .null), (.iload_n 2, 1, 0, 0, 0, .null), (.iconst 0, 1, 0, 0, 0, (.int (0 : Int32))), (.iastore, 1, 0, 0, 0, .null)]), (89, [(.aload_n 0, 1, 0, 0, 0, .null), (.iload_n 2, 1, 0, 0, 0, .null), (.lconst 0, 1, 0, 0, 0, (.long (0 : Int64))), (.lconst 0, 1, 0, 0, 0, (.long (0 : Int64)))]), (96, [(.aload_n 0, 1, 0, 0, 0, .null), (.getfield 82, 3, 11, 50, 4, .null), (.iload_n 2, 1, 0, 0, 0, .null), (.iconst 0, 1, 0, 0, 0, (.int (0 : Int32))), (.iastore, 1, 0, 0, 0, .null)]), (103, [(.iinc 2 1, 3, 0, 0, 0, (.int (1 : Int32)))]), (109, [(.iconst 0, 1, 0, 0, 0, (.int (0 : Int32))), (.istore_n 2, 1, 0, 0, 0, .null)]), (111, [(.iload_n 2, 1, 0, 0, 0, .null), (.sipush 256, 3, 0, 0, 0, (.int (256 : Int32)))]), (118, [(.aload_n 0, 1, 0, 0, 0, .null), (.getfield 106, 3, 11, 96, 4, .null), (.iload_n 2, 1, 0, 0, 0, .null), (.iconst (-1), 1, 0, 0, 0, (.int (-1 : Int32))), (.iastore, 1, 0, 0, 0, .null)]), (125, [(.aload_n 0, 1, 0, 0, 0, .null), (.getfield 64, 3, 11, 44, 4, .null), (.iload_n 2, 1, 0, 0, 0, .null), (.iload_n 2, 1, 0, 0, 0, .null), (.aload_n 0, 1, 0, 0, 0, .null), (.getfield 294, 3, 11, 25, 0, .null)]), (161, [(.iconst 0, 1, 0, 0, 0, (.int (0 : Int32)))]), (138, [(.aload_n 0, 1, 0, 0, 0, .null), (.aload_n 0, 1, 0, 0, 0, .null), (.aload_n 0, 1, 0, 0, 0, .null), (.ldc_w 291, 3, 0, 0, 0, (.int (1668707360 : Int32)))]), (147, [(.iconst 2, 1, 0, 0, 0, (.int (2 : Int32))), (.iload_n 2, 1, 0, 0, 0, .null), (.imul, 1, 0, 0, 0, .null), (.iadd, 1, 0, 0, 0, .null)]), (154, [(.i2l, 1, 0, 0, 0, .null)]), (162, [(.iastore, 1, 0, 0, 0, .null)]), (163, [(.iinc 2 1, 3, 0, 0, 0, (.int (1 : Int32)))]), (169, [(.aload_n 0, 1, 0, 0, 0, .null), (.bipush 68, 2, 0, 0, 0, (.int (68 : Int32))), (.putfield 605, 3, 11, 80, 0, .null)]), (175, [(.aload_n 0, 1, 0, 0, 0, .null), (.iconst 0, 1, 0, 0, 0, (.int (0 : Int32))), (.putfield 615, 3, 11, 81, 0, .null)]), (180, [(.aload_n 0, 1, 0, 0, 0, .null), (.iconst 0, 1, 0, 0, 0, (.int (0 : Int32))), (.putfield 608, 3, 11, 82, 0, .null)]), (185, [(.aload_n 0, 1, 0, 0, 0, .null), (.bipush 64, 2, 0, 0, 0, (.int (64 : Int32))), (.putfield 595, 3, 11, 83, 0, .null)]), (191, [(.aload_n 0, 1, 0, 0, 0, .null), (.iconst 1, 1, 0, 0, 0, (.int (1 : Int32))), (.putfield 683, 3, 11, 84, 1, .null)]), (196, [(.aload_n 0, 1, 0, 0, 0, .null), (.bipush 9, 2, 0, 0, 0, (.int (9 : Int32))), (.putfield 700, 3, 11, 85, 0, .null)]), (202, [(.aload_n 0, 1, 0, 0, 0, .null), (.iconst 3, 1, 0, 0, 0, (.int (3 : Int32))), (.putfield 703, 3, 11, 86, 0, .null)]), (207, [(.aload_n 0, 1, 0, 0, 0, .null), (.iconst 0, 1, 0, 0, 0, (.int (0 : Int32))), (.putfield 739, 3, 11, 87, 0, .null)]), (212, [(.aload_n 0, 1, 0, 0, 0, .null), (.iconst 0, 1, 0, 0, 0, (.int (0 : Int32))), (.putfield 747, 3, 11, 88, 0, .null)]), (217, [(.iconst 0, 1, 0, 0, 0, (.int (0 : Int32))), (.istore_n 2, 1, 0, 0, 0, .null)]), (219, [(.iload_n 2, 1, 0, 0, 0, .null), (.iconst 2, 1, 0, 0, 0, (.int (2 : Int32)))]), (224, [(.aload_n 0, 1, 0, 0, 0, .null), (.getfield 409, 3, 11, 59, 0, .null)]), (231, [(.iload_n 2, 1, 0, 0, 0, .null)]), (241, [(.ldc_w 293, 3, 0, 0, 0, (.int (1886545264 : Int32)))]), (235, [(.ldc_w 292, 3, 0, 0, 0, (.int (1718642541 : Int32)))]), (244, [(.istore_n 3, 1, 0, 0, 0, .null), (.aload_n 0, 1, 0, 0, 0, .null), (.getfield 94, 3, 11, 89, 4, .null), (.iload_n 2, 1, 0, 0, 0, .null), (.aload_n 0, 1, 0, 0, 0, .null), (.iload_n 3, 1, 0, 0, 0, .null)]), (255, [(.iastore, 1, 0, 0, 0, .null)]), (256, [(.aload_n 0, 1, 0, 0, 0, .null), (.getfield 97, 3, 11, 90, 4, .null), (.iload_n 2, 1, 0, 0, 0, .null), (.aload_n 0, 1, 0, 0, 0, .null), (.iload_n 3, 1, 0, 0, 0, .null)]), (266, [(.iastore, 1, 0, 0, 0, .null)]), (267, [(.aload_n 0, 1, 0, 0, 0, .null), (.iload_n 3, 1, 0, 0, 0, .null)]), (272, [(.iconst (-1), 1, 0, 0, 0, (.int (-1 : Int32)))]), (276, [(.aload_n 0, 1, 0, 0, 0, .null), (.iload_n 2, 1, 0, 0, 0, .null)]), (281, [(.iinc 2 1, 3, 0, 0, 0, (.int (1 : Int32)))]), (287, [(.aload_n 0, 1, 0, 0, 0, .null), (.getfield 409, 3, 11, 59, 0, .null)]), (304, [(.aload_n 0, 1, 0, 0, 0, .null)]), (308, [(.iconst 0, 1, 0, 0, 0, (.int (0 : Int32))), (.istore_n 2, 1, 0, 0, 0, .null)]), (310, [(.iload_n 2, 1, 0, 0, 0, .null), (.bipush 64, 2, 0, 0, 0, (.int (64 : Int32)))]), (316, [(.aload_n 0, 1, 0, 0, 0, .null), (.getfield 143, 3, 11, 117, 4, .null), (.iload_n 2, 1, 0, 0, 0, .null), (.aload_n 0, 1, 0, 0, 0, .null), (.getfield 82, 3, 11, 50, 4, .null), (.iload_n 2, 1, 0, 0, 0, .null), (.iaload, 1, 0, 0, 0, .null), (.iastore, 1, 0, 0, 0, .null)]), (328, [(.iinc 2 1, 3, 0, 0, 0, (.int (1 : Int32)))]), (334, [(.aload_n 0, 1, 0, 0, 0, .null), (.iconst 1, 1, 0, 0, 0, (.int (1 : Int32))), (.putfield 767, 3, 11, 107, 1, .null)]), (339, [(.aload_n 0, 1, 0, 0, 0, .null), (.aload_n 0, 1, 0, 0, 0, .null), (.getfield 505, 3, 11, 58, 0, .null), (.putfield 756, 3, 11, 109, 0, .null)]), (347, [(.aload_n 0, 1, 0, 0, 0, .null), (.iconst 0, 1, 0, 0, 0, (.int (0 : Int32))), (.putfield 753, 3, 11, 111, 0, .null)]), (352, [(.aload_n 0, 1, 0, 0, 0, .null), (.iconst (-1), 1, 0, 0, 0, (.int (-1 : Int32))), (.putfield 127, 3, 11, 112, 0, .null)]), (357, [(.aload_n 0, 1, 0, 0, 0, .null), (.getfield 505, 3, 11, 58, 0, .null)]), (294, [(.aload_n 0, 1, 0, 0, 0, .null), (.iconst 0, 1, 0, 0, 0, (.int (0 : Int32))), (.putfield 621, 3, 11, 62, 0, .null)]), (299, [(.aload_n 0, 1, 0, 0, 0, .null)]), (24, [(.bipush (-2), 2, 0, 0, 0, (.int (-2 : Int32)))]), (7, [(.bipush (-3), 2, 0, 0, 0, (.int (-3 : Int32)))])], [(18, .invokestatic 263, 3), (93, .invokevirtual 716, 3), (106, .goto (-37), 3), (72, .if_icmp .ge 37, 3), (144, .invokevirtual 251, 3), (151, .invokevirtual 305, 3), (155, .invokevirtual 611, 3), (158, .goto 4, 3), (135, .if_icmp .ge 26, 3), (166, .goto (-55), 3), (115, .if_icmp .ge 54, 3), (228, .ifCond .ne 59, 3), (221, .if_icmp .ge 66, 3), (238, .goto 6, 3), (232, .ifCond .ne 9, 3), (252, .invokevirtual 251, 3), (263, .invokevirtual 257, 3), (269, .invokevirtual 219, 3), (278, .invokevirtual 770, 3), (273, .if_icmp .eq 8, 3), (284, .goto (-65), 3), (305, .invokevirtual 776, 3), (331, .goto (-21), 3), (313, .if_icmp .ge 21, 3), (361, .ireturn, 1), (300, .invokevirtual 773, 3), (303, .ireturn, 1), (291, .ifCond .le 13, 3), (26, .ireturn, 1), (21, .ifCond .ne 6, 3), (9, .ireturn, 1), (4, .ifCond .ne 6, 3)])
set_option maxRecDepth 100000 in
theorem m_Mo_size : hx_mok M_Mo_size = true := by decide +kernel
theorem pd_Mo_size : (parseMethodDescriptor M_Mo_size.2.1.desc).map (fun q => q.parameters.length) = some 1 := by decide +kernel
theorem y_Mo_size : hx_okV M_Mo_size := ⟨⟨lw_g (lw_at lw_m9 181 rfl) rfl, lw_g (lw_at lw_m9 179 rfl) rfl, lw_g (lw_at lw_m9 180 rfl) rfl, lw_g (lw_at lw_m1 12 rfl) rfl, rfl, by decide, by decide, by decide⟩, rfl, by decide, plainFor_of_name (by decide)⟩
noncomputable def f_Mo_size (x1 : Int32) (h : hH) : Option (Int32 × hH) :=
  if (rdI h 192 4) = 0 then (
    some ((-3 : Int32), h)
  ) else (
    bP (f_Mo_in (Int32.toInt64 x1) (4 : Int64) (48 : Int64)) fun a1 =>
    if a1 = 0 then (
      some ((-2 : Int32), h)
    ) else (
      lz (wrI h 192 62 x1) fun h1 =>
      lz (wrI h1 192 108 (0 : Int32)) fun h2 =>
      lz (wrI h2 192 107 (0 : Int32)) fun h3 =>
      lz (wrI h3 192 59 (0 : Int32)) fun h4 =>
      lz (wrI h4 192 58 (0 : Int32)) fun h5 =>
      lz (wrI h5 192 52 (0 : Int32)) fun h6 =>
      lz (wrI h6 192 53 (0 : Int32)) fun h7 =>
      lz (wrI h7 192 98 (0 : Int32)) fun h8 =>
      bP (A := hH) (
        wh (A := (Int32 × hH)) (B := hH) (fun p2 =>
            if (64 : Int32) ≤ p2.1 then (
              some (.inr p2.2)
            ) else (
              gd (vp_in p2.1 64) <|
              lz (wrI p2.2 222 (Int32.toNatClampNeg p2.1) (-1 : Int32)) fun h9 =>
              gd (vp_in p2.1 64) <|
              lz (wrI h9 211 (Int32.toNatClampNeg p2.1) (0 : Int32)) fun h10 =>
              bS (f_Mo_put p2.1 (0 : Int64) (0 : Int64) h10) fun _ h11 =>
              gd (vp_in p2.1 204) <|
              lz (wrI h11 216 (Int32.toNatClampNeg p2.1) (0 : Int32)) fun h12 =>
              lz (A := Int32) (p2.1 + (1 : Int32)) fun v7 =>
              some (.inl (v7, h12))
            )
        ) ((0 : Int32), h8)
      ) fun p3 =>
      bP (A := hH) (
        wh (A := (Int32 × hH)) (B := hH) (fun p9 =>
            if (256 : Int32) ≤ p9.1 then (
              some (.inr p9.2)
            ) else (
              gd (vp_in p9.1 256) <|
              lz (wrI p9.2 224 (Int32.toNatClampNeg p9.1) (-1 : Int32)) fun h13 =>
              bP (A := Int32) (
                if (rdI h13 192 25) ≤ p9.1 then (
                  some (0 : Int32)
                ) else (
                  bP (f_Mo_beginOf (1668707360 : Int32) h13) fun a13 =>
                  bP (f_Mo_s2 (a13 + ((2 : Int32) * p9.1)) h13) fun a14 =>
                  bP (f_Mo_scaled (Int32.toInt64 a14) h13) fun a15 =>
                  some a15
                )
              ) fun p12 =>
              gd (vp_in p9.1 256) <|
              lz (wrI h13 210 (Int32.toNatClampNeg p9.1) p12) fun h14 =>
              lz (A := Int32) (p9.1 + (1 : Int32)) fun v18 =>
              some (.inl (v18, h14))
            )
        ) ((0 : Int32), p3)
      ) fun p10 =>
      lz (wrI p10 192 80 (68 : Int32)) fun h15 =>
      lz (wrI h15 192 81 (0 : Int32)) fun h16 =>
      lz (wrI h16 192 82 (0 : Int32)) fun h17 =>
      lz (wrI h17 192 83 (64 : Int32)) fun h18 =>
      lz (wrI h18 192 84 (1 : Int32)) fun h19 =>
      lz (wrI h19 192 85 (9 : Int32)) fun h20 =>
      lz (wrI h20 192 86 (3 : Int32)) fun h21 =>
      lz (wrI h21 192 87 (0 : Int32)) fun h22 =>
      lz (wrI h22 192 88 (0 : Int32)) fun h23 =>
      bP (A := hH) (
        wh (A := (Int32 × hH)) (B := hH) (fun p20 =>
            if (¬ ((2 : Int32) ≤ p20.1) ∧ (rdI p20.2 192 59) = 0) then (
              lz (A := Int32) (if p20.1 = 0 then (1718642541 : Int32) else (1886545264 : Int32)) fun p27 =>
              bP (f_Mo_beginOf p27 p20.2) fun a29 =>
              gd (vp_in p20.1 3) <|
              lz (wrI p20.2 220 (Int32.toNatClampNeg p20.1) a29) fun h24 =>
              bP (f_Mo_lengthOf p27 h24) fun a31 =>
              gd (vp_in p20.1 3) <|
              lz (wrI h24 221 (Int32.toNatClampNeg p20.1) a31) fun h25 =>
              bP (f_Mo_tableOf p27 h25) fun a33 =>
              bP (A := hH) (
                if a33 = (-1 : Int32) then (
                  some h25
                ) else (
                  bS (f_Mo_runProgram p20.1 h25) fun _ h26 =>
                  some h26
                )
              ) fun p34 =>
              lz (A := Int32) (p20.1 + (1 : Int32)) fun v36 =>
              some (.inl (v36, p34))
            ) else (
              some (.inr p20.2)
            )
        ) ((0 : Int32), h23)
      ) fun p21 =>
      if (rdI p21 192 59) ≤ 0 then (
        bS (f_Mo_keep p21) fun _ h27 =>
        bP (A := hH) (
          wh (A := (Int32 × hH)) (B := hH) (fun p37 =>
              if (64 : Int32) ≤ p37.1 then (
                some (.inr p37.2)
              ) else (
                gd (vp_in p37.1 204 ∧ vp_in p37.1 64) <|
                lz (wrI p37.2 235 (Int32.toNatClampNeg p37.1) (rdI p37.2 216 (Int32.toNatClampNeg p37.1))) fun h28 =>
                lz (A := Int32) (p37.1 + (1 : Int32)) fun v40 =>
                some (.inl (v40, h28))
              )
          ) ((0 : Int32), h27)
        ) fun p38 =>
        lz (wrI p38 192 107 (1 : Int32)) fun h29 =>
        lz (wrI h29 192 109 (rdI h29 192 58)) fun h30 =>
        lz (wrI h30 192 111 (0 : Int32)) fun h31 =>
        lz (wrI h31 192 112 (-1 : Int32)) fun h32 =>
        some ((rdI h32 192 58), h32)
      ) else (
        lz (wrI p21 192 62 (0 : Int32)) fun h33 =>
        bS (f_Mo_failedNow h33) fun a42 h34 =>
        some (a42, h34)
      )
    )
  )
set_option maxRecDepth 20000 in
theorem k_Mo_size (x1 : Int32) (h : hH) : hx_kS S0 M_Mo_size 11 NT [(.ref 192), (.int x1)] h (f_Mo_size x1 h) cvI := by
  have hm := m_Mo_size
  show hx_P S0 M_Mo_size 11 0 [(0, (.ref 192)), (1, (.int x1))] [] NT h (f_Mo_size x1 h) (hx_Rc cvI NT)
  unfold f_Mo_size
  refine hp_if_ne hm (at1 0 rfl) rfl (by exact og_192) (pc' := 4) rfl 31 rfl (tgt := 10) rfl (fun c45 => ?_) (fun c45 => ?_)
  · refine hp_cSP (M2 := M_Mo_in) hm (at1 1 rfl) (as := [(.long (Int32.toInt64 x1)), (.long (4 : Int64)), (.long (48 : Int64))]) (rest := []) rfl (by exact trivial) (pc' := 18) rfl 0 rfl (lw_g (lw_at lw_m9 184 rfl) rfl) y_Mo_in rfl (d2 := 1) ⟨le_b rfl, pd_Mo_in, le_b rfl⟩ (le_b rfl) (k_Mo_in (Int32.toInt64 x1) (4 : Int64) (48 : Int64) h) (fun a1 => ?_)
    refine hp_if_ne hm at0 rfl (by exact trivial) (pc' := 21) rfl 29 rfl (tgt := 27) rfl (fun c44 => ?_) (fun c44 => ?_)
    · refine hp_w hm (at1 2 rfl) (L' := [(0, (.ref 192)), (1, (.int x1))]) rfl (by exact og_192) (pc' := 32) rfl (fun h1 => ?_)
      refine hp_w hm (at1 3 rfl) (L' := [(0, (.ref 192)), (1, (.int x1))]) rfl (by exact ⟨og_192, (Or.inl rfl)⟩) (pc' := 37) rfl (fun h2 => ?_)
      refine hp_w hm (at1 4 rfl) (L' := [(0, (.ref 192)), (1, (.int x1))]) rfl (by exact ⟨og_192, (Or.inl rfl)⟩) (pc' := 42) rfl (fun h3 => ?_)
      refine hp_w hm (at1 5 rfl) (L' := [(0, (.ref 192)), (1, (.int x1))]) rfl (by exact og_192) (pc' := 47) rfl (fun h4 => ?_)
      refine hp_w hm (at1 6 rfl) (L' := [(0, (.ref 192)), (1, (.int x1))]) rfl (by exact og_192) (pc' := 52) rfl (fun h5 => ?_)
      refine hp_w hm (at1 7 rfl) (L' := [(0, (.ref 192)), (1, (.int x1))]) rfl (by exact og_192) (pc' := 57) rfl (fun h6 => ?_)
      refine hp_w hm (at1 8 rfl) (L' := [(0, (.ref 192)), (1, (.int x1))]) rfl (by exact og_192) (pc' := 62) rfl (fun h7 => ?_)
      refine hp_w hm (at1 9 rfl) (L' := [(0, (.ref 192)), (1, (.int x1))]) rfl (by exact og_192) (pc' := 67) rfl (fun h8 => ?_)
      refine hp_b hm (at1 10 rfl) (L' := [(2, (.int (0 : Int32))), (0, (.ref 192)), (1, (.int x1))]) (st' := []) rfl (by exact trivial) (pc' := 69) rfl ?_
      refine hp_J 109 (fun (p3 : hH) => [(0, (.ref 192))]) (fun (p3 : hH) => []) (fun (p3 : hH) => p3) ?_ (fun p3 => ?_)
      · refine hp_s [1, 0] rfl (L' := [(0, (.ref 192)), (2, (.int (0 : Int32)))]) ?_
        refine hp_wh (fun (p2 : (Int32 × hH)) => [(0, (.ref 192)), (2, (.int p2.1))]) [] (fun (p2 : (Int32 × hH)) => p2.2) (fun p2 => ?_) ((0 : Int32), h8)
        refine hp_ic_ge hm (at1 11 rfl) rfl (by exact trivial) (pc' := 72) rfl 3 rfl (tgt := 109) rfl (fun c8 => ?_) (fun c8 => ?_)
        · exact hp_lf [0] rfl (fun _ e => e)
        · refine hp_GW hm (at1 12 rfl) (L' := [(0, (.ref 192)), (2, (.int p2.1))]) rfl (fun hP => (by exact ⟨og_192, ⟨og_222, hP⟩⟩)) (pc' := 82) rfl (fun q4 h9 => ?_)
          refine hp_GW hm (at1 13 rfl) (L' := [(0, (.ref 192)), (2, (.int p2.1))]) rfl (fun hP => (by exact ⟨og_192, ⟨og_211, hP⟩⟩)) (pc' := 89) rfl (fun q5 h10 => ?_)
          refine hp_cVS (M2 := M_Mo_put) hm (at1 14 rfl) (as := [(.int p2.1), (.long (0 : Int64)), (.long (0 : Int64))]) (rest := []) (z := 192) rfl (by exact trivial) (pc' := 93) rfl 1 rfl (lw_g (lw_at lw_m9 187 rfl) rfl) y_Mo_put rfl (d2 := 1) ⟨le_b rfl, pd_Mo_put, le_b rfl⟩ (le_b rfl) og_192 (k_Mo_put p2.1 (0 : Int64) (0 : Int64) h10) (fun _ h11 => ?_)
          refine hp_GW hm (at1 15 rfl) (L' := [(0, (.ref 192)), (2, (.int p2.1))]) rfl (fun hP => (by exact ⟨og_192, ⟨og_216, hP⟩⟩)) (pc' := 103) rfl (fun q6 h12 => ?_)
          refine hp_z hm (at1 16 rfl) (fun (v7 : Int32) => [(2, (.int v7)), (0, (.ref 192))]) (fun (v7 : Int32) => []) rfl (by exact trivial) (pc' := 106) rfl (fun v7 => ?_)
          refine hp_goto hm 2 rfl (tgt := 69) rfl ?_
          exact hp_lf [1, 0] rfl (fun _ e => e)
      · refine hp_b hm (at1 17 rfl) (L' := [(2, (.int (0 : Int32))), (0, (.ref 192))]) (st' := []) rfl (by exact trivial) (pc' := 111) rfl ?_
        refine hp_J 169 (fun (p10 : hH) => [(0, (.ref 192))]) (fun (p10 : hH) => []) (fun (p10 : hH) => p10) ?_ (fun p10 => ?_)
        · refine hp_s [1, 0] rfl (L' := [(0, (.ref 192)), (2, (.int (0 : Int32)))]) ?_
          refine hp_wh (fun (p9 : (Int32 × hH)) => [(0, (.ref 192)), (2, (.int p9.1))]) [] (fun (p9 : (Int32 × hH)) => p9.2) (fun p9 => ?_) ((0 : Int32), p3)
          refine hp_ic_ge hm (at1 18 rfl) rfl (by exact trivial) (pc' := 115) rfl 10 rfl (tgt := 169) rfl (fun c19 => ?_) (fun c19 => ?_)
          · exact hp_lf [0] rfl (fun _ e => e)
          · refine hp_GW hm (at1 19 rfl) (L' := [(0, (.ref 192)), (2, (.int p9.1))]) rfl (fun hP => (by exact ⟨og_192, ⟨og_224, hP⟩⟩)) (pc' := 125) rfl (fun q11 h13 => ?_)
            refine hp_J 162 (fun (p12 : Int32) => [(0, (.ref 192)), (2, (.int p9.1))]) (fun (p12 : Int32) => [(.int p12), (.int p9.1), (.ref 210)]) (fun (p12 : Int32) => h13) ?_ (fun p12 => ?_)
            · refine hp_ic_ge hm (at1 20 rfl) rfl (by exact ⟨og_192, og_192⟩) (pc' := 135) rfl 8 rfl (tgt := 161) rfl (fun c16 => ?_) (fun c16 => ?_)
              · refine hp_b hm (at1 21 rfl) (L' := [(0, (.ref 192)), (2, (.int p9.1))]) (st' := [(.int (0 : Int32)), (.int p9.1), (.ref 210)]) rfl (by exact trivial) (pc' := 162) rfl ?_
                exact hp_lf [0, 1] rfl (fun _ e => e)
              · refine hp_cVP (M2 := M_Mo_beginOf) hm (at1 22 rfl) (as := [(.int (1668707360 : Int32))]) (rest := [(.ref 192), (.ref 192), (.int p9.1), (.ref 210)]) (z := 192) rfl (by exact trivial) (pc' := 144) rfl 4 rfl (lw_g (lw_at lw_m9 192 rfl) rfl) y_Mo_beginOf rfl (d2 := 2) ⟨le_b rfl, pd_Mo_beginOf, le_b rfl⟩ (le_b rfl) og_192 (k_Mo_beginOf (1668707360 : Int32) h13) (fun a13 => ?_)
                refine hp_cVP (M2 := M_Mo_s2) hm (at1 23 rfl) (as := [(.int (a13 + ((2 : Int32) * p9.1)))]) (rest := [(.ref 192), (.int p9.1), (.ref 210)]) (z := 192) rfl (by exact trivial) (pc' := 151) rfl 5 rfl (lw_g (lw_at lw_m9 200 rfl) rfl) y_Mo_s2 rfl (d2 := 3) ⟨le_b rfl, pd_Mo_s2, le_b rfl⟩ (le_b rfl) og_192 (k_Mo_s2 (a13 + ((2 : Int32) * p9.1)) h13) (fun a14 => ?_)
                refine hp_cVP (M2 := M_Mo_scaled) hm (at1 24 rfl) (as := [(.long (Int32.toInt64 a14))]) (rest := [(.int p9.1), (.ref 210)]) (z := 192) rfl (by exact trivial) (pc' := 155) rfl 6 rfl (lw_g (lw_at lw_m9 212 rfl) rfl) y_Mo_scaled rfl (d2 := 4) ⟨le_b rfl, pd_Mo_scaled, le_b rfl⟩ (le_b rfl) og_192 (k_Mo_scaled (Int32.toInt64 a14) h13) (fun a15 => ?_)
                refine hp_goto hm 7 rfl (tgt := 162) rfl ?_
                exact hp_lf [0, 1] rfl (fun _ e => e)
            · refine hp_GW hm (at1 25 rfl) (L' := [(0, (.ref 192)), (2, (.int p9.1))]) rfl (fun hP => (by exact ⟨og_210, hP⟩)) (pc' := 163) rfl (fun q17 h14 => ?_)
              refine hp_z hm (at1 26 rfl) (fun (v18 : Int32) => [(2, (.int v18)), (0, (.ref 192))]) (fun (v18 : Int32) => []) rfl (by exact trivial) (pc' := 166) rfl (fun v18 => ?_)
              refine hp_goto hm 9 rfl (tgt := 111) rfl ?_
              exact hp_lf [1, 0] rfl (fun _ e => e)
        · refine hp_w hm (at1 27 rfl) (L' := [(0, (.ref 192))]) rfl (by exact og_192) (pc' := 175) rfl (fun h15 => ?_)
          refine hp_w hm (at1 28 rfl) (L' := [(0, (.ref 192))]) rfl (by exact og_192) (pc' := 180) rfl (fun h16 => ?_)
          refine hp_w hm (at1 29 rfl) (L' := [(0, (.ref 192))]) rfl (by exact og_192) (pc' := 185) rfl (fun h17 => ?_)
          refine hp_w hm (at1 30 rfl) (L' := [(0, (.ref 192))]) rfl (by exact og_192) (pc' := 191) rfl (fun h18 => ?_)
          refine hp_w hm (at1 31 rfl) (L' := [(0, (.ref 192))]) rfl (by exact ⟨og_192, (Or.inr rfl)⟩) (pc' := 196) rfl (fun h19 => ?_)
          refine hp_w hm (at1 32 rfl) (L' := [(0, (.ref 192))]) rfl (by exact og_192) (pc' := 202) rfl (fun h20 => ?_)
          refine hp_w hm (at1 33 rfl) (L' := [(0, (.ref 192))]) rfl (by exact og_192) (pc' := 207) rfl (fun h21 => ?_)
          refine hp_w hm (at1 34 rfl) (L' := [(0, (.ref 192))]) rfl (by exact og_192) (pc' := 212) rfl (fun h22 => ?_)
          refine hp_w hm (at1 35 rfl) (L' := [(0, (.ref 192))]) rfl (by exact og_192) (pc' := 217) rfl (fun h23 => ?_)
          refine hp_b hm (at1 36 rfl) (L' := [(2, (.int (0 : Int32))), (0, (.ref 192))]) (st' := []) rfl (by exact trivial) (pc' := 219) rfl ?_
          refine hp_J 287 (fun (p21 : hH) => [(0, (.ref 192))]) (fun (p21 : hH) => []) (fun (p21 : hH) => p21) ?_ (fun p21 => ?_)
          · refine hp_s [1, 0] rfl (L' := [(0, (.ref 192)), (2, (.int (0 : Int32)))]) ?_
            refine hp_wh (fun (p20 : (Int32 × hH)) => [(0, (.ref 192)), (2, (.int p20.1))]) [] (fun (p20 : (Int32 × hH)) => p20.2) (fun p20 => ?_) ((0 : Int32), h23)
            refine hp_cI (L0 := [(0, (.ref 192)), (2, (.int p20.1))]) (s0 := []) 231 287 ?_ (fun c26 => ?_) (fun c26 => ?_)
            · refine hp_nand ?_
              refine hp_ic_ge hm (at1 37 rfl) rfl (by exact trivial) (pc' := 221) rfl 12 rfl (tgt := 287) rfl (fun c23 => ?_) (fun c23 => ?_)
              · exact hp_l0 (fun _ e => e)
              · refine hp_dec ?_
                refine hp_if_ne hm (at1 38 rfl) rfl (by exact og_192) (pc' := 228) rfl 11 rfl (tgt := 287) rfl (fun c22 => ?_) (fun c22 => ?_)
                · exact hp_l0 (fun _ e => e)
                · exact hp_l0 (fun _ e => e)
            · refine hp_JZ 244 (fun (p27 : Int32) => [(0, (.ref 192)), (2, (.int p20.1))]) (fun (p27 : Int32) => [(.int p27)]) (fun (p27 : Int32) => p20.2) ?_ (fun p27 => ?_)
              · refine hp_sv0 ?_
                refine hp_if_ne hm (at1 39 rfl) rfl (by exact trivial) (pc' := 232) rfl 14 rfl (tgt := 241) rfl (fun c28 => ?_) (fun c28 => ?_)
                · refine hp_b hm (at1 40 rfl) (L' := [(0, (.ref 192)), (2, (.int p20.1))]) (st' := [(.int (1886545264 : Int32))]) rfl (by exact trivial) (pc' := 244) rfl ?_
                  exact hp_lf [0, 1] rfl (fun _ e => e)
                · refine hp_b hm (at1 41 rfl) (L' := [(0, (.ref 192)), (2, (.int p20.1))]) (st' := [(.int (1718642541 : Int32))]) rfl (by exact trivial) (pc' := 238) rfl ?_
                  refine hp_goto hm 13 rfl (tgt := 244) rfl ?_
                  exact hp_lf [0, 1] rfl (fun _ e => e)
              · refine hp_b hm (at1 42 rfl) (L' := [(3, (.int p27)), (0, (.ref 192)), (2, (.int p20.1))]) (st' := [(.int p27), (.ref 192), (.int p20.1), (.ref 220)]) rfl (by exact og_192) (pc' := 252) rfl ?_
                refine hp_cVP (M2 := M_Mo_beginOf) hm at0 (as := [(.int p27)]) (rest := [(.int p20.1), (.ref 220)]) (z := 192) rfl (by exact trivial) (pc' := 252) rfl 15 rfl (lw_g (lw_at lw_m9 192 rfl) rfl) y_Mo_beginOf rfl (d2 := 2) ⟨le_b rfl, pd_Mo_beginOf, le_b rfl⟩ (le_b rfl) og_192 (k_Mo_beginOf p27 p20.2) (fun a29 => ?_)
                refine hp_GW hm (at1 43 rfl) (L' := [(3, (.int p27)), (0, (.ref 192)), (2, (.int p20.1))]) rfl (fun hP => (by exact ⟨og_220, hP⟩)) (pc' := 256) rfl (fun q30 h24 => ?_)
                refine hp_cVP (M2 := M_Mo_lengthOf) hm (at1 44 rfl) (as := [(.int p27)]) (rest := [(.int p20.1), (.ref 221)]) (z := 192) rfl (by exact og_192) (pc' := 263) rfl 16 rfl (lw_g (lw_at lw_m9 228 rfl) rfl) y_Mo_lengthOf rfl (d2 := 2) ⟨le_b rfl, pd_Mo_lengthOf, le_b rfl⟩ (le_b rfl) og_192 (k_Mo_lengthOf p27 h24) (fun a31 => ?_)
                refine hp_GW hm (at1 45 rfl) (L' := [(3, (.int p27)), (0, (.ref 192)), (2, (.int p20.1))]) rfl (fun hP => (by exact ⟨og_221, hP⟩)) (pc' := 267) rfl (fun q32 h25 => ?_)
                refine hp_cVP (M2 := M_Mo_tableOf) hm (at1 46 rfl) (as := [(.int p27)]) (rest := []) (z := 192) rfl (by exact trivial) (pc' := 269) rfl 17 rfl (lw_g (lw_at lw_m9 196 rfl) rfl) y_Mo_tableOf rfl (d2 := 1) ⟨le_b rfl, pd_Mo_tableOf, le_b rfl⟩ (le_b rfl) og_192 (k_Mo_tableOf p27 h25) (fun a33 => ?_)
                refine hp_J 281 (fun (p34 : hH) => [(0, (.ref 192)), (2, (.int p20.1))]) (fun (p34 : hH) => []) (fun (p34 : hH) => p34) ?_ (fun p34 => ?_)
                · refine hp_ic_eq hm (at1 47 rfl) rfl (by exact trivial) (pc' := 273) rfl 19 rfl (tgt := 281) rfl (fun c35 => ?_) (fun c35 => ?_)
                  · exact hp_lf [1, 2] rfl (fun _ e => e)
                  · refine hp_cVS (M2 := M_Mo_runProgram) hm (at1 48 rfl) (as := [(.int p20.1)]) (rest := []) (z := 192) rfl (by exact trivial) (pc' := 278) rfl 18 rfl (lw_g (lw_at lw_m9 232 rfl) rfl) y_Mo_runProgram rfl (d2 := 10) ⟨le_b rfl, pd_Mo_runProgram, le_b rfl⟩ (le_b rfl) og_192 (k_Mo_runProgram p20.1 h25) (fun _ h26 => ?_)
                    exact hp_lf [1, 2] rfl (fun _ e => e)
                · refine hp_z hm (at1 49 rfl) (fun (v36 : Int32) => [(2, (.int v36)), (0, (.ref 192))]) (fun (v36 : Int32) => []) rfl (by exact trivial) (pc' := 284) rfl (fun v36 => ?_)
                  refine hp_goto hm 20 rfl (tgt := 219) rfl ?_
                  exact hp_lf [1, 0] rfl (fun _ e => e)
            · exact hp_lf [0] rfl (fun _ e => e)
          · refine hp_if_le hm (at1 50 rfl) rfl (by exact og_192) (pc' := 291) rfl 27 rfl (tgt := 304) rfl (fun c43 => ?_) (fun c43 => ?_)
            · refine hp_cVS (M2 := M_Mo_keep) hm (at1 51 rfl) (as := []) (rest := []) (z := 192) rfl (by exact trivial) (pc' := 305) rfl 21 rfl (lw_g (lw_at lw_m10 228 rfl) rfl) y_Mo_keep rfl (d2 := 1) ⟨le_b rfl, pd_Mo_keep, le_b rfl⟩ (le_b rfl) og_192 (k_Mo_keep p21) (fun _ h27 => ?_)
              refine hp_b hm (at1 52 rfl) (L' := [(2, (.int (0 : Int32))), (0, (.ref 192))]) (st' := []) rfl (by exact trivial) (pc' := 310) rfl ?_
              refine hp_J 334 (fun (p38 : hH) => [(0, (.ref 192))]) (fun (p38 : hH) => []) (fun (p38 : hH) => p38) ?_ (fun p38 => ?_)
              · refine hp_s [1, 0] rfl (L' := [(0, (.ref 192)), (2, (.int (0 : Int32)))]) ?_
                refine hp_wh (fun (p37 : (Int32 × hH)) => [(0, (.ref 192)), (2, (.int p37.1))]) [] (fun (p37 : (Int32 × hH)) => p37.2) (fun p37 => ?_) ((0 : Int32), h27)
                refine hp_ic_ge hm (at1 53 rfl) rfl (by exact trivial) (pc' := 313) rfl 23 rfl (tgt := 334) rfl (fun c41 => ?_) (fun c41 => ?_)
                · exact hp_lf [0] rfl (fun _ e => e)
                · refine hp_GW hm (at1 54 rfl) (L' := [(0, (.ref 192)), (2, (.int p37.1))]) rfl (fun hP => (by exact ⟨⟨⟨og_192, og_192⟩, ⟨og_216, hP.1⟩⟩, ⟨og_235, hP.2⟩⟩)) (pc' := 328) rfl (fun q39 h28 => ?_)
                  refine hp_z hm (at1 55 rfl) (fun (v40 : Int32) => [(2, (.int v40)), (0, (.ref 192))]) (fun (v40 : Int32) => []) rfl (by exact trivial) (pc' := 331) rfl (fun v40 => ?_)
                  refine hp_goto hm 22 rfl (tgt := 310) rfl ?_
                  exact hp_lf [1, 0] rfl (fun _ e => e)
              · refine hp_w hm (at1 56 rfl) (L' := [(0, (.ref 192))]) rfl (by exact ⟨og_192, (Or.inr rfl)⟩) (pc' := 339) rfl (fun h29 => ?_)
                refine hp_w hm (at1 57 rfl) (L' := [(0, (.ref 192))]) rfl (by exact ⟨og_192, og_192⟩) (pc' := 347) rfl (fun h30 => ?_)
                refine hp_w hm (at1 58 rfl) (L' := [(0, (.ref 192))]) rfl (by exact og_192) (pc' := 352) rfl (fun h31 => ?_)
                refine hp_w hm (at1 59 rfl) (L' := [(0, (.ref 192))]) rfl (by exact og_192) (pc' := 357) rfl (fun h32 => ?_)
                exact hp_ir hm (at1 60 rfl) rfl (by exact og_192) (pc' := 361) rfl 24 rfl rfl (vp_nar_int _) (fun _ e => e)
            · refine hp_w hm (at1 61 rfl) (L' := [(0, (.ref 192))]) rfl (by exact og_192) (pc' := 299) rfl (fun h33 => ?_)
              refine hp_cVS (M2 := M_Mo_failedNow) hm (at1 62 rfl) (as := []) (rest := []) (z := 192) rfl (by exact trivial) (pc' := 300) rfl 25 rfl (lw_g (lw_at lw_m10 224 rfl) rfl) y_Mo_failedNow rfl (d2 := 1) ⟨le_b rfl, pd_Mo_failedNow, le_b rfl⟩ (le_b rfl) og_192 (k_Mo_failedNow h33) (fun a42 h34 => ?_)
              exact hp_ir hm at0 rfl (by exact trivial) (pc' := 303) rfl 26 rfl rfl (vp_nar_int _) (fun _ e => e)
    · exact hp_ir hm (at1 63 rfl) rfl (by exact trivial) (pc' := 26) rfl 28 rfl rfl (vp_nar_int _) (fun _ e => e)
  · exact hp_ir hm (at1 64 rfl) rfl (by exact trivial) (pc' := 9) rfl 30 rfl rfl (vp_nar_int _) (fun _ e => e)
/-! HintHouseModel.u4(I)J -/
def M_Mo_u4 : hM := (11, ⟨"HintHouseModel", "u4", "(I)J"⟩, prog_13_method_12_code, 2, (Option.some Jvm.ClassFile.FieldType.long), [], [(0, [(.aload_n 0, 1, 0, 0, 0, .null), (.iload_n 1, 1, 0, 0, 0, .null)]), (5, [(.i2l, 1, 0, 0, 0, .null), (.bipush 16, 2, 0, 0, 0, (.int (16 : Int32))), (.lshl, 1, 0, 0, 0, .null), (.aload_n 0, 1, 0, 0, 0, .null), (.iload_n 1, 1, 0, 0, 0, .null), (.iconst 2, 1, 0, 0, 0, (.int (2 : Int32))), (.iadd, 1, 0, 0, 0, .null)]), (16, [(.i2l, 1, 0, 0, 0, .null), (.lor, 1, 0, 0, 0, .null)])], [(2, .invokevirtual 213, 3), (13, .invokevirtual 213, 3), (18, .lreturn, 1)])
set_option maxRecDepth 100000 in
theorem m_Mo_u4 : hx_mok M_Mo_u4 = true := by decide +kernel
theorem pd_Mo_u4 : (parseMethodDescriptor M_Mo_u4.2.1.desc).map (fun q => q.parameters.length) = some 1 := by decide +kernel
theorem y_Mo_u4 : hx_okV M_Mo_u4 := ⟨⟨lw_g (lw_at lw_m11 21 rfl) rfl, lw_g (lw_at lw_m11 20 rfl) rfl, qs188, lw_g (lw_at lw_m1 12 rfl) rfl, rfl, by decide, by decide, by decide⟩, rfl, by decide, plainFor_of_name (by decide)⟩
noncomputable def f_Mo_u4 (x1 : Int32) (h : hH) : Option Int64 :=
  bP (f_Mo_u2 x1 h) fun a1 =>
  bP (f_Mo_u2 (x1 + (2 : Int32)) h) fun a2 =>
  some (((Int32.toInt64 a1) <<< ((Int32.toInt64 (16 : Int32)) &&& 63)) ||| (Int32.toInt64 a2))
set_option maxRecDepth 20000 in
theorem k_Mo_u4 (x1 : Int32) (h : hH) : hx_kP S0 M_Mo_u4 3 NT [(.ref 192), (.int x1)] h (f_Mo_u4 x1 h) cvL := by
  have hm := m_Mo_u4
  show hx_P S0 M_Mo_u4 3 0 [(0, (.ref 192)), (1, (.int x1))] [] NT h (f_Mo_u4 x1 h) (hx_Rp cvL NT h)
  unfold f_Mo_u4
  refine hp_cVP (M2 := M_Mo_u2) hm (at1 0 rfl) (as := [(.int x1)]) (rest := []) (z := 192) rfl (by exact trivial) (pc' := 2) rfl 0 rfl (lw_g (lw_at lw_m9 204 rfl) rfl) y_Mo_u2 rfl (d2 := 2) ⟨le_b rfl, pd_Mo_u2, le_b rfl⟩ (le_b rfl) og_192 (k_Mo_u2 x1 h) (fun a1 => ?_)
  refine hp_cVP (M2 := M_Mo_u2) hm (at1 1 rfl) (as := [(.int (x1 + (2 : Int32)))]) (rest := [(.long ((Int32.toInt64 a1) <<< ((Int32.toInt64 (16 : Int32)) &&& 63)))]) (z := 192) rfl (by exact trivial) (pc' := 13) rfl 1 rfl (lw_g (lw_at lw_m9 204 rfl) rfl) y_Mo_u2 rfl (d2 := 2) ⟨le_b rfl, pd_Mo_u2, le_b rfl⟩ (le_b rfl) og_192 (k_Mo_u2 (x1 + (2 : Int32)) h) (fun a2 => ?_)
  exact hp_lr hm (at1 2 rfl) rfl (by exact trivial) (pc' := 18) rfl 2 rfl rfl (fun _ e => e)
/-! HintHouseModel.loca(I)J -/
def M_Mo_loca : hM := (11, ⟨"HintHouseModel", "loca", "(I)J"⟩, prog_13_method_22_code, 3, (Option.some Jvm.ClassFile.FieldType.long), [], [(0, [(.aload_n 0, 1, 0, 0, 0, .null), (.ldc 243, 2, 0, 0, 0, (.int (1819239265 : Int32)))]), (6, [(.istore_n 2, 1, 0, 0, 0, .null), (.aload_n 0, 1, 0, 0, 0, .null), (.getfield 271, 3, 11, 11, 0, .null)]), (31, [(.aload_n 0, 1, 0, 0, 0, .null), (.iload_n 2, 1, 0, 0, 0, .null), (.iconst 4, 1, 0, 0, 0, (.int (4 : Int32))), (.iload_n 1, 1, 0, 0, 0, .null), (.imul, 1, 0, 0, 0, .null), (.iadd, 1, 0, 0, 0, .null)]), (14, [(.ldc2_w 336, 3, 0, 0, 0, (.long (2 : Int64))), (.aload_n 0, 1, 0, 0, 0, .null), (.iload_n 2, 1, 0, 0, 0, .null), (.iconst 2, 1, 0, 0, 0, (.int (2 : Int32))), (.iload_n 1, 1, 0, 0, 0, .null), (.imul, 1, 0, 0, 0, .null), (.iadd, 1, 0, 0, 0, .null)]), (26, [(.i2l, 1, 0, 0, 0, .null), (.lmul, 1, 0, 0, 0, .null)])], [(3, .invokevirtual 251, 3), (37, .invokevirtual 297, 3), (40, .lreturn, 1), (23, .invokevirtual 213, 3), (28, .goto 12, 3), (11, .ifCond .ne 20, 3)])
set_option maxRecDepth 100000 in
theorem m_Mo_loca : hx_mok M_Mo_loca = true := by decide +kernel
theorem pd_Mo_loca : (parseMethodDescriptor M_Mo_loca.2.1.desc).map (fun q => q.parameters.length) = some 1 := by decide +kernel
theorem y_Mo_loca : hx_okV M_Mo_loca := ⟨⟨lw_g (lw_at lw_m11 16 rfl) rfl, lw_g (lw_at lw_m11 15 rfl) rfl, qs187, lw_g (lw_at lw_m1 12 rfl) rfl, rfl, by decide, by decide, by decide⟩, rfl, by decide, plainFor_of_name (by decide)⟩
noncomputable def f_Mo_loca (x1 : Int32) (h : hH) : Option Int64 :=
  bP (f_Mo_beginOf (1819239265 : Int32) h) fun a1 =>
  if (rdI h 192 11) = 0 then (
    bP (f_Mo_u2 (a1 + ((2 : Int32) * x1)) h) fun a3 =>
    some ((2 : Int64) * (Int32.toInt64 a3))
  ) else (
    bP (f_Mo_u4 (a1 + ((4 : Int32) * x1)) h) fun a2 =>
    some a2
  )
set_option maxRecDepth 20000 in
theorem k_Mo_loca (x1 : Int32) (h : hH) : hx_kP S0 M_Mo_loca 4 NT [(.ref 192), (.int x1)] h (f_Mo_loca x1 h) cvL := by
  have hm := m_Mo_loca
  show hx_P S0 M_Mo_loca 4 0 [(0, (.ref 192)), (1, (.int x1))] [] NT h (f_Mo_loca x1 h) (hx_Rp cvL NT h)
  unfold f_Mo_loca
  refine hp_cVP (M2 := M_Mo_beginOf) hm (at1 0 rfl) (as := [(.int (1819239265 : Int32))]) (rest := []) (z := 192) rfl (by exact trivial) (pc' := 3) rfl 0 rfl (lw_g (lw_at lw_m9 192 rfl) rfl) y_Mo_beginOf rfl (d2 := 2) ⟨le_b rfl, pd_Mo_beginOf, le_b rfl⟩ (le_b rfl) og_192 (k_Mo_beginOf (1819239265 : Int32) h) (fun a1 => ?_)
  refine hp_b hm (at1 1 rfl) (L' := [(2, (.int a1)), (0, (.ref 192)), (1, (.int x1))]) (st' := [(.int (rdI h 192 11))]) rfl (by exact og_192) (pc' := 11) rfl ?_
  refine hp_if_ne hm at0 rfl (by exact trivial) (pc' := 11) rfl 5 rfl (tgt := 31) rfl (fun c4 => ?_) (fun c4 => ?_)
  · refine hp_cVP (M2 := M_Mo_u4) hm (at1 2 rfl) (as := [(.int (a1 + ((4 : Int32) * x1)))]) (rest := []) (z := 192) rfl (by exact trivial) (pc' := 37) rfl 1 rfl (lw_g (lw_at lw_m11 18 rfl) rfl) y_Mo_u4 rfl (d2 := 3) ⟨le_b rfl, pd_Mo_u4, le_b rfl⟩ (le_b rfl) og_192 (k_Mo_u4 (a1 + ((4 : Int32) * x1)) h) (fun a2 => ?_)
    exact hp_lr hm at0 rfl (by exact trivial) (pc' := 40) rfl 2 rfl rfl (fun _ e => e)
  · refine hp_cVP (M2 := M_Mo_u2) hm (at1 3 rfl) (as := [(.int (a1 + ((2 : Int32) * x1)))]) (rest := [(.long (2 : Int64))]) (z := 192) rfl (by exact trivial) (pc' := 23) rfl 3 rfl (lw_g (lw_at lw_m9 204 rfl) rfl) y_Mo_u2 rfl (d2 := 2) ⟨le_b rfl, pd_Mo_u2, le_b rfl⟩ (le_b rfl) og_192 (k_Mo_u2 (a1 + ((2 : Int32) * x1)) h) (fun a3 => ?_)
    refine hp_b hm (at1 4 rfl) (L' := [(2, (.int a1)), (0, (.ref 192)), (1, (.int x1))]) (st' := [(.long ((2 : Int64) * (Int32.toInt64 a3)))]) rfl (by exact trivial) (pc' := 28) rfl ?_
    refine hp_goto hm 4 rfl (tgt := 40) rfl ?_
    exact hp_lr hm at0 rfl (by exact trivial) (pc' := 40) rfl 2 rfl rfl (fun _ e => e)
/-! HintHouseModel.bytesOf(I)V -/
def M_Mo_bytesOf : hM := (11, ⟨"HintHouseModel", "bytesOf", "(I)V"⟩, prog_13_method_23_code, 2, (Option.none : Option Jvm.ClassFile.FieldType), [], [(0, [(.aload_n 0, 1, 0, 0, 0, .null), (.aload_n 0, 1, 0, 0, 0, .null), (.ldc 240, 2, 0, 0, 0, (.int (1735162214 : Int32)))]), (7, [(.aload_n 0, 1, 0, 0, 0, .null), (.iload_n 1, 1, 0, 0, 0, .null)]), (12, [(.l2i, 1, 0, 0, 0, .null), (.iadd, 1, 0, 0, 0, .null), (.putfield 342, 3, 11, 26, 0, .null)]), (17, [(.aload_n 0, 1, 0, 0, 0, .null), (.aload_n 0, 1, 0, 0, 0, .null), (.ldc 240, 2, 0, 0, 0, (.int (1735162214 : Int32)))]), (24, [(.aload_n 0, 1, 0, 0, 0, .null), (.iload_n 1, 1, 0, 0, 0, .null), (.iconst 1, 1, 0, 0, 0, (.int (1 : Int32))), (.iadd, 1, 0, 0, 0, .null)]), (31, [(.l2i, 1, 0, 0, 0, .null), (.iadd, 1, 0, 0, 0, .null), (.putfield 345, 3, 11, 27, 0, .null)]), (36, [(.aload_n 0, 1, 0, 0, 0, .null), (.aload_n 0, 1, 0, 0, 0, .null), (.getfield 342, 3, 11, 26, 0, .null), (.aload_n 0, 1, 0, 0, 0, .null), (.getfield 345, 3, 11, 27, 0, .null)]), (52, [(.aload_n 0, 1, 0, 0, 0, .null), (.aload_n 0, 1, 0, 0, 0, .null), (.getfield 342, 3, 11, 26, 0, .null)]), (48, [(.iconst 0, 1, 0, 0, 0, (.int (0 : Int32)))]), (60, [(.putfield 348, 3, 11, 28, 0, .null)]), (63, [(.aload_n 0, 1, 0, 0, 0, .null), (.iconst 0, 1, 0, 0, 0, (.int (0 : Int32))), (.putfield 351, 3, 11, 29, 0, .null)]), (68, [(.aload_n 0, 1, 0, 0, 0, .null), (.iconst 0, 1, 0, 0, 0, (.int (0 : Int32))), (.putfield 354, 3, 11, 30, 0, .null)]), (73, [(.aload_n 0, 1, 0, 0, 0, .null), (.aload_n 0, 1, 0, 0, 0, .null), (.getfield 345, 3, 11, 27, 0, .null), (.putfield 357, 3, 11, 31, 0, .null)]), (81, [(.aload_n 0, 1, 0, 0, 0, .null), (.iconst 0, 1, 0, 0, 0, (.int (0 : Int32))), (.putfield 360, 3, 11, 32, 0, .null)])], [(4, .invokevirtual 251, 3), (9, .invokevirtual 274, 3), (21, .invokevirtual 251, 3), (28, .invokevirtual 274, 3), (57, .invokevirtual 305, 3), (49, .goto 11, 3), (45, .if_icmp .ne 7, 3), (86, .return_, 1)])
set_option maxRecDepth 100000 in
theorem m_Mo_bytesOf : hx_mok M_Mo_bytesOf = true := by decide +kernel
theorem pd_Mo_bytesOf : (parseMethodDescriptor M_Mo_bytesOf.2.1.desc).map (fun q => q.parameters.length) = some 1 := by decide +kernel
theorem y_Mo_bytesOf : hx_okV M_Mo_bytesOf := ⟨⟨lw_g (lw_at lw_m11 11 rfl) rfl, lw_g (lw_at lw_m11 10 rfl) rfl, qs186, lw_g (lw_at lw_m1 12 rfl) rfl, rfl, by decide, by decide, by decide⟩, rfl, by decide, plainFor_of_name (by decide)⟩
noncomputable def f_Mo_bytesOf (x1 : Int32) (h : hH) : Option (Unit × hH) :=
  bP (f_Mo_beginOf (1735162214 : Int32) h) fun a1 =>
  bP (f_Mo_loca x1 h) fun a2 =>
  lz (wrI h 192 26 (a1 + (Int64.toInt32 a2))) fun h1 =>
  bP (f_Mo_beginOf (1735162214 : Int32) h1) fun a3 =>
  bP (f_Mo_loca (x1 + (1 : Int32)) h1) fun a4 =>
  lz (wrI h1 192 27 (a3 + (Int64.toInt32 a4))) fun h2 =>
  bP (A := Int32) (
    if (rdI h2 192 26) = (rdI h2 192 27) then (
      some (0 : Int32)
    ) else (
      bP (f_Mo_s2 (rdI h2 192 26) h2) fun a6 =>
      some a6
    )
  ) fun p5 =>
  lz (wrI h2 192 28 p5) fun h3 =>
  lz (wrI h3 192 29 (0 : Int32)) fun h4 =>
  lz (wrI h4 192 30 (0 : Int32)) fun h5 =>
  lz (wrI h5 192 31 (rdI h5 192 27)) fun h6 =>
  lz (wrI h6 192 32 (0 : Int32)) fun h7 =>
  some ((), h7)
set_option maxRecDepth 20000 in
theorem k_Mo_bytesOf (x1 : Int32) (h : hH) : hx_kS S0 M_Mo_bytesOf 5 NT [(.ref 192), (.int x1)] h (f_Mo_bytesOf x1 h) cvU := by
  have hm := m_Mo_bytesOf
  show hx_P S0 M_Mo_bytesOf 5 0 [(0, (.ref 192)), (1, (.int x1))] [] NT h (f_Mo_bytesOf x1 h) (hx_Rc cvU NT)
  unfold f_Mo_bytesOf
  refine hp_cVP (M2 := M_Mo_beginOf) hm (at1 0 rfl) (as := [(.int (1735162214 : Int32))]) (rest := [(.ref 192)]) (z := 192) rfl (by exact trivial) (pc' := 4) rfl 0 rfl (lw_g (lw_at lw_m9 192 rfl) rfl) y_Mo_beginOf rfl (d2 := 2) ⟨le_b rfl, pd_Mo_beginOf, le_b rfl⟩ (le_b rfl) og_192 (k_Mo_beginOf (1735162214 : Int32) h) (fun a1 => ?_)
  refine hp_cVP (M2 := M_Mo_loca) hm (at1 1 rfl) (as := [(.int x1)]) (rest := [(.int a1), (.ref 192)]) (z := 192) rfl (by exact trivial) (pc' := 9) rfl 1 rfl (lw_g (lw_at lw_m11 13 rfl) rfl) y_Mo_loca rfl (d2 := 4) ⟨le_b rfl, pd_Mo_loca, le_b rfl⟩ (le_b rfl) og_192 (k_Mo_loca x1 h) (fun a2 => ?_)
  refine hp_w hm (at1 2 rfl) (L' := [(0, (.ref 192)), (1, (.int x1))]) rfl (by exact og_192) (pc' := 17) rfl (fun h1 => ?_)
  refine hp_cVP (M2 := M_Mo_beginOf) hm (at1 3 rfl) (as := [(.int (1735162214 : Int32))]) (rest := [(.ref 192)]) (z := 192) rfl (by exact trivial) (pc' := 21) rfl 2 rfl (lw_g (lw_at lw_m9 192 rfl) rfl) y_Mo_beginOf rfl (d2 := 2) ⟨le_b rfl, pd_Mo_beginOf, le_b rfl⟩ (le_b rfl) og_192 (k_Mo_beginOf (1735162214 : Int32) h1) (fun a3 => ?_)
  refine hp_cVP (M2 := M_Mo_loca) hm (at1 4 rfl) (as := [(.int (x1 + (1 : Int32)))]) (rest := [(.int a3), (.ref 192)]) (z := 192) rfl (by exact trivial) (pc' := 28) rfl 3 rfl (lw_g (lw_at lw_m11 13 rfl) rfl) y_Mo_loca rfl (d2 := 4) ⟨le_b rfl, pd_Mo_loca, le_b rfl⟩ (le_b rfl) og_192 (k_Mo_loca (x1 + (1 : Int32)) h1) (fun a4 => ?_)
  refine hp_w hm (at1 5 rfl) (L' := [(0, (.ref 192)), (1, (.int x1))]) rfl (by exact og_192) (pc' := 36) rfl (fun h2 => ?_)
  refine hp_J 60 (fun (p5 : Int32) => [(0, (.ref 192))]) (fun (p5 : Int32) => [(.int p5), (.ref 192)]) (fun (p5 : Int32) => h2) ?_ (fun p5 => ?_)
  · refine hp_ic_ne hm (at1 6 rfl) rfl (by exact ⟨og_192, og_192⟩) (pc' := 45) rfl 6 rfl (tgt := 52) rfl (fun c7 => ?_) (fun c7 => ?_)
    · refine hp_cVP (M2 := M_Mo_s2) hm (at1 7 rfl) (as := [(.int (rdI h2 192 26))]) (rest := [(.ref 192)]) (z := 192) rfl (by exact og_192) (pc' := 57) rfl 4 rfl (lw_g (lw_at lw_m9 200 rfl) rfl) y_Mo_s2 rfl (d2 := 3) ⟨le_b rfl, pd_Mo_s2, le_b rfl⟩ (le_b rfl) og_192 (k_Mo_s2 (rdI h2 192 26) h2) (fun a6 => ?_)
      exact hp_lf [0] rfl (fun _ e => e)
    · refine hp_b hm (at1 8 rfl) (L' := [(0, (.ref 192)), (1, (.int x1))]) (st' := [(.int (0 : Int32)), (.ref 192)]) rfl (by exact trivial) (pc' := 49) rfl ?_
      refine hp_goto hm 5 rfl (tgt := 60) rfl ?_
      exact hp_lf [0] rfl (fun _ e => e)
  · refine hp_w hm (at1 9 rfl) (L' := [(0, (.ref 192))]) rfl (by exact og_192) (pc' := 63) rfl (fun h3 => ?_)
    refine hp_w hm (at1 10 rfl) (L' := [(0, (.ref 192))]) rfl (by exact og_192) (pc' := 68) rfl (fun h4 => ?_)
    refine hp_w hm (at1 11 rfl) (L' := [(0, (.ref 192))]) rfl (by exact og_192) (pc' := 73) rfl (fun h5 => ?_)
    refine hp_w hm (at1 12 rfl) (L' := [(0, (.ref 192))]) rfl (by exact ⟨og_192, og_192⟩) (pc' := 81) rfl (fun h6 => ?_)
    refine hp_w hm (at1 13 rfl) (L' := [(0, (.ref 192))]) rfl (by exact og_192) (pc' := 86) rfl (fun h7 => ?_)
    exact hp_vr hm 7 rfl rfl (fun _ e => e)
/-! HintHouseModel.leftOf(I)I -/
def M_Mo_leftOf : hM := (11, ⟨"HintHouseModel", "leftOf", "(I)I"⟩, prog_13_method_38_code, 2, (Option.some Jvm.ClassFile.FieldType.int), [], [(0, [(.aload_n 0, 1, 0, 0, 0, .null), (.iload_n 1, 1, 0, 0, 0, .null)]), (5, [(.aload_n 0, 1, 0, 0, 0, .null), (.getfield 342, 3, 11, 26, 0, .null), (.aload_n 0, 1, 0, 0, 0, .null), (.getfield 345, 3, 11, 27, 0, .null)]), (20, [(.aload_n 0, 1, 0, 0, 0, .null), (.aload_n 0, 1, 0, 0, 0, .null), (.getfield 342, 3, 11, 26, 0, .null), (.iconst 2, 1, 0, 0, 0, (.int (2 : Int32))), (.iadd, 1, 0, 0, 0, .null)]), (16, [(.iconst 0, 1, 0, 0, 0, (.int (0 : Int32)))])], [(2, .invokevirtual 363, 3), (27, .invokevirtual 305, 3), (30, .ireturn, 1), (17, .goto 13, 3), (13, .if_icmp .ne 7, 3)])
set_option maxRecDepth 100000 in
theorem m_Mo_leftOf : hx_mok M_Mo_leftOf = true := by decide +kernel
theorem pd_Mo_leftOf : (parseMethodDescriptor M_Mo_leftOf.2.1.desc).map (fun q => q.parameters.length) = some 1 := by decide +kernel
theorem y_Mo_leftOf : hx_okV M_Mo_leftOf := ⟨⟨lw_g (lw_at lw_m11 7 rfl) rfl, lw_g (lw_at lw_m11 6 rfl) rfl, qs185, lw_g (lw_at lw_m1 12 rfl) rfl, rfl, by decide, by decide, by decide⟩, rfl, by decide, plainFor_of_name (by decide)⟩
noncomputable def f_Mo_leftOf (x1 : Int32) (h : hH) : Option (Int32 × hH) :=
  bS (f_Mo_bytesOf x1 h) fun _ h1 =>
  if (rdI h1 192 26) = (rdI h1 192 27) then (
    some ((0 : Int32), h1)
  ) else (
    bP (f_Mo_s2 ((rdI h1 192 26) + (2 : Int32)) h1) fun a1 =>
    some (a1, h1)
  )
set_option maxRecDepth 20000 in
theorem k_Mo_leftOf (x1 : Int32) (h : hH) : hx_kS S0 M_Mo_leftOf 6 NT [(.ref 192), (.int x1)] h (f_Mo_leftOf x1 h) cvI := by
  have hm := m_Mo_leftOf
  show hx_P S0 M_Mo_leftOf 6 0 [(0, (.ref 192)), (1, (.int x1))] [] NT h (f_Mo_leftOf x1 h) (hx_Rc cvI NT)
  unfold f_Mo_leftOf
  refine hp_cVS (M2 := M_Mo_bytesOf) hm (at1 0 rfl) (as := [(.int x1)]) (rest := []) (z := 192) rfl (by exact trivial) (pc' := 2) rfl 0 rfl (lw_g (lw_at lw_m11 8 rfl) rfl) y_Mo_bytesOf rfl (d2 := 5) ⟨le_b rfl, pd_Mo_bytesOf, le_b rfl⟩ (le_b rfl) og_192 (k_Mo_bytesOf x1 h) (fun _ h1 => ?_)
  refine hp_ic_ne hm (at1 1 rfl) rfl (by exact ⟨og_192, og_192⟩) (pc' := 13) rfl 4 rfl (tgt := 20) rfl (fun c2 => ?_) (fun c2 => ?_)
  · refine hp_cVP (M2 := M_Mo_s2) hm (at1 2 rfl) (as := [(.int ((rdI h1 192 26) + (2 : Int32)))]) (rest := []) (z := 192) rfl (by exact og_192) (pc' := 27) rfl 1 rfl (lw_g (lw_at lw_m9 200 rfl) rfl) y_Mo_s2 rfl (d2 := 3) ⟨le_b rfl, pd_Mo_s2, le_b rfl⟩ (le_b rfl) og_192 (k_Mo_s2 ((rdI h1 192 26) + (2 : Int32)) h1) (fun a1 => ?_)
    exact hp_ir hm at0 rfl (by exact trivial) (pc' := 30) rfl 2 rfl rfl (vp_nar_int _) (fun _ e => e)
  · refine hp_b hm (at1 3 rfl) (L' := [(0, (.ref 192)), (1, (.int x1))]) (st' := [(.int (0 : Int32))]) rfl (by exact trivial) (pc' := 17) rfl ?_
    refine hp_goto hm 3 rfl (tgt := 30) rfl ?_
    exact hp_ir hm at0 rfl (by exact trivial) (pc' := 30) rfl 2 rfl rfl (vp_nar_int _) (fun _ e => e)
/-! HintHouseModel.bearingOf(I)I -/
def M_Mo_bearingOf : hM := (11, ⟨"HintHouseModel", "bearingOf", "(I)I"⟩, prog_13_method_37_code, 3, (Option.some Jvm.ClassFile.FieldType.int), [], [(0, [(.aload_n 0, 1, 0, 0, 0, .null), (.ldc 242, 2, 0, 0, 0, (.int (1752003704 : Int32)))]), (6, [(.istore_n 2, 1, 0, 0, 0, .null), (.iload_n 1, 1, 0, 0, 0, .null), (.aload_n 0, 1, 0, 0, 0, .null), (.getfield 254, 3, 11, 20, 0, .null)]), (29, [(.aload_n 0, 1, 0, 0, 0, .null), (.iload_n 2, 1, 0, 0, 0, .null), (.iconst 4, 1, 0, 0, 0, (.int (4 : Int32))), (.aload_n 0, 1, 0, 0, 0, .null), (.getfield 254, 3, 11, 20, 0, .null), (.imul, 1, 0, 0, 0, .null), (.iadd, 1, 0, 0, 0, .null), (.iconst 2, 1, 0, 0, 0, (.int (2 : Int32))), (.iload_n 1, 1, 0, 0, 0, .null), (.aload_n 0, 1, 0, 0, 0, .null), (.getfield 254, 3, 11, 20, 0, .null), (.isub, 1, 0, 0, 0, .null), (.imul, 1, 0, 0, 0, .null), (.iadd, 1, 0, 0, 0, .null)]), (15, [(.aload_n 0, 1, 0, 0, 0, .null), (.iload_n 2, 1, 0, 0, 0, .null), (.iconst 4, 1, 0, 0, 0, (.int (4 : Int32))), (.iload_n 1, 1, 0, 0, 0, .null), (.imul, 1, 0, 0, 0, .null), (.iadd, 1, 0, 0, 0, .null), (.iconst 2, 1, 0, 0, 0, (.int (2 : Int32))), (.iadd, 1, 0, 0, 0, .null)])], [(3, .invokevirtual 251, 3), (47, .invokevirtual 305, 3), (50, .ireturn, 1), (23, .invokevirtual 305, 3), (26, .goto 24, 3), (12, .if_icmp .ge 17, 3)])
set_option maxRecDepth 100000 in
theorem m_Mo_bearingOf : hx_mok M_Mo_bearingOf = true := by decide +kernel
theorem pd_Mo_bearingOf : (parseMethodDescriptor M_Mo_bearingOf.2.1.desc).map (fun q => q.parameters.length) = some 1 := by decide +kernel
theorem y_Mo_bearingOf : hx_okV M_Mo_bearingOf := ⟨⟨lw_g (lw_at lw_m11 25 rfl) rfl, lw_g (lw_at lw_m11 24 rfl) rfl, qs189, lw_g (lw_at lw_m1 12 rfl) rfl, rfl, by decide, by decide, by decide⟩, rfl, by decide, plainFor_of_name (by decide)⟩
noncomputable def f_Mo_bearingOf (x1 : Int32) (h : hH) : Option Int32 :=
  bP (f_Mo_beginOf (1752003704 : Int32) h) fun a1 =>
  if (rdI h 192 20) ≤ x1 then (
    bP (f_Mo_s2 ((a1 + ((4 : Int32) * (rdI h 192 20))) + ((2 : Int32) * (x1 - (rdI h 192 20)))) h) fun a2 =>
    some a2
  ) else (
    bP (f_Mo_s2 ((a1 + ((4 : Int32) * x1)) + (2 : Int32)) h) fun a3 =>
    some a3
  )
set_option maxRecDepth 20000 in
theorem k_Mo_bearingOf (x1 : Int32) (h : hH) : hx_kP S0 M_Mo_bearingOf 4 NT [(.ref 192), (.int x1)] h (f_Mo_bearingOf x1 h) cvI := by
  have hm := m_Mo_bearingOf
  show hx_P S0 M_Mo_bearingOf 4 0 [(0, (.ref 192)), (1, (.int x1))] [] NT h (f_Mo_bearingOf x1 h) (hx_Rp cvI NT h)
  unfold f_Mo_bearingOf
  refine hp_cVP (M2 := M_Mo_beginOf) hm (at1 0 rfl) (as := [(.int (1752003704 : Int32))]) (rest := []) (z := 192) rfl (by exact trivial) (pc' := 3) rfl 0 rfl (lw_g (lw_at lw_m9 192 rfl) rfl) y_Mo_beginOf rfl (d2 := 2) ⟨le_b rfl, pd_Mo_beginOf, le_b rfl⟩ (le_b rfl) og_192 (k_Mo_beginOf (1752003704 : Int32) h) (fun a1 => ?_)
  refine hp_b hm (at1 1 rfl) (L' := [(2, (.int a1)), (0, (.ref 192)), (1, (.int x1))]) (st' := [(.int (rdI h 192 20)), (.int x1)]) rfl (by exact og_192) (pc' := 12) rfl ?_
  refine hp_ic_ge hm at0 rfl (by exact trivial) (pc' := 12) rfl 5 rfl (tgt := 29) rfl (fun c4 => ?_) (fun c4 => ?_)
  · refine hp_cVP (M2 := M_Mo_s2) hm (at1 2 rfl) (as := [(.int ((a1 + ((4 : Int32) * (rdI h 192 20))) + ((2 : Int32) * (x1 - (rdI h 192 20)))))]) (rest := []) (z := 192) rfl (by exact ⟨og_192, og_192⟩) (pc' := 47) rfl 1 rfl (lw_g (lw_at lw_m9 200 rfl) rfl) y_Mo_s2 rfl (d2 := 3) ⟨le_b rfl, pd_Mo_s2, le_b rfl⟩ (le_b rfl) og_192 (k_Mo_s2 ((a1 + ((4 : Int32) * (rdI h 192 20))) + ((2 : Int32) * (x1 - (rdI h 192 20)))) h) (fun a2 => ?_)
    exact hp_ir hm at0 rfl (by exact trivial) (pc' := 50) rfl 2 rfl rfl (vp_nar_int _) (fun _ e => e)
  · refine hp_cVP (M2 := M_Mo_s2) hm (at1 3 rfl) (as := [(.int ((a1 + ((4 : Int32) * x1)) + (2 : Int32)))]) (rest := []) (z := 192) rfl (by exact trivial) (pc' := 23) rfl 3 rfl (lw_g (lw_at lw_m9 200 rfl) rfl) y_Mo_s2 rfl (d2 := 3) ⟨le_b rfl, pd_Mo_s2, le_b rfl⟩ (le_b rfl) og_192 (k_Mo_s2 ((a1 + ((4 : Int32) * x1)) + (2 : Int32)) h) (fun a3 => ?_)
    refine hp_goto hm 4 rfl (tgt := 50) rfl ?_
    exact hp_ir hm at0 rfl (by exact trivial) (pc' := 50) rfl 2 rfl rfl (vp_nar_int _) (fun _ e => e)
/-! HintHouseModel.advanceOf(I)I -/
def M_Mo_advanceOf : hM := (11, ⟨"HintHouseModel", "advanceOf", "(I)I"⟩, prog_13_method_36_code, 3, (Option.some Jvm.ClassFile.FieldType.int), [], [(0, [(.iload_n 1, 1, 0, 0, 0, .null), (.aload_n 0, 1, 0, 0, 0, .null), (.getfield 254, 3, 11, 20, 0, .null)]), (12, [(.aload_n 0, 1, 0, 0, 0, .null), (.getfield 254, 3, 11, 20, 0, .null), (.iconst 1, 1, 0, 0, 0, (.int (1 : Int32))), (.isub, 1, 0, 0, 0, .null)]), (8, [(.iload_n 1, 1, 0, 0, 0, .null)]), (18, [(.istore_n 2, 1, 0, 0, 0, .null), (.aload_n 0, 1, 0, 0, 0, .null), (.aload_n 0, 1, 0, 0, 0, .null), (.ldc 242, 2, 0, 0, 0, (.int (1752003704 : Int32)))]), (26, [(.iconst 4, 1, 0, 0, 0, (.int (4 : Int32))), (.iload_n 2, 1, 0, 0, 0, .null), (.imul, 1, 0, 0, 0, .null), (.iadd, 1, 0, 0, 0, .null)])], [(9, .goto 9, 3), (5, .if_icmp .ge 7, 3), (23, .invokevirtual 251, 3), (30, .invokevirtual 213, 3), (33, .ireturn, 1)])
set_option maxRecDepth 100000 in
theorem m_Mo_advanceOf : hx_mok M_Mo_advanceOf = true := by decide +kernel
theorem pd_Mo_advanceOf : (parseMethodDescriptor M_Mo_advanceOf.2.1.desc).map (fun q => q.parameters.length) = some 1 := by decide +kernel
theorem y_Mo_advanceOf : hx_okV M_Mo_advanceOf := ⟨⟨lw_g (lw_at lw_m11 30 rfl) rfl, lw_g (lw_at lw_m11 29 rfl) rfl, qs190, lw_g (lw_at lw_m1 12 rfl) rfl, rfl, by decide, by decide, by decide⟩, rfl, by decide, plainFor_of_name (by decide)⟩
noncomputable def f_Mo_advanceOf (x1 : Int32) (h : hH) : Option Int32 :=
  lz (A := Int32) (if (rdI h 192 20) ≤ x1 then ((rdI h 192 20) - (1 : Int32)) else x1) fun p1 =>
  bP (f_Mo_beginOf (1752003704 : Int32) h) fun a3 =>
  bP (f_Mo_u2 (a3 + ((4 : Int32) * p1)) h) fun a4 =>
  some a4
set_option maxRecDepth 20000 in
theorem k_Mo_advanceOf (x1 : Int32) (h : hH) : hx_kP S0 M_Mo_advanceOf 3 NT [(.ref 192), (.int x1)] h (f_Mo_advanceOf x1 h) cvI := by
  have hm := m_Mo_advanceOf
  show hx_P S0 M_Mo_advanceOf 3 0 [(0, (.ref 192)), (1, (.int x1))] [] NT h (f_Mo_advanceOf x1 h) (hx_Rp cvI NT h)
  unfold f_Mo_advanceOf
  refine hp_JZ 18 (fun (p1 : Int32) => [(0, (.ref 192))]) (fun (p1 : Int32) => [(.int p1)]) (fun (p1 : Int32) => h) ?_ (fun p1 => ?_)
  · refine hp_sv0 ?_
    refine hp_ic_ge hm (at1 0 rfl) rfl (by exact og_192) (pc' := 5) rfl 1 rfl (tgt := 12) rfl (fun c2 => ?_) (fun c2 => ?_)
    · refine hp_b hm (at1 1 rfl) (L' := [(0, (.ref 192)), (1, (.int x1))]) (st' := [(.int ((rdI h 192 20) - (1 : Int32)))]) rfl (by exact og_192) (pc' := 18) rfl ?_
      exact hp_lf [0] rfl (fun _ e => e)
    · refine hp_b hm (at1 2 rfl) (L' := [(0, (.ref 192)), (1, (.int x1))]) (st' := [(.int x1)]) rfl (by exact trivial) (pc' := 9) rfl ?_
      refine hp_goto hm 0 rfl (tgt := 18) rfl ?_
      exact hp_lf [0] rfl (fun _ e => e)
  · refine hp_b hm (at1 3 rfl) (L' := [(2, (.int p1)), (0, (.ref 192))]) (st' := [(.int (1752003704 : Int32)), (.ref 192), (.ref 192)]) rfl (by exact trivial) (pc' := 23) rfl ?_
    refine hp_cVP (M2 := M_Mo_beginOf) hm at0 (as := [(.int (1752003704 : Int32))]) (rest := [(.ref 192)]) (z := 192) rfl (by exact trivial) (pc' := 23) rfl 2 rfl (lw_g (lw_at lw_m9 192 rfl) rfl) y_Mo_beginOf rfl (d2 := 2) ⟨le_b rfl, pd_Mo_beginOf, le_b rfl⟩ (le_b rfl) og_192 (k_Mo_beginOf (1752003704 : Int32) h) (fun a3 => ?_)
    refine hp_cVP (M2 := M_Mo_u2) hm (at1 4 rfl) (as := [(.int (a3 + ((4 : Int32) * p1)))]) (rest := []) (z := 192) rfl (by exact trivial) (pc' := 30) rfl 3 rfl (lw_g (lw_at lw_m9 204 rfl) rfl) y_Mo_u2 rfl (d2 := 2) ⟨le_b rfl, pd_Mo_u2, le_b rfl⟩ (le_b rfl) og_192 (k_Mo_u2 (a3 + ((4 : Int32) * p1)) h) (fun a4 => ?_)
    exact hp_ir hm at0 rfl (by exact trivial) (pc' := 33) rfl 4 rfl rfl (vp_nar_int _) (fun _ e => e)
/-! HintHouseModel.coordinates(I[III)I -/
def M_Mo_coordinates : hM := (11, ⟨"HintHouseModel", "coordinates", "(I[III)I"⟩, prog_13_method_26_code, 10, (Option.some Jvm.ClassFile.FieldType.int), [], [(0, [(.iload_n 1, 1, 0, 0, 0, .null), (.istore 5, 2, 0, 0, 0, .null), (.iconst 0, 1, 0, 0, 0, (.int (0 : Int32))), (.istore 6, 2, 0, 0, 0, .null), (.iconst 0, 1, 0, 0, 0, (.int (0 : Int32))), (.istore 7, 2, 0, 0, 0, .null)]), (9, [(.iload 7, 2, 0, 0, 0, .null), (.aload_n 0, 1, 0, 0, 0, .null), (.getfield 351, 3, 11, 29, 0, .null)]), (18, [(.aload_n 0, 1, 0, 0, 0, .null), (.getfield 39, 3, 11, 36, 4, .null), (.iload 7, 2, 0, 0, 0, .null), (.iaload, 1, 0, 0, 0, .null), (.iload 4, 2, 0, 0, 0, .null), (.iand, 1, 0, 0, 0, .null)]), (35, [(.iconst 0, 1, 0, 0, 0, (.int (0 : Int32)))]), (31, [(.iconst 1, 1, 0, 0, 0, (.int (1 : Int32)))]), (36, [(.istore 8, 2, 0, 0, 0, .null), (.aload_n 0, 1, 0, 0, 0, .null), (.getfield 39, 3, 11, 36, 4, .null), (.iload 7, 2, 0, 0, 0, .null), (.iaload, 1, 0, 0, 0, .null), (.iload_n 3, 1, 0, 0, 0, .null), (.iand, 1, 0, 0, 0, .null)]), (54, [(.iload 8, 2, 0, 0, 0, .null)]), (63, [(.iconst 2, 1, 0, 0, 0, (.int (2 : Int32)))]), (59, [(.iconst 0, 1, 0, 0, 0, (.int (0 : Int32)))]), (50, [(.iconst 1, 1, 0, 0, 0, (.int (1 : Int32)))]), (64, [(.istore 9, 2, 0, 0, 0, .null), (.iload 5, 2, 0, 0, 0, .null), (.iload 9, 2, 0, 0, 0, .null), (.iadd, 1, 0, 0, 0, .null), (.aload_n 0, 1, 0, 0, 0, .null), (.getfield 345, 3, 11, 27, 0, .null)]), (80, [(.iload 6, 2, 0, 0, 0, .null), (.iload 9, 2, 0, 0, 0, .null), (.iconst 1, 1, 0, 0, 0, (.int (1 : Int32)))]), (112, [(.iload 9, 2, 0, 0, 0, .null), (.iconst 2, 1, 0, 0, 0, (.int (2 : Int32)))]), (127, [(.iconst 0, 1, 0, 0, 0, (.int (0 : Int32)))]), (118, [(.aload_n 0, 1, 0, 0, 0, .null), (.iload 5, 2, 0, 0, 0, .null)]), (88, [(.iload 8, 2, 0, 0, 0, .null)]), (102, [(.aload_n 0, 1, 0, 0, 0, .null), (.iload 5, 2, 0, 0, 0, .null)]), (108, [(.ineg, 1, 0, 0, 0, .null)]), (93, [(.aload_n 0, 1, 0, 0, 0, .null), (.iload 5, 2, 0, 0, 0, .null)]), (128, [(.iadd, 1, 0, 0, 0, .null), (.istore 6, 2, 0, 0, 0, .null)]), (131, [(.aload_n 2, 1, 0, 0, 0, .null), (.iload 7, 2, 0, 0, 0, .null), (.iload 6, 2, 0, 0, 0, .null), (.iastore, 1, 0, 0, 0, .null)]), (137, [(.iload 5, 2, 0, 0, 0, .null), (.iload 9, 2, 0, 0, 0, .null), (.iadd, 1, 0, 0, 0, .null), (.istore 5, 2, 0, 0, 0, .null)]), (144, [(.iinc 7 1, 3, 0, 0, 0, (.int (1 : Int32)))]), (78, [(.iconst (-1), 1, 0, 0, 0, (.int (-1 : Int32)))]), (150, [(.iload 5, 2, 0, 0, 0, .null)])], [(32, .goto 4, 3), (28, .ifCond .eq 7, 3), (60, .goto 4, 3), (56, .ifCond .eq 7, 3), (51, .goto 13, 3), (47, .ifCond .eq 7, 3), (121, .invokevirtual 305, 3), (124, .goto 4, 3), (115, .if_icmp .ne 12, 3), (105, .invokevirtual 209, 3), (109, .goto 19, 3), (96, .invokevirtual 209, 3), (99, .goto 29, 3), (90, .ifCond .eq 12, 3), (85, .if_icmp .ne 27, 3), (147, .goto (-138), 3), (79, .ireturn, 1), (75, .if_icmp .le 5, 3), (15, .if_icmp .ge 135, 3), (152, .ireturn, 1)])
set_option maxRecDepth 100000 in
theorem m_Mo_coordinates : hx_mok M_Mo_coordinates = true := by decide +kernel
theorem pd_Mo_coordinates : (parseMethodDescriptor M_Mo_coordinates.2.1.desc).map (fun q => q.parameters.length) = some 4 := by decide +kernel
theorem y_Mo_coordinates : hx_okV M_Mo_coordinates := ⟨⟨lw_g (lw_at lw_m11 43 rfl) rfl, lw_g (lw_at lw_m11 42 rfl) rfl, qs193, lw_g (lw_at lw_m1 12 rfl) rfl, rfl, by decide, by decide, by decide⟩, rfl, by decide, plainFor_of_name (by decide)⟩
noncomputable def f_Mo_coordinates (x1 : Int32) (x2 : Nat) (x3 : Int32) (x4 : Int32) (h : hH) : Option (Int32 × hH) :=
  bE (P := (Int32 × hH)) (X := (Int32 × hH)) (
    wh (A := (Int32 × Int32 × Int32 × hH)) (B := ((Int32 × hH) ⊕ (Int32 × hH))) (fun p1 =>
        if (rdI p1.2.2.2 192 29) ≤ p1.2.2.1 then (
          some (.inr (.inl (p1.1, p1.2.2.2)))
        ) else (
          gd (vp_in p1.2.2.1 100) <|
          lz (A := Int32) (if ((rdI p1.2.2.2 202 (Int32.toNatClampNeg p1.2.2.1)) &&& x4) = 0 then (0 : Int32) else (1 : Int32)) fun p4 =>
          gd (vp_in p1.2.2.1 100) <|
          lz (A := Int32) (if ((rdI p1.2.2.2 202 (Int32.toNatClampNeg p1.2.2.1)) &&& x3) = 0 then (if p4 = 0 then (2 : Int32) else (0 : Int32)) else (1 : Int32)) fun p7 =>
          if (p1.1 + p7) ≤ (rdI p1.2.2.2 192 27) then (
            bP (A := Int32) (
              if p7 = (1 : Int32) then (
                if p4 = 0 then (
                  bP (f_Mo_u1 p1.1 p1.2.2.2) fun a13 =>
                  some (-a13)
                ) else (
                  bP (f_Mo_u1 p1.1 p1.2.2.2) fun a14 =>
                  some a14
                )
              ) else (
                if p7 = (2 : Int32) then (
                  bP (f_Mo_s2 p1.1 p1.2.2.2) fun a11 =>
                  some a11
                ) else (
                  some (0 : Int32)
                )
              )
            ) fun p10 =>
            lz (A := Int32) (p1.2.1 + p10) fun v17 =>
            gd (vp_in p1.2.2.1 (ln x2)) <|
            lz (wrI p1.2.2.2 x2 (Int32.toNatClampNeg p1.2.2.1) v17) fun h1 =>
            lz (A := Int32) (p1.1 + p7) fun v19 =>
            lz (A := Int32) (p1.2.2.1 + (1 : Int32)) fun v20 =>
            some (.inl (v19, v17, v20, h1))
          ) else (
            some (.inr (.inr ((-1 : Int32), p1.2.2.2)))
          )
        )
    ) (x1, (0 : Int32), (0 : Int32), h)
  ) fun p2 =>
  some (p2.1, p2.2)
set_option maxRecDepth 20000 in
theorem k_Mo_coordinates (x1 : Int32) (x2 : Nat) (x3 : Int32) (x4 : Int32) (h : hH) (hx2 : isA 100 x2) : hx_kS S0 M_Mo_coordinates 4 NT [(.ref 192), (.int x1), (.ref x2), (.int x3), (.int x4)] h (f_Mo_coordinates x1 x2 x3 x4 h) cvI := by
  have hm := m_Mo_coordinates
  show hx_P S0 M_Mo_coordinates 4 0 [(0, (.ref 192)), (1, (.int x1)), (2, (.ref x2)), (3, (.int x3)), (4, (.int x4))] [] NT h (f_Mo_coordinates x1 x2 x3 x4 h) (hx_Rc cvI NT)
  unfold f_Mo_coordinates
  refine hp_b hm (at1 0 rfl) (L' := [(7, (.int (0 : Int32))), (6, (.int (0 : Int32))), (5, (.int x1)), (0, (.ref 192)), (1, (.int x1)), (2, (.ref x2)), (3, (.int x3)), (4, (.int x4))]) (st' := []) rfl (by exact trivial) (pc' := 9) rfl ?_
  refine hp_E 150 (fun (p2 : (Int32 × hH)) => [(5, (.int p2.1))]) (fun (p2 : (Int32 × hH)) => []) (fun (p2 : (Int32 × hH)) => p2.2) ?_ (fun p2 => ?_)
  · refine hp_s [3, 5, 6, 7, 2, 1, 0] rfl (L' := [(0, (.ref 192)), (2, (.ref x2)), (3, (.int x3)), (4, (.int x4)), (5, (.int x1)), (6, (.int (0 : Int32))), (7, (.int (0 : Int32)))]) ?_
    refine hp_wh (fun (p1 : (Int32 × Int32 × Int32 × hH)) => [(0, (.ref 192)), (2, (.ref x2)), (3, (.int x3)), (4, (.int x4)), (5, (.int p1.1)), (6, (.int p1.2.1)), (7, (.int p1.2.2.1))]) [] (fun (p1 : (Int32 × Int32 × Int32 × hH)) => p1.2.2.2) (fun p1 => ?_) (x1, (0 : Int32), (0 : Int32), h)
    refine hp_ic_ge hm (at1 1 rfl) rfl (by exact og_192) (pc' := 15) rfl 18 rfl (tgt := 150) rfl (fun c22 => ?_) (fun c22 => ?_)
    · exact hp_lf [4] rfl (fun _ e => e)
    · refine hp_G hm (at1 2 rfl) (L' := [(0, (.ref 192)), (2, (.ref x2)), (3, (.int x3)), (4, (.int x4)), (5, (.int p1.1)), (6, (.int p1.2.1)), (7, (.int p1.2.2.1))]) (st' := [(.int ((rdI p1.2.2.2 202 (Int32.toNatClampNeg p1.2.2.1)) &&& x4))]) rfl (fun hP => (by exact ⟨og_192, ⟨og_202, hP⟩⟩)) (pc' := 28) rfl (fun q3 => ?_)
      refine hp_JZ 36 (fun (p4 : Int32) => [(0, (.ref 192)), (2, (.ref x2)), (3, (.int x3)), (4, (.int x4)), (5, (.int p1.1)), (6, (.int p1.2.1)), (7, (.int p1.2.2.1))]) (fun (p4 : Int32) => [(.int p4)]) (fun (p4 : Int32) => p1.2.2.2) ?_ (fun p4 => ?_)
      · refine hp_sv0 ?_
        refine hp_if_eq hm at0 rfl (by exact trivial) (pc' := 28) rfl 1 rfl (tgt := 35) rfl (fun c5 => ?_) (fun c5 => ?_)
        · refine hp_b hm (at1 3 rfl) (L' := [(0, (.ref 192)), (2, (.ref x2)), (3, (.int x3)), (4, (.int x4)), (5, (.int p1.1)), (6, (.int p1.2.1)), (7, (.int p1.2.2.1))]) (st' := [(.int (0 : Int32))]) rfl (by exact trivial) (pc' := 36) rfl ?_
          exact hp_lf [0, 1, 2, 3, 4, 5, 6] rfl (fun _ e => e)
        · refine hp_b hm (at1 4 rfl) (L' := [(0, (.ref 192)), (2, (.ref x2)), (3, (.int x3)), (4, (.int x4)), (5, (.int p1.1)), (6, (.int p1.2.1)), (7, (.int p1.2.2.1))]) (st' := [(.int (1 : Int32))]) rfl (by exact trivial) (pc' := 32) rfl ?_
          refine hp_goto hm 0 rfl (tgt := 36) rfl ?_
          exact hp_lf [0, 1, 2, 3, 4, 5, 6] rfl (fun _ e => e)
      · refine hp_G hm (at1 5 rfl) (L' := [(8, (.int p4)), (0, (.ref 192)), (2, (.ref x2)), (3, (.int x3)), (4, (.int x4)), (5, (.int p1.1)), (6, (.int p1.2.1)), (7, (.int p1.2.2.1))]) (st' := [(.int ((rdI p1.2.2.2 202 (Int32.toNatClampNeg p1.2.2.1)) &&& x3))]) rfl (fun hP => (by exact ⟨og_192, ⟨og_202, hP⟩⟩)) (pc' := 47) rfl (fun q6 => ?_)
        refine hp_JZ 64 (fun (p7 : Int32) => [(0, (.ref 192)), (2, (.ref x2)), (3, (.int x3)), (4, (.int x4)), (5, (.int p1.1)), (6, (.int p1.2.1)), (7, (.int p1.2.2.1)), (8, (.int p4))]) (fun (p7 : Int32) => [(.int p7)]) (fun (p7 : Int32) => p1.2.2.2) ?_ (fun p7 => ?_)
        · refine hp_sv0 ?_
          refine hp_if_eq hm at0 rfl (by exact trivial) (pc' := 47) rfl 5 rfl (tgt := 54) rfl (fun c9 => ?_) (fun c9 => ?_)
          · refine hp_sv0 ?_
            refine hp_if_eq hm (at1 6 rfl) rfl (by exact trivial) (pc' := 56) rfl 3 rfl (tgt := 63) rfl (fun c8 => ?_) (fun c8 => ?_)
            · refine hp_b hm (at1 7 rfl) (L' := [(8, (.int p4)), (0, (.ref 192)), (2, (.ref x2)), (3, (.int x3)), (4, (.int x4)), (5, (.int p1.1)), (6, (.int p1.2.1)), (7, (.int p1.2.2.1))]) (st' := [(.int (2 : Int32))]) rfl (by exact trivial) (pc' := 64) rfl ?_
              exact hp_lf [1, 2, 3, 4, 5, 6, 7, 0] rfl (fun _ e => e)
            · refine hp_b hm (at1 8 rfl) (L' := [(8, (.int p4)), (0, (.ref 192)), (2, (.ref x2)), (3, (.int x3)), (4, (.int x4)), (5, (.int p1.1)), (6, (.int p1.2.1)), (7, (.int p1.2.2.1))]) (st' := [(.int (0 : Int32))]) rfl (by exact trivial) (pc' := 60) rfl ?_
              refine hp_goto hm 2 rfl (tgt := 64) rfl ?_
              exact hp_lf [1, 2, 3, 4, 5, 6, 7, 0] rfl (fun _ e => e)
          · refine hp_b hm (at1 9 rfl) (L' := [(8, (.int p4)), (0, (.ref 192)), (2, (.ref x2)), (3, (.int x3)), (4, (.int x4)), (5, (.int p1.1)), (6, (.int p1.2.1)), (7, (.int p1.2.2.1))]) (st' := [(.int (1 : Int32))]) rfl (by exact trivial) (pc' := 51) rfl ?_
            refine hp_goto hm 4 rfl (tgt := 64) rfl ?_
            exact hp_lf [1, 2, 3, 4, 5, 6, 7, 0] rfl (fun _ e => e)
        · refine hp_b hm (at1 10 rfl) (L' := [(9, (.int p7)), (0, (.ref 192)), (2, (.ref x2)), (3, (.int x3)), (4, (.int x4)), (5, (.int p1.1)), (6, (.int p1.2.1)), (7, (.int p1.2.2.1)), (8, (.int p4))]) (st' := [(.int (rdI p1.2.2.2 192 27)), (.int (p1.1 + p7))]) rfl (by exact og_192) (pc' := 75) rfl ?_
          refine hp_ic_le hm at0 rfl (by exact trivial) (pc' := 75) rfl 17 rfl (tgt := 80) rfl (fun c21 => ?_) (fun c21 => ?_)
          · refine hp_J 128 (fun (p10 : Int32) => [(0, (.ref 192)), (2, (.ref x2)), (3, (.int x3)), (4, (.int x4)), (5, (.int p1.1)), (7, (.int p1.2.2.1)), (9, (.int p7))]) (fun (p10 : Int32) => [(.int p10), (.int p1.2.1)]) (fun (p10 : Int32) => p1.2.2.2) ?_ (fun p10 => ?_)
            · refine hp_ic_ne hm (at1 11 rfl) rfl (by exact trivial) (pc' := 85) rfl 14 rfl (tgt := 112) rfl (fun c16 => ?_) (fun c16 => ?_)
              · refine hp_ic_ne hm (at1 12 rfl) rfl (by exact trivial) (pc' := 115) rfl 8 rfl (tgt := 127) rfl (fun c12 => ?_) (fun c12 => ?_)
                · refine hp_b hm (at1 13 rfl) (L' := [(9, (.int p7)), (0, (.ref 192)), (2, (.ref x2)), (3, (.int x3)), (4, (.int x4)), (5, (.int p1.1)), (6, (.int p1.2.1)), (7, (.int p1.2.2.1)), (8, (.int p4))]) (st' := [(.int (0 : Int32)), (.int p1.2.1)]) rfl (by exact trivial) (pc' := 128) rfl ?_
                  exact hp_lf [1, 2, 3, 4, 5, 7, 0] rfl (fun _ e => e)
                · refine hp_cVP (M2 := M_Mo_s2) hm (at1 14 rfl) (as := [(.int p1.1)]) (rest := [(.int p1.2.1)]) (z := 192) rfl (by exact trivial) (pc' := 121) rfl 6 rfl (lw_g (lw_at lw_m9 200 rfl) rfl) y_Mo_s2 rfl (d2 := 3) ⟨le_b rfl, pd_Mo_s2, le_b rfl⟩ (le_b rfl) og_192 (k_Mo_s2 p1.1 p1.2.2.2) (fun a11 => ?_)
                  refine hp_goto hm 7 rfl (tgt := 128) rfl ?_
                  exact hp_lf [1, 2, 3, 4, 5, 7, 0] rfl (fun _ e => e)
              · refine hp_if_eq hm (at1 15 rfl) rfl (by exact trivial) (pc' := 90) rfl 13 rfl (tgt := 102) rfl (fun c15 => ?_) (fun c15 => ?_)
                · refine hp_cVP (M2 := M_Mo_u1) hm (at1 16 rfl) (as := [(.int p1.1)]) (rest := [(.int p1.2.1)]) (z := 192) rfl (by exact trivial) (pc' := 105) rfl 9 rfl (lw_g (lw_at lw_m9 208 rfl) rfl) y_Mo_u1 rfl (d2 := 1) ⟨le_b rfl, pd_Mo_u1, le_b rfl⟩ (le_b rfl) og_192 (k_Mo_u1 p1.1 p1.2.2.2) (fun a13 => ?_)
                  refine hp_b hm (at1 17 rfl) (L' := [(9, (.int p7)), (0, (.ref 192)), (2, (.ref x2)), (3, (.int x3)), (4, (.int x4)), (5, (.int p1.1)), (6, (.int p1.2.1)), (7, (.int p1.2.2.1)), (8, (.int p4))]) (st' := [(.int (-a13)), (.int p1.2.1)]) rfl (by exact trivial) (pc' := 109) rfl ?_
                  refine hp_goto hm 10 rfl (tgt := 128) rfl ?_
                  exact hp_lf [1, 2, 3, 4, 5, 7, 0] rfl (fun _ e => e)
                · refine hp_cVP (M2 := M_Mo_u1) hm (at1 18 rfl) (as := [(.int p1.1)]) (rest := [(.int p1.2.1)]) (z := 192) rfl (by exact trivial) (pc' := 96) rfl 11 rfl (lw_g (lw_at lw_m9 208 rfl) rfl) y_Mo_u1 rfl (d2 := 1) ⟨le_b rfl, pd_Mo_u1, le_b rfl⟩ (le_b rfl) og_192 (k_Mo_u1 p1.1 p1.2.2.2) (fun a14 => ?_)
                  refine hp_goto hm 12 rfl (tgt := 128) rfl ?_
                  exact hp_lf [1, 2, 3, 4, 5, 7, 0] rfl (fun _ e => e)
            · refine hp_z hm (at1 19 rfl) (fun (v17 : Int32) => [(6, (.int v17)), (0, (.ref 192)), (2, (.ref x2)), (3, (.int x3)), (4, (.int x4)), (5, (.int p1.1)), (7, (.int p1.2.2.1)), (9, (.int p7))]) (fun (v17 : Int32) => []) rfl (by exact trivial) (pc' := 131) rfl (fun v17 => ?_)
              refine hp_GW hm (at1 20 rfl) (L' := [(6, (.int v17)), (0, (.ref 192)), (2, (.ref x2)), (3, (.int x3)), (4, (.int x4)), (5, (.int p1.1)), (7, (.int p1.2.2.1)), (9, (.int p7))]) rfl (fun hP => (by exact ⟨hx2, hP⟩)) (pc' := 137) rfl (fun q18 h1 => ?_)
              refine hp_z hm (at1 21 rfl) (fun (v19 : Int32) => [(5, (.int v19)), (6, (.int v17)), (0, (.ref 192)), (2, (.ref x2)), (3, (.int x3)), (4, (.int x4)), (7, (.int p1.2.2.1)), (9, (.int p7))]) (fun (v19 : Int32) => []) rfl (by exact trivial) (pc' := 144) rfl (fun v19 => ?_)
              refine hp_z hm (at1 22 rfl) (fun (v20 : Int32) => [(7, (.int v20)), (5, (.int v19)), (6, (.int v17)), (0, (.ref 192)), (2, (.ref x2)), (3, (.int x3)), (4, (.int x4)), (9, (.int p7))]) (fun (v20 : Int32) => []) rfl (by exact trivial) (pc' := 147) rfl (fun v20 => ?_)
              refine hp_goto hm 15 rfl (tgt := 9) rfl ?_
              exact hp_lf [3, 4, 5, 6, 1, 2, 0] rfl (fun _ e => e)
          · exact hp_ir hm (at1 23 rfl) rfl (by exact trivial) (pc' := 79) rfl 16 rfl rfl (vp_nar_int _) (fun _ e => e)
  · exact hp_ir hm (at1 24 rfl) rfl (by exact trivial) (pc' := 152) rfl 19 rfl rfl (vp_nar_int _) (fun _ e => e)
/-! HintHouseModel.simple()Z -/
def M_Mo_simple : hM := (11, ⟨"HintHouseModel", "simple", "()Z"⟩, prog_13_method_25_code, 7, (Option.some Jvm.ClassFile.FieldType.boolean), [], [(0, [(.aload_n 0, 1, 0, 0, 0, .null), (.getfield 342, 3, 11, 26, 0, .null), (.bipush 10, 2, 0, 0, 0, (.int (10 : Int32))), (.iadd, 1, 0, 0, 0, .null), (.istore_n 1, 1, 0, 0, 0, .null)]), (8, [(.iload_n 1, 1, 0, 0, 0, .null), (.iconst 2, 1, 0, 0, 0, (.int (2 : Int32))), (.aload_n 0, 1, 0, 0, 0, .null), (.getfield 348, 3, 11, 28, 0, .null), (.imul, 1, 0, 0, 0, .null), (.iadd, 1, 0, 0, 0, .null), (.iconst 2, 1, 0, 0, 0, (.int (2 : Int32))), (.iadd, 1, 0, 0, 0, .null), (.aload_n 0, 1, 0, 0, 0, .null), (.getfield 345, 3, 11, 27, 0, .null)]), (27, [(.iconst (-1), 1, 0, 0, 0, (.int (-1 : Int32))), (.istore_n 2, 1, 0, 0, 0, .null), (.iconst 0, 1, 0, 0, 0, (.int (0 : Int32))), (.istore_n 3, 1, 0, 0, 0, .null)]), (31, [(.iload_n 3, 1, 0, 0, 0, .null), (.aload_n 0, 1, 0, 0, 0, .null), (.getfield 348, 3, 11, 28, 0, .null)]), (39, [(.aload_n 0, 1, 0, 0, 0, .null), (.iload_n 1, 1, 0, 0, 0, .null)]), (44, [(.istore 4, 2, 0, 0, 0, .null), (.iload 4, 2, 0, 0, 0, .null), (.iload_n 2, 1, 0, 0, 0, .null)]), (59, [(.iconst 0, 1, 0, 0, 0, (.int (0 : Int32)))]), (52, [(.iload 4, 2, 0, 0, 0, .null), (.bipush 100, 2, 0, 0, 0, (.int (100 : Int32)))]), (61, [(.aload_n 0, 1, 0, 0, 0, .null), (.getfield 30, 3, 11, 33, 4, .null), (.iload_n 3, 1, 0, 0, 0, .null), (.iload 4, 2, 0, 0, 0, .null), (.iastore, 1, 0, 0, 0, .null)]), (69, [(.iload 4, 2, 0, 0, 0, .null), (.istore_n 2, 1, 0, 0, 0, .null), (.iinc 1 2, 3, 0, 0, 0, (.int (2 : Int32)))]), (75, [(.iinc 3 1, 3, 0, 0, 0, (.int (1 : Int32)))]), (81, [(.aload_n 0, 1, 0, 0, 0, .null), (.iload_n 2, 1, 0, 0, 0, .null), (.iconst 1, 1, 0, 0, 0, (.int (1 : Int32))), (.iadd, 1, 0, 0, 0, .null), (.putfield 351, 3, 11, 29, 0, .null)]), (88, [(.aload_n 0, 1, 0, 0, 0, .null), (.aload_n 0, 1, 0, 0, 0, .null), (.iload_n 1, 1, 0, 0, 0, .null)]), (94, [(.putfield 360, 3, 11, 32, 0, .null)]), (97, [(.aload_n 0, 1, 0, 0, 0, .null), (.iload_n 1, 1, 0, 0, 0, .null), (.iconst 2, 1, 0, 0, 0, (.int (2 : Int32))), (.iadd, 1, 0, 0, 0, .null), (.putfield 357, 3, 11, 31, 0, .null)]), (104, [(.iload_n 1, 1, 0, 0, 0, .null), (.iconst 2, 1, 0, 0, 0, (.int (2 : Int32))), (.aload_n 0, 1, 0, 0, 0, .null), (.getfield 360, 3, 11, 32, 0, .null), (.iadd, 1, 0, 0, 0, .null), (.iadd, 1, 0, 0, 0, .null), (.istore_n 1, 1, 0, 0, 0, .null)]), (113, [(.aload_n 0, 1, 0, 0, 0, .null), (.getfield 360, 3, 11, 32, 0, .null), (.sipush 400, 3, 0, 0, 0, (.int (400 : Int32)))]), (131, [(.iconst 0, 1, 0, 0, 0, (.int (0 : Int32)))]), (123, [(.iload_n 1, 1, 0, 0, 0, .null), (.aload_n 0, 1, 0, 0, 0, .null), (.getfield 345, 3, 11, 27, 0, .null)]), (133, [(.iconst 0, 1, 0, 0, 0, (.int (0 : Int32))), (.istore_n 3, 1, 0, 0, 0, .null)]), (135, [(.iload_n 3, 1, 0, 0, 0, .null), (.aload_n 0, 1, 0, 0, 0, .null), (.getfield 351, 3, 11, 29, 0, .null)]), (143, [(.iload_n 1, 1, 0, 0, 0, .null), (.aload_n 0, 1, 0, 0, 0, .null), (.getfield 345, 3, 11, 27, 0, .null)]), (153, [(.aload_n 0, 1, 0, 0, 0, .null), (.iload_n 1, 1, 0, 0, 0, .null)]), (158, [(.istore 4, 2, 0, 0, 0, .null), (.iinc 1 1, 3, 0, 0, 0, (.int (1 : Int32)))]), (163, [(.iconst 0, 1, 0, 0, 0, (.int (0 : Int32))), (.istore 5, 2, 0, 0, 0, .null), (.iload 4, 2, 0, 0, 0, .null), (.bipush 8, 2, 0, 0, 0, (.int (8 : Int32))), (.iand, 1, 0, 0, 0, .null)]), (174, [(.iload_n 1, 1, 0, 0, 0, .null), (.aload_n 0, 1, 0, 0, 0, .null), (.getfield 345, 3, 11, 27, 0, .null)]), (184, [(.aload_n 0, 1, 0, 0, 0, .null), (.iload_n 1, 1, 0, 0, 0, .null)]), (189, [(.istore 5, 2, 0, 0, 0, .null), (.iinc 1 1, 3, 0, 0, 0, (.int (1 : Int32)))]), (182, [(.iconst 0, 1, 0, 0, 0, (.int (0 : Int32)))]), (194, [(.iload_n 3, 1, 0, 0, 0, .null), (.iconst 1, 1, 0, 0, 0, (.int (1 : Int32))), (.iadd, 1, 0, 0, 0, .null), (.iload 5, 2, 0, 0, 0, .null), (.iadd, 1, 0, 0, 0, .null), (.aload_n 0, 1, 0, 0, 0, .null), (.getfield 351, 3, 11, 29, 0, .null)]), (209, [(.iconst 0, 1, 0, 0, 0, (.int (0 : Int32))), (.istore 6, 2, 0, 0, 0, .null)]), (212, [(.iload 6, 2, 0, 0, 0, .null), (.iload 5, 2, 0, 0, 0, .null)]), (219, [(.aload_n 0, 1, 0, 0, 0, .null), (.getfield 39, 3, 11, 36, 4, .null), (.iload_n 3, 1, 0, 0, 0, .null), (.iload 4, 2, 0, 0, 0, .null), (.iastore, 1, 0, 0, 0, .null)]), (227, [(.iinc 3 1, 3, 0, 0, 0, (.int (1 : Int32)))]), (230, [(.iinc 6 1, 3, 0, 0, 0, (.int (1 : Int32)))]), (207, [(.iconst 0, 1, 0, 0, 0, (.int (0 : Int32)))]), (151, [(.iconst 0, 1, 0, 0, 0, (.int (0 : Int32)))]), (239, [(.aload_n 0, 1, 0, 0, 0, .null), (.iload_n 1, 1, 0, 0, 0, .null), (.aload_n 0, 1, 0, 0, 0, .null), (.getfield 33, 3, 11, 34, 4, .null), (.iconst 2, 1, 0, 0, 0, (.int (2 : Int32))), (.bipush 16, 2, 0, 0, 0, (.int (16 : Int32)))]), (251, [(.istore_n 1, 1, 0, 0, 0, .null), (.iload_n 1, 1, 0, 0, 0, .null), (.iconst (-1), 1, 0, 0, 0, (.int (-1 : Int32)))]), (261, [(.aload_n 0, 1, 0, 0, 0, .null), (.iload_n 1, 1, 0, 0, 0, .null), (.aload_n 0, 1, 0, 0, 0, .null), (.getfield 36, 3, 11, 35, 4, .null), (.iconst 4, 1, 0, 0, 0, (.int (4 : Int32))), (.bipush 32, 2, 0, 0, 0, (.int (32 : Int32)))]), (257, [(.iconst (-1), 1, 0, 0, 0, (.int (-1 : Int32)))]), (273, [(.istore_n 1, 1, 0, 0, 0, .null), (.iload_n 1, 1, 0, 0, 0, .null), (.iconst (-1), 1, 0, 0, 0, (.int (-1 : Int32)))]), (283, [(.iconst 0, 1, 0, 0, 0, (.int (0 : Int32)))]), (279, [(.iconst 1, 1, 0, 0, 0, (.int (1 : Int32)))]), (25, [(.iconst 0, 1, 0, 0, 0, (.int (0 : Int32)))])], [(41, .invokevirtual 213, 3), (60, .ireturn, 1), (78, .goto (-47), 3), (56, .if_icmp .lt 5, 3), (49, .if_icmp .le 10, 3), (36, .if_icmp .ge 45, 3), (91, .invokevirtual 213, 3), (132, .ireturn, 1), (155, .invokevirtual 209, 3), (186, .invokevirtual 209, 3), (183, .ireturn, 1), (179, .if_icmp .lt 5, 3), (171, .ifCond .eq 23, 3), (233, .goto (-21), 3), (216, .if_icmp .gt 20, 3), (236, .goto (-101), 3), (208, .ireturn, 1), (204, .if_icmp .le 5, 3), (152, .ireturn, 1), (148, .if_icmp .lt 5, 3), (140, .if_icmp .ge 99, 3), (248, .invokevirtual 373, 3), (270, .invokevirtual 373, 3), (258, .goto 15, 3), (254, .if_icmp .ne 7, 3), (284, .ireturn, 1), (280, .goto 4, 3), (276, .if_icmp .eq 7, 3), (128, .if_icmp .le 5, 3), (120, .if_icmp .gt 11, 3), (26, .ireturn, 1), (22, .if_icmp .le 5, 3)])
set_option maxRecDepth 100000 in
theorem m_Mo_simple : hx_mok M_Mo_simple = true := by decide +kernel
theorem pd_Mo_simple : (parseMethodDescriptor M_Mo_simple.2.1.desc).map (fun q => q.parameters.length) = some 0 := by decide +kernel
theorem y_Mo_simple : hx_okV M_Mo_simple := ⟨⟨lw_g (lw_at lw_m11 39 rfl) rfl, lw_g (lw_at lw_m11 38 rfl) rfl, qs192, lw_g (lw_at lw_m1 12 rfl) rfl, rfl, by decide, by decide, by decide⟩, rfl, by decide, plainFor_of_name (by decide)⟩
noncomputable def f_Mo_simple (h : hH) : Option (Int32 × hH) :=
  lz (A := Int32) ((rdI h 192 26) + (10 : Int32)) fun v1 =>
  if ((v1 + ((2 : Int32) * (rdI h 192 28))) + (2 : Int32)) ≤ (rdI h 192 27) then (
    bE (P := (Int32 × Int32 × hH)) (X := (Int32 × hH)) (
      wh (A := (Int32 × Int32 × Int32 × hH)) (B := ((Int32 × Int32 × hH) ⊕ (Int32 × hH))) (fun p2 =>
          if (rdI p2.2.2.2 192 28) ≤ p2.2.2.1 then (
            some (.inr (.inl (p2.1, p2.2.1, p2.2.2.2)))
          ) else (
            bP (f_Mo_u2 p2.1 p2.2.2.2) fun a4 =>
            if a4 ≤ p2.2.1 then (
              some (.inr (.inr ((0 : Int32), p2.2.2.2)))
            ) else (
              if a4 < (100 : Int32) then (
                gd (vp_in p2.2.2.1 12) <|
                lz (wrI p2.2.2.2 199 (Int32.toNatClampNeg p2.2.2.1) a4) fun h1 =>
                lz (A := Int32) (p2.1 + (2 : Int32)) fun v6 =>
                lz (A := Int32) (p2.2.2.1 + (1 : Int32)) fun v7 =>
                some (.inl (v6, a4, v7, h1))
              ) else (
                some (.inr (.inr ((0 : Int32), p2.2.2.2)))
              )
            )
          )
      ) (v1, (-1 : Int32), (0 : Int32), h)
    ) fun p3 =>
    lz (wrI p3.2.2 192 29 (p3.2.1 + (1 : Int32))) fun h2 =>
    bP (f_Mo_u2 p3.1 h2) fun a11 =>
    lz (wrI h2 192 32 a11) fun h3 =>
    lz (wrI h3 192 31 (p3.1 + (2 : Int32))) fun h4 =>
    lz (A := Int32) (p3.1 + ((2 : Int32) + (rdI h4 192 32))) fun v12 =>
    if (400 : Int32) < (rdI h4 192 32) then (
      some ((0 : Int32), h4)
    ) else (
      if v12 ≤ (rdI h4 192 27) then (
        bE (P := (Int32 × hH)) (X := (Int32 × hH)) (
          wh (A := (Int32 × Int32 × hH)) (B := ((Int32 × hH) ⊕ (Int32 × hH))) (fun p13 =>
              if (rdI p13.2.2 192 29) ≤ p13.2.1 then (
                some (.inr (.inl (p13.1, p13.2.2)))
              ) else (
                if p13.1 < (rdI p13.2.2 192 27) then (
                  bP (f_Mo_u1 p13.1 p13.2.2) fun a15 =>
                  lz (A := Int32) (p13.1 + (1 : Int32)) fun v16 =>
                  bE (P := (Int32 × Int32)) (X := ((Int32 × Int32 × hH) ⊕ ((Int32 × hH) ⊕ (Int32 × hH)))) (
                    if (a15 &&& (8 : Int32)) = 0 then (
                      some (.inl (v16, (0 : Int32)))
                    ) else (
                      if v16 < (rdI p13.2.2 192 27) then (
                        bP (f_Mo_u1 v16 p13.2.2) fun a18 =>
                        lz (A := Int32) (v16 + (1 : Int32)) fun v19 =>
                        some (.inl (v19, a18))
                      ) else (
                        some (.inr (.inr (.inr ((0 : Int32), p13.2.2))))
                      )
                    )
                  ) fun p17 =>
                  if ((p13.2.1 + (1 : Int32)) + p17.2) ≤ (rdI p13.2.2 192 29) then (
                    bP (A := (Int32 × hH)) (
                      wh (A := (Int32 × Int32 × hH)) (B := (Int32 × hH)) (fun p22 =>
                          if p17.2 < p22.2.1 then (
                            some (.inr (p22.1, p22.2.2))
                          ) else (
                            gd (vp_in p22.1 100) <|
                            lz (wrI p22.2.2 202 (Int32.toNatClampNeg p22.1) a15) fun h5 =>
                            lz (A := Int32) (p22.1 + (1 : Int32)) fun v25 =>
                            lz (A := Int32) (p22.2.1 + (1 : Int32)) fun v26 =>
                            some (.inl (v25, v26, h5))
                          )
                      ) (p13.2.1, (0 : Int32), p13.2.2)
                    ) fun p23 =>
                    some (.inl (p17.1, p23.1, p23.2))
                  ) else (
                    some (.inr (.inr ((0 : Int32), p13.2.2)))
                  )
                ) else (
                  some (.inr (.inr ((0 : Int32), p13.2.2)))
                )
              )
          ) (v12, (0 : Int32), h4)
        ) fun p14 =>
        bS (f_Mo_coordinates p14.1 200 (2 : Int32) (16 : Int32) p14.2) fun a31 h6 =>
        bP (A := (Int32 × hH)) (
          if a31 = (-1 : Int32) then (
            some ((-1 : Int32), h6)
          ) else (
            bS (f_Mo_coordinates a31 201 (4 : Int32) (32 : Int32) h6) fun a33 h7 =>
            some (a33, h7)
          )
        ) fun p32 =>
        if p32.1 = (-1 : Int32) then (
          some ((0 : Int32), p32.2)
        ) else (
          some ((1 : Int32), p32.2)
        )
      ) else (
        some ((0 : Int32), h4)
      )
    )
  ) else (
    some ((0 : Int32), h)
  )
set_option maxRecDepth 20000 in
theorem k_Mo_simple (h : hH) : hx_kS S0 M_Mo_simple 5 NT [(.ref 192)] h (f_Mo_simple h) cvI := by
  have hm := m_Mo_simple
  show hx_P S0 M_Mo_simple 5 0 [(0, (.ref 192))] [] NT h (f_Mo_simple h) (hx_Rc cvI NT)
  unfold f_Mo_simple
  refine hp_z hm (at1 0 rfl) (fun (v1 : Int32) => [(1, (.int v1)), (0, (.ref 192))]) (fun (v1 : Int32) => []) rfl (by exact og_192) (pc' := 8) rfl (fun v1 => ?_)
  refine hp_ic_le hm (at1 1 rfl) rfl (by exact ⟨og_192, og_192⟩) (pc' := 22) rfl 31 rfl (tgt := 27) rfl (fun c38 => ?_) (fun c38 => ?_)
  · refine hp_b hm (at1 2 rfl) (L' := [(3, (.int (0 : Int32))), (2, (.int (-1 : Int32))), (1, (.int v1)), (0, (.ref 192))]) (st' := []) rfl (by exact trivial) (pc' := 31) rfl ?_
    refine hp_E 81 (fun (p3 : (Int32 × Int32 × hH)) => [(0, (.ref 192)), (1, (.int p3.1)), (2, (.int p3.2.1))]) (fun (p3 : (Int32 × Int32 × hH)) => []) (fun (p3 : (Int32 × Int32 × hH)) => p3.2.2) ?_ (fun p3 => ?_)
    · refine hp_s [3, 2, 1, 0] rfl (L' := [(0, (.ref 192)), (1, (.int v1)), (2, (.int (-1 : Int32))), (3, (.int (0 : Int32)))]) ?_
      refine hp_wh (fun (p2 : (Int32 × Int32 × Int32 × hH)) => [(0, (.ref 192)), (1, (.int p2.1)), (2, (.int p2.2.1)), (3, (.int p2.2.2.1))]) [] (fun (p2 : (Int32 × Int32 × Int32 × hH)) => p2.2.2.2) (fun p2 => ?_) (v1, (-1 : Int32), (0 : Int32), h)
      refine hp_ic_ge hm (at1 3 rfl) rfl (by exact og_192) (pc' := 36) rfl 5 rfl (tgt := 81) rfl (fun c10 => ?_) (fun c10 => ?_)
      · exact hp_lf [0, 1, 2] rfl (fun _ e => e)
      · refine hp_cVP (M2 := M_Mo_u2) hm (at1 4 rfl) (as := [(.int p2.1)]) (rest := []) (z := 192) rfl (by exact trivial) (pc' := 41) rfl 0 rfl (lw_g (lw_at lw_m9 204 rfl) rfl) y_Mo_u2 rfl (d2 := 2) ⟨le_b rfl, pd_Mo_u2, le_b rfl⟩ (le_b rfl) og_192 (k_Mo_u2 p2.1 p2.2.2.2) (fun a4 => ?_)
        refine hp_b hm (at1 5 rfl) (L' := [(4, (.int a4)), (0, (.ref 192)), (1, (.int p2.1)), (2, (.int p2.2.1)), (3, (.int p2.2.2.1))]) (st' := [(.int p2.2.1), (.int a4)]) rfl (by exact trivial) (pc' := 49) rfl ?_
        refine hp_ic_le hm at0 rfl (by exact trivial) (pc' := 49) rfl 4 rfl (tgt := 59) rfl (fun c9 => ?_) (fun c9 => ?_)
        · exact hp_ir hm (at1 6 rfl) rfl (by exact trivial) (pc' := 60) rfl 1 rfl rfl rfl (fun _ e => e)
        · refine hp_ic_lt hm (at1 7 rfl) rfl (by exact trivial) (pc' := 56) rfl 3 rfl (tgt := 61) rfl (fun c8 => ?_) (fun c8 => ?_)
          · refine hp_GW hm (at1 8 rfl) (L' := [(4, (.int a4)), (0, (.ref 192)), (1, (.int p2.1)), (2, (.int p2.2.1)), (3, (.int p2.2.2.1))]) rfl (fun hP => (by exact ⟨og_192, ⟨og_199, hP⟩⟩)) (pc' := 69) rfl (fun q5 h1 => ?_)
            refine hp_z hm (at1 9 rfl) (fun (v6 : Int32) => [(1, (.int v6)), (2, (.int a4)), (4, (.int a4)), (0, (.ref 192)), (3, (.int p2.2.2.1))]) (fun (v6 : Int32) => []) rfl (by exact trivial) (pc' := 75) rfl (fun v6 => ?_)
            refine hp_z hm (at1 10 rfl) (fun (v7 : Int32) => [(3, (.int v7)), (1, (.int v6)), (2, (.int a4)), (4, (.int a4)), (0, (.ref 192))]) (fun (v7 : Int32) => []) rfl (by exact trivial) (pc' := 78) rfl (fun v7 => ?_)
            refine hp_goto hm 2 rfl (tgt := 31) rfl ?_
            exact hp_lf [4, 1, 2, 0] rfl (fun _ e => e)
          · exact hp_ir hm (at1 6 rfl) rfl (by exact trivial) (pc' := 60) rfl 1 rfl rfl rfl (fun _ e => e)
    · refine hp_w hm (at1 11 rfl) (L' := [(0, (.ref 192)), (1, (.int p3.1)), (2, (.int p3.2.1))]) rfl (by exact og_192) (pc' := 88) rfl (fun h2 => ?_)
      refine hp_cVP (M2 := M_Mo_u2) hm (at1 12 rfl) (as := [(.int p3.1)]) (rest := [(.ref 192)]) (z := 192) rfl (by exact trivial) (pc' := 91) rfl 6 rfl (lw_g (lw_at lw_m9 204 rfl) rfl) y_Mo_u2 rfl (d2 := 2) ⟨le_b rfl, pd_Mo_u2, le_b rfl⟩ (le_b rfl) og_192 (k_Mo_u2 p3.1 h2) (fun a11 => ?_)
      refine hp_w hm (at1 13 rfl) (L' := [(0, (.ref 192)), (1, (.int p3.1)), (2, (.int p3.2.1))]) rfl (by exact og_192) (pc' := 97) rfl (fun h3 => ?_)
      refine hp_w hm (at1 14 rfl) (L' := [(0, (.ref 192)), (1, (.int p3.1)), (2, (.int p3.2.1))]) rfl (by exact og_192) (pc' := 104) rfl (fun h4 => ?_)
      refine hp_z hm (at1 15 rfl) (fun (v12 : Int32) => [(1, (.int v12)), (0, (.ref 192)), (2, (.int p3.2.1))]) (fun (v12 : Int32) => []) rfl (by exact og_192) (pc' := 113) rfl (fun v12 => ?_)
      refine hp_ic_gt hm (at1 16 rfl) rfl (by exact og_192) (pc' := 120) rfl 29 rfl (tgt := 131) rfl (fun c37 => ?_) (fun c37 => ?_)
      · exact hp_ir hm (at1 17 rfl) rfl (by exact trivial) (pc' := 132) rfl 7 rfl rfl rfl (fun _ e => e)
      · refine hp_ic_le hm (at1 18 rfl) rfl (by exact og_192) (pc' := 128) rfl 28 rfl (tgt := 133) rfl (fun c36 => ?_) (fun c36 => ?_)
        · refine hp_b hm (at1 19 rfl) (L' := [(3, (.int (0 : Int32))), (1, (.int v12)), (0, (.ref 192)), (2, (.int p3.2.1))]) (st' := []) rfl (by exact trivial) (pc' := 135) rfl ?_
          refine hp_E 239 (fun (p14 : (Int32 × hH)) => [(0, (.ref 192)), (1, (.int p14.1))]) (fun (p14 : (Int32 × hH)) => []) (fun (p14 : (Int32 × hH)) => p14.2) ?_ (fun p14 => ?_)
          · refine hp_s [2, 1, 0] rfl (L' := [(0, (.ref 192)), (1, (.int v12)), (3, (.int (0 : Int32)))]) ?_
            refine hp_wh (fun (p13 : (Int32 × Int32 × hH)) => [(0, (.ref 192)), (1, (.int p13.1)), (3, (.int p13.2.1))]) [] (fun (p13 : (Int32 × Int32 × hH)) => p13.2.2) (fun p13 => ?_) (v12, (0 : Int32), h4)
            refine hp_ic_ge hm (at1 20 rfl) rfl (by exact og_192) (pc' := 140) rfl 20 rfl (tgt := 239) rfl (fun c30 => ?_) (fun c30 => ?_)
            · exact hp_lf [0, 1] rfl (fun _ e => e)
            · refine hp_ic_lt hm (at1 21 rfl) rfl (by exact og_192) (pc' := 148) rfl 19 rfl (tgt := 153) rfl (fun c29 => ?_) (fun c29 => ?_)
              · refine hp_cVP (M2 := M_Mo_u1) hm (at1 22 rfl) (as := [(.int p13.1)]) (rest := []) (z := 192) rfl (by exact trivial) (pc' := 155) rfl 8 rfl (lw_g (lw_at lw_m9 208 rfl) rfl) y_Mo_u1 rfl (d2 := 1) ⟨le_b rfl, pd_Mo_u1, le_b rfl⟩ (le_b rfl) og_192 (k_Mo_u1 p13.1 p13.2.2) (fun a15 => ?_)
                refine hp_z hm (at1 23 rfl) (fun (v16 : Int32) => [(1, (.int v16)), (4, (.int a15)), (0, (.ref 192)), (3, (.int p13.2.1))]) (fun (v16 : Int32) => []) rfl (by exact trivial) (pc' := 163) rfl (fun v16 => ?_)
                refine hp_b hm (at1 24 rfl) (L' := [(5, (.int (0 : Int32))), (1, (.int v16)), (4, (.int a15)), (0, (.ref 192)), (3, (.int p13.2.1))]) (st' := [(.int (a15 &&& (8 : Int32)))]) rfl (by exact trivial) (pc' := 171) rfl ?_
                refine hp_E 194 (fun (p17 : (Int32 × Int32)) => [(0, (.ref 192)), (1, (.int p17.1)), (3, (.int p13.2.1)), (4, (.int a15)), (5, (.int p17.2))]) (fun (p17 : (Int32 × Int32)) => []) (fun (p17 : (Int32 × Int32)) => p13.2.2) ?_ (fun p17 => ?_)
                · refine hp_if_eq hm at0 rfl (by exact trivial) (pc' := 171) rfl 12 rfl (tgt := 194) rfl (fun c21 => ?_) (fun c21 => ?_)
                  · exact hp_lf [3, 1, 4, 2, 0] rfl (fun _ e => e)
                  · refine hp_ic_lt hm (at1 25 rfl) rfl (by exact og_192) (pc' := 179) rfl 11 rfl (tgt := 184) rfl (fun c20 => ?_) (fun c20 => ?_)
                    · refine hp_cVP (M2 := M_Mo_u1) hm (at1 26 rfl) (as := [(.int v16)]) (rest := []) (z := 192) rfl (by exact trivial) (pc' := 186) rfl 9 rfl (lw_g (lw_at lw_m9 208 rfl) rfl) y_Mo_u1 rfl (d2 := 1) ⟨le_b rfl, pd_Mo_u1, le_b rfl⟩ (le_b rfl) og_192 (k_Mo_u1 v16 p13.2.2) (fun a18 => ?_)
                      refine hp_z hm (at1 27 rfl) (fun (v19 : Int32) => [(1, (.int v19)), (5, (.int a18)), (4, (.int a15)), (0, (.ref 192)), (3, (.int p13.2.1))]) (fun (v19 : Int32) => []) rfl (by exact trivial) (pc' := 194) rfl (fun v19 => ?_)
                      exact hp_lf [3, 0, 4, 2, 1] rfl (fun _ e => e)
                    · exact hp_ir hm (at1 28 rfl) rfl (by exact trivial) (pc' := 183) rfl 10 rfl rfl rfl (fun _ e => e)
                · refine hp_ic_le hm (at1 29 rfl) rfl (by exact og_192) (pc' := 204) rfl 17 rfl (tgt := 209) rfl (fun c28 => ?_) (fun c28 => ?_)
                  · refine hp_b hm (at1 30 rfl) (L' := [(6, (.int (0 : Int32))), (0, (.ref 192)), (1, (.int p17.1)), (3, (.int p13.2.1)), (4, (.int a15)), (5, (.int p17.2))]) (st' := []) rfl (by exact trivial) (pc' := 212) rfl ?_
                    refine hp_J 236 (fun (p23 : (Int32 × hH)) => [(0, (.ref 192)), (1, (.int p17.1)), (3, (.int p23.1))]) (fun (p23 : (Int32 × hH)) => []) (fun (p23 : (Int32 × hH)) => p23.2) ?_ (fun p23 => ?_)
                    · refine hp_s [1, 2, 3, 4, 5, 0] rfl (L' := [(0, (.ref 192)), (1, (.int p17.1)), (3, (.int p13.2.1)), (4, (.int a15)), (5, (.int p17.2)), (6, (.int (0 : Int32)))]) ?_
                      refine hp_wh (fun (p22 : (Int32 × Int32 × hH)) => [(0, (.ref 192)), (1, (.int p17.1)), (3, (.int p22.1)), (4, (.int a15)), (5, (.int p17.2)), (6, (.int p22.2.1))]) [] (fun (p22 : (Int32 × Int32 × hH)) => p22.2.2) (fun p22 => ?_) (p13.2.1, (0 : Int32), p13.2.2)
                      refine hp_ic_gt hm (at1 31 rfl) rfl (by exact trivial) (pc' := 216) rfl 14 rfl (tgt := 236) rfl (fun c27 => ?_) (fun c27 => ?_)
                      · exact hp_lf [0, 1, 2] rfl (fun _ e => e)
                      · refine hp_GW hm (at1 32 rfl) (L' := [(0, (.ref 192)), (1, (.int p17.1)), (3, (.int p22.1)), (4, (.int a15)), (5, (.int p17.2)), (6, (.int p22.2.1))]) rfl (fun hP => (by exact ⟨og_192, ⟨og_202, hP⟩⟩)) (pc' := 227) rfl (fun q24 h5 => ?_)
                        refine hp_z hm (at1 33 rfl) (fun (v25 : Int32) => [(3, (.int v25)), (0, (.ref 192)), (1, (.int p17.1)), (4, (.int a15)), (5, (.int p17.2)), (6, (.int p22.2.1))]) (fun (v25 : Int32) => []) rfl (by exact trivial) (pc' := 230) rfl (fun v25 => ?_)
                        refine hp_z hm (at1 34 rfl) (fun (v26 : Int32) => [(6, (.int v26)), (3, (.int v25)), (0, (.ref 192)), (1, (.int p17.1)), (4, (.int a15)), (5, (.int p17.2))]) (fun (v26 : Int32) => []) rfl (by exact trivial) (pc' := 233) rfl (fun v26 => ?_)
                        refine hp_goto hm 13 rfl (tgt := 212) rfl ?_
                        exact hp_lf [2, 3, 1, 4, 5, 0] rfl (fun _ e => e)
                    · refine hp_goto hm 15 rfl (tgt := 135) rfl ?_
                      exact hp_lf [0, 1, 2] rfl (fun _ e => e)
                  · exact hp_ir hm (at1 35 rfl) rfl (by exact trivial) (pc' := 208) rfl 16 rfl rfl rfl (fun _ e => e)
              · exact hp_ir hm (at1 36 rfl) rfl (by exact trivial) (pc' := 152) rfl 18 rfl rfl rfl (fun _ e => e)
          · refine hp_cVS (M2 := M_Mo_coordinates) hm (at1 37 rfl) (as := [(.int p14.1), (.ref 200), (.int (2 : Int32)), (.int (16 : Int32))]) (rest := []) (z := 192) rfl (by exact og_192) (pc' := 248) rfl 21 rfl (lw_g (lw_at lw_m11 40 rfl) rfl) y_Mo_coordinates rfl (d2 := 4) ⟨le_b rfl, pd_Mo_coordinates, le_b rfl⟩ (le_b rfl) og_192 (k_Mo_coordinates p14.1 200 (2 : Int32) (16 : Int32) p14.2 og_200) (fun a31 h6 => ?_)
            refine hp_b hm (at1 38 rfl) (L' := [(1, (.int a31)), (0, (.ref 192))]) (st' := [(.int (-1 : Int32)), (.int a31)]) rfl (by exact trivial) (pc' := 254) rfl ?_
            refine hp_J 273 (fun (p32 : (Int32 × hH)) => []) (fun (p32 : (Int32 × hH)) => [(.int p32.1)]) (fun (p32 : (Int32 × hH)) => p32.2) ?_ (fun p32 => ?_)
            · refine hp_ic_ne hm at0 rfl (by exact trivial) (pc' := 254) rfl 24 rfl (tgt := 261) rfl (fun c34 => ?_) (fun c34 => ?_)
              · refine hp_cVS (M2 := M_Mo_coordinates) hm (at1 39 rfl) (as := [(.int a31), (.ref 201), (.int (4 : Int32)), (.int (32 : Int32))]) (rest := []) (z := 192) rfl (by exact og_192) (pc' := 270) rfl 22 rfl (lw_g (lw_at lw_m11 40 rfl) rfl) y_Mo_coordinates rfl (d2 := 4) ⟨le_b rfl, pd_Mo_coordinates, le_b rfl⟩ (le_b rfl) og_192 (k_Mo_coordinates a31 201 (4 : Int32) (32 : Int32) h6 og_201) (fun a33 h7 => ?_)
                exact hp_lf [] rfl (fun _ e => e)
              · refine hp_b hm (at1 40 rfl) (L' := [(1, (.int a31)), (0, (.ref 192))]) (st' := [(.int (-1 : Int32))]) rfl (by exact trivial) (pc' := 258) rfl ?_
                refine hp_goto hm 23 rfl (tgt := 273) rfl ?_
                exact hp_lf [] rfl (fun _ e => e)
            · refine hp_b hm (at1 41 rfl) (L' := [(1, (.int p32.1))]) (st' := [(.int (-1 : Int32)), (.int p32.1)]) rfl (by exact trivial) (pc' := 276) rfl ?_
              refine hp_ic_eq hm at0 rfl (by exact trivial) (pc' := 276) rfl 27 rfl (tgt := 283) rfl (fun c35 => ?_) (fun c35 => ?_)
              · refine hp_b hm (at1 42 rfl) (L' := [(1, (.int p32.1))]) (st' := [(.int (0 : Int32))]) rfl (by exact trivial) (pc' := 284) rfl ?_
                exact hp_ir hm at0 rfl (by exact trivial) (pc' := 284) rfl 25 rfl rfl rfl (fun _ e => e)
              · refine hp_b hm (at1 43 rfl) (L' := [(1, (.int p32.1))]) (st' := [(.int (1 : Int32))]) rfl (by exact trivial) (pc' := 280) rfl ?_
                refine hp_goto hm 26 rfl (tgt := 284) rfl ?_
                exact hp_ir hm at0 rfl (by exact trivial) (pc' := 284) rfl 25 rfl rfl rfl (fun _ e => e)
        · exact hp_ir hm (at1 17 rfl) rfl (by exact trivial) (pc' := 132) rfl 7 rfl rfl rfl (fun _ e => e)
  · exact hp_ir hm (at1 44 rfl) rfl (by exact trivial) (pc' := 26) rfl 30 rfl rfl rfl (fun _ e => e)
/-! HintHouseModel.s1(I)I -/
def M_Mo_s1 : hM := (11, ⟨"HintHouseModel", "s1", "(I)I"⟩, prog_13_method_11_code, 2, (Option.some Jvm.ClassFile.FieldType.int), [], [(0, [(.aload_n 0, 1, 0, 0, 0, .null), (.iload_n 1, 1, 0, 0, 0, .null)]), (5, [(.i2b, 1, 0, 0, 0, .null)])], [(2, .invokevirtual 209, 3), (6, .ireturn, 1)])
set_option maxRecDepth 100000 in
theorem m_Mo_s1 : hx_mok M_Mo_s1 = true := by decide +kernel
theorem pd_Mo_s1 : (parseMethodDescriptor M_Mo_s1.2.1.desc).map (fun q => q.parameters.length) = some 1 := by decide +kernel
theorem y_Mo_s1 : hx_okV M_Mo_s1 := ⟨⟨lw_g (lw_at lw_m11 51 rfl) rfl, lw_g (lw_at lw_m11 50 rfl) rfl, qs195, lw_g (lw_at lw_m1 12 rfl) rfl, rfl, by decide, by decide, by decide⟩, rfl, by decide, plainFor_of_name (by decide)⟩
noncomputable def f_Mo_s1 (x1 : Int32) (h : hH) : Option Int32 :=
  bP (f_Mo_u1 x1 h) fun a1 =>
  some (Int8.toInt32 (Int32.toInt8 a1))
set_option maxRecDepth 20000 in
theorem k_Mo_s1 (x1 : Int32) (h : hH) : hx_kP S0 M_Mo_s1 2 NT [(.ref 192), (.int x1)] h (f_Mo_s1 x1 h) cvI := by
  have hm := m_Mo_s1
  show hx_P S0 M_Mo_s1 2 0 [(0, (.ref 192)), (1, (.int x1))] [] NT h (f_Mo_s1 x1 h) (hx_Rp cvI NT h)
  unfold f_Mo_s1
  refine hp_cVP (M2 := M_Mo_u1) hm (at1 0 rfl) (as := [(.int x1)]) (rest := []) (z := 192) rfl (by exact trivial) (pc' := 2) rfl 0 rfl (lw_g (lw_at lw_m9 208 rfl) rfl) y_Mo_u1 rfl (d2 := 1) ⟨le_b rfl, pd_Mo_u1, le_b rfl⟩ (le_b rfl) og_192 (k_Mo_u1 x1 h) (fun a1 => ?_)
  exact hp_ir hm (at1 1 rfl) rfl (by exact trivial) (pc' := 6) rfl 1 rfl rfl (vp_nar_int _) (fun _ e => e)
/-! HintHouseModel.composed()Z -/
def M_Mo_composed : hM := (11, ⟨"HintHouseModel", "composed", "()Z"⟩, prog_13_method_27_code, 9, (Option.some Jvm.ClassFile.FieldType.boolean), [], [(0, [(.aload_n 0, 1, 0, 0, 0, .null), (.getfield 342, 3, 11, 26, 0, .null), (.bipush 10, 2, 0, 0, 0, (.int (10 : Int32))), (.iadd, 1, 0, 0, 0, .null), (.istore_n 1, 1, 0, 0, 0, .null)]), (8, [(.iconst 1, 1, 0, 0, 0, (.int (1 : Int32))), (.istore_n 2, 1, 0, 0, 0, .null), (.iconst 0, 1, 0, 0, 0, (.int (0 : Int32))), (.istore_n 3, 1, 0, 0, 0, .null)]), (12, [(.iload_n 2, 1, 0, 0, 0, .null)]), (16, [(.aload_n 0, 1, 0, 0, 0, .null), (.getfield 354, 3, 11, 30, 0, .null), (.bipush 8, 2, 0, 0, 0, (.int (8 : Int32)))]), (35, [(.iconst 0, 1, 0, 0, 0, (.int (0 : Int32)))]), (25, [(.iload_n 1, 1, 0, 0, 0, .null), (.iconst 4, 1, 0, 0, 0, (.int (4 : Int32))), (.iadd, 1, 0, 0, 0, .null), (.aload_n 0, 1, 0, 0, 0, .null), (.getfield 345, 3, 11, 27, 0, .null)]), (37, [(.aload_n 0, 1, 0, 0, 0, .null), (.iload_n 1, 1, 0, 0, 0, .null)]), (42, [(.istore_n 3, 1, 0, 0, 0, .null), (.aload_n 0, 1, 0, 0, 0, .null), (.getfield 354, 3, 11, 30, 0, .null), (.istore 4, 2, 0, 0, 0, .null)]), (49, [(.aload_n 0, 1, 0, 0, 0, .null), (.getfield 42, 3, 11, 37, 4, .null), (.iload 4, 2, 0, 0, 0, .null), (.iload_n 3, 1, 0, 0, 0, .null), (.iastore, 1, 0, 0, 0, .null)]), (57, [(.aload_n 0, 1, 0, 0, 0, .null), (.getfield 45, 3, 11, 38, 4, .null), (.iload 4, 2, 0, 0, 0, .null), (.aload_n 0, 1, 0, 0, 0, .null), (.iload_n 1, 1, 0, 0, 0, .null), (.iconst 2, 1, 0, 0, 0, (.int (2 : Int32))), (.iadd, 1, 0, 0, 0, .null)]), (70, [(.iastore, 1, 0, 0, 0, .null)]), (71, [(.iinc 1 4, 3, 0, 0, 0, (.int (4 : Int32)))]), (74, [(.iload_n 3, 1, 0, 0, 0, .null), (.iconst 1, 1, 0, 0, 0, (.int (1 : Int32))), (.iand, 1, 0, 0, 0, .null)]), (84, [(.iconst 0, 1, 0, 0, 0, (.int (0 : Int32)))]), (80, [(.iconst 1, 1, 0, 0, 0, (.int (1 : Int32)))]), (85, [(.istore 5, 2, 0, 0, 0, .null), (.iload_n 3, 1, 0, 0, 0, .null), (.iconst 2, 1, 0, 0, 0, (.int (2 : Int32))), (.iand, 1, 0, 0, 0, .null)]), (97, [(.iconst 0, 1, 0, 0, 0, (.int (0 : Int32)))]), (93, [(.iconst 1, 1, 0, 0, 0, (.int (1 : Int32)))]), (98, [(.istore 6, 2, 0, 0, 0, .null), (.iload_n 3, 1, 0, 0, 0, .null), (.bipush 8, 2, 0, 0, 0, (.int (8 : Int32))), (.iand, 1, 0, 0, 0, .null)]), (111, [(.iload_n 3, 1, 0, 0, 0, .null), (.bipush 64, 2, 0, 0, 0, (.int (64 : Int32))), (.iand, 1, 0, 0, 0, .null)]), (122, [(.iload_n 3, 1, 0, 0, 0, .null), (.sipush 128, 3, 0, 0, 0, (.int (128 : Int32))), (.iand, 1, 0, 0, 0, .null)]), (134, [(.iconst 0, 1, 0, 0, 0, (.int (0 : Int32)))]), (130, [(.iconst 4, 1, 0, 0, 0, (.int (4 : Int32)))]), (118, [(.iconst 2, 1, 0, 0, 0, (.int (2 : Int32)))]), (107, [(.iconst 1, 1, 0, 0, 0, (.int (1 : Int32)))]), (135, [(.istore 7, 2, 0, 0, 0, .null), (.aload_n 0, 1, 0, 0, 0, .null), (.getfield 45, 3, 11, 38, 4, .null), (.iload 4, 2, 0, 0, 0, .null), (.iaload, 1, 0, 0, 0, .null), (.aload_n 0, 1, 0, 0, 0, .null), (.getfield 260, 3, 11, 12, 0, .null)]), (175, [(.iconst 0, 1, 0, 0, 0, (.int (0 : Int32)))]), (151, [(.iload_n 1, 1, 0, 0, 0, .null), (.iload 5, 2, 0, 0, 0, .null)]), (161, [(.iconst 2, 1, 0, 0, 0, (.int (2 : Int32)))]), (157, [(.iconst 4, 1, 0, 0, 0, (.int (4 : Int32)))]), (162, [(.iadd, 1, 0, 0, 0, .null), (.iconst 2, 1, 0, 0, 0, (.int (2 : Int32))), (.iload 7, 2, 0, 0, 0, .null), (.imul, 1, 0, 0, 0, .null), (.iadd, 1, 0, 0, 0, .null), (.aload_n 0, 1, 0, 0, 0, .null), (.getfield 345, 3, 11, 27, 0, .null)]), (177, [(.aload_n 0, 1, 0, 0, 0, .null), (.getfield 48, 3, 11, 39, 4, .null), (.iload 4, 2, 0, 0, 0, .null), (.iload 5, 2, 0, 0, 0, .null)]), (209, [(.iload 6, 2, 0, 0, 0, .null)]), (222, [(.aload_n 0, 1, 0, 0, 0, .null), (.iload_n 1, 1, 0, 0, 0, .null)]), (214, [(.aload_n 0, 1, 0, 0, 0, .null), (.iload_n 1, 1, 0, 0, 0, .null)]), (188, [(.iload 6, 2, 0, 0, 0, .null)]), (201, [(.aload_n 0, 1, 0, 0, 0, .null), (.iload_n 1, 1, 0, 0, 0, .null)]), (193, [(.aload_n 0, 1, 0, 0, 0, .null), (.iload_n 1, 1, 0, 0, 0, .null)]), (227, [(.iastore, 1, 0, 0, 0, .null)]), (228, [(.aload_n 0, 1, 0, 0, 0, .null), (.getfield 51, 3, 11, 40, 4, .null), (.iload 4, 2, 0, 0, 0, .null), (.iload 5, 2, 0, 0, 0, .null)]), (264, [(.iload 6, 2, 0, 0, 0, .null)]), (279, [(.aload_n 0, 1, 0, 0, 0, .null), (.iload_n 1, 1, 0, 0, 0, .null), (.iconst 1, 1, 0, 0, 0, (.int (1 : Int32))), (.iadd, 1, 0, 0, 0, .null)]), (269, [(.aload_n 0, 1, 0, 0, 0, .null), (.iload_n 1, 1, 0, 0, 0, .null), (.iconst 1, 1, 0, 0, 0, (.int (1 : Int32))), (.iadd, 1, 0, 0, 0, .null)]), (239, [(.iload 6, 2, 0, 0, 0, .null)]), (254, [(.aload_n 0, 1, 0, 0, 0, .null), (.iload_n 1, 1, 0, 0, 0, .null), (.iconst 2, 1, 0, 0, 0, (.int (2 : Int32))), (.iadd, 1, 0, 0, 0, .null)]), (244, [(.aload_n 0, 1, 0, 0, 0, .null), (.iload_n 1, 1, 0, 0, 0, .null), (.iconst 2, 1, 0, 0, 0, (.int (2 : Int32))), (.iadd, 1, 0, 0, 0, .null)]), (286, [(.iastore, 1, 0, 0, 0, .null)]), (287, [(.iload_n 1, 1, 0, 0, 0, .null), (.iload 5, 2, 0, 0, 0, .null)]), (297, [(.iconst 2, 1, 0, 0, 0, (.int (2 : Int32)))]), (293, [(.iconst 4, 1, 0, 0, 0, (.int (4 : Int32)))]), (298, [(.iadd, 1, 0, 0, 0, .null), (.istore_n 1, 1, 0, 0, 0, .null)]), (300, [(.iconst 0, 1, 0, 0, 0, (.int (0 : Int32))), (.istore 8, 2, 0, 0, 0, .null)]), (303, [(.iload 8, 2, 0, 0, 0, .null), (.iconst 4, 1, 0, 0, 0, (.int (4 : Int32)))]), (309, [(.aload_n 0, 1, 0, 0, 0, .null), (.getfield 54, 3, 11, 41, 4, .null), (.iconst 4, 1, 0, 0, 0, (.int (4 : Int32))), (.iload 4, 2, 0, 0, 0, .null), (.imul, 1, 0, 0, 0, .null), (.iload 8, 2, 0, 0, 0, .null), (.iadd, 1, 0, 0, 0, .null), (.iconst 0, 1, 0, 0, 0, (.int (0 : Int32))), (.iastore, 1, 0, 0, 0, .null)]), (322, [(.iinc 8 1, 3, 0, 0, 0, (.int (1 : Int32)))]), (328, [(.aload_n 0, 1, 0, 0, 0, .null), (.getfield 54, 3, 11, 41, 4, .null), (.iconst 4, 1, 0, 0, 0, (.int (4 : Int32))), (.iload 4, 2, 0, 0, 0, .null), (.imul, 1, 0, 0, 0, .null), (.iload 7, 2, 0, 0, 0, .null)]), (347, [(.aload_n 0, 1, 0, 0, 0, .null), (.iload_n 1, 1, 0, 0, 0, .null)]), (341, [(.sipush 16384, 3, 0, 0, 0, (.int (16384 : Int32)))]), (352, [(.iastore, 1, 0, 0, 0, .null)]), (353, [(.aload_n 0, 1, 0, 0, 0, .null), (.getfield 54, 3, 11, 41, 4, .null), (.iconst 4, 1, 0, 0, 0, (.int (4 : Int32))), (.iload 4, 2, 0, 0, 0, .null), (.imul, 1, 0, 0, 0, .null), (.iconst 3, 1, 0, 0, 0, (.int (3 : Int32))), (.iadd, 1, 0, 0, 0, .null), (.iload 7, 2, 0, 0, 0, .null)]), (374, [(.iload 7, 2, 0, 0, 0, .null), (.iconst 1, 1, 0, 0, 0, (.int (1 : Int32)))]), (388, [(.iload 7, 2, 0, 0, 0, .null), (.iconst 2, 1, 0, 0, 0, (.int (2 : Int32)))]), (404, [(.aload_n 0, 1, 0, 0, 0, .null), (.iload_n 1, 1, 0, 0, 0, .null), (.bipush 6, 2, 0, 0, 0, (.int (6 : Int32))), (.iadd, 1, 0, 0, 0, .null)]), (394, [(.aload_n 0, 1, 0, 0, 0, .null), (.iload_n 1, 1, 0, 0, 0, .null), (.iconst 2, 1, 0, 0, 0, (.int (2 : Int32))), (.iadd, 1, 0, 0, 0, .null)]), (380, [(.aload_n 0, 1, 0, 0, 0, .null), (.iload_n 1, 1, 0, 0, 0, .null)]), (368, [(.sipush 16384, 3, 0, 0, 0, (.int (16384 : Int32)))]), (412, [(.iastore, 1, 0, 0, 0, .null)]), (413, [(.aload_n 0, 1, 0, 0, 0, .null), (.getfield 54, 3, 11, 41, 4, .null), (.iconst 4, 1, 0, 0, 0, (.int (4 : Int32))), (.iload 4, 2, 0, 0, 0, .null), (.imul, 1, 0, 0, 0, .null), (.iconst 1, 1, 0, 0, 0, (.int (1 : Int32))), (.iadd, 1, 0, 0, 0, .null), (.iload 7, 2, 0, 0, 0, .null), (.iconst 4, 1, 0, 0, 0, (.int (4 : Int32)))]), (439, [(.iconst 0, 1, 0, 0, 0, (.int (0 : Int32)))]), (429, [(.aload_n 0, 1, 0, 0, 0, .null), (.iload_n 1, 1, 0, 0, 0, .null), (.iconst 2, 1, 0, 0, 0, (.int (2 : Int32))), (.iadd, 1, 0, 0, 0, .null)]), (440, [(.iastore, 1, 0, 0, 0, .null)]), (441, [(.aload_n 0, 1, 0, 0, 0, .null), (.getfield 54, 3, 11, 41, 4, .null), (.iconst 4, 1, 0, 0, 0, (.int (4 : Int32))), (.iload 4, 2, 0, 0, 0, .null), (.imul, 1, 0, 0, 0, .null), (.iconst 2, 1, 0, 0, 0, (.int (2 : Int32))), (.iadd, 1, 0, 0, 0, .null), (.iload 7, 2, 0, 0, 0, .null), (.iconst 4, 1, 0, 0, 0, (.int (4 : Int32)))]), (467, [(.iconst 0, 1, 0, 0, 0, (.int (0 : Int32)))]), (457, [(.aload_n 0, 1, 0, 0, 0, .null), (.iload_n 1, 1, 0, 0, 0, .null), (.iconst 4, 1, 0, 0, 0, (.int (4 : Int32))), (.iadd, 1, 0, 0, 0, .null)]), (468, [(.iastore, 1, 0, 0, 0, .null)]), (469, [(.iload_n 1, 1, 0, 0, 0, .null), (.iconst 2, 1, 0, 0, 0, (.int (2 : Int32))), (.iload 7, 2, 0, 0, 0, .null), (.imul, 1, 0, 0, 0, .null), (.iadd, 1, 0, 0, 0, .null), (.istore_n 1, 1, 0, 0, 0, .null)]), (476, [(.aload_n 0, 1, 0, 0, 0, .null), (.dup, 1, 0, 0, 0, .null), (.getfield 354, 3, 11, 30, 0, .null), (.iconst 1, 1, 0, 0, 0, (.int (1 : Int32))), (.iadd, 1, 0, 0, 0, .null), (.putfield 354, 3, 11, 30, 0, .null)]), (486, [(.iload_n 3, 1, 0, 0, 0, .null), (.bipush 32, 2, 0, 0, 0, (.int (32 : Int32))), (.iand, 1, 0, 0, 0, .null)]), (497, [(.iconst 0, 1, 0, 0, 0, (.int (0 : Int32)))]), (493, [(.iconst 1, 1, 0, 0, 0, (.int (1 : Int32)))]), (498, [(.istore_n 2, 1, 0, 0, 0, .null)]), (502, [(.iload_n 3, 1, 0, 0, 0, .null), (.sipush 256, 3, 0, 0, 0, (.int (256 : Int32))), (.iand, 1, 0, 0, 0, .null)]), (566, [(.iconst 1, 1, 0, 0, 0, (.int (1 : Int32)))]), (510, [(.iload_n 1, 1, 0, 0, 0, .null), (.iconst 2, 1, 0, 0, 0, (.int (2 : Int32))), (.iadd, 1, 0, 0, 0, .null), (.aload_n 0, 1, 0, 0, 0, .null), (.getfield 345, 3, 11, 27, 0, .null)]), (522, [(.aload_n 0, 1, 0, 0, 0, .null), (.aload_n 0, 1, 0, 0, 0, .null), (.iload_n 1, 1, 0, 0, 0, .null)]), (528, [(.putfield 360, 3, 11, 32, 0, .null)]), (531, [(.aload_n 0, 1, 0, 0, 0, .null), (.iload_n 1, 1, 0, 0, 0, .null), (.iconst 2, 1, 0, 0, 0, (.int (2 : Int32))), (.iadd, 1, 0, 0, 0, .null), (.putfield 357, 3, 11, 31, 0, .null)]), (538, [(.aload_n 0, 1, 0, 0, 0, .null), (.getfield 360, 3, 11, 32, 0, .null), (.sipush 400, 3, 0, 0, 0, (.int (400 : Int32)))]), (564, [(.iconst 0, 1, 0, 0, 0, (.int (0 : Int32)))]), (548, [(.aload_n 0, 1, 0, 0, 0, .null), (.getfield 357, 3, 11, 31, 0, .null), (.aload_n 0, 1, 0, 0, 0, .null), (.getfield 360, 3, 11, 32, 0, .null), (.iadd, 1, 0, 0, 0, .null), (.aload_n 0, 1, 0, 0, 0, .null), (.getfield 345, 3, 11, 27, 0, .null)]), (520, [(.iconst 0, 1, 0, 0, 0, (.int (0 : Int32)))])], [(36, .ireturn, 1), (39, .invokevirtual 213, 3), (67, .invokevirtual 213, 3), (81, .goto 4, 3), (77, .ifCond .eq 7, 3), (94, .goto 4, 3), (90, .ifCond .eq 7, 3), (131, .goto 4, 3), (127, .ifCond .eq 7, 3), (119, .goto 16, 3), (115, .ifCond .eq 7, 3), (108, .goto 27, 3), (104, .ifCond .eq 7, 3), (176, .ireturn, 1), (158, .goto 4, 3), (154, .ifCond .eq 7, 3), (224, .invokevirtual 209, 3), (216, .invokevirtual 377, 3), (219, .goto 8, 3), (211, .ifCond .eq 11, 3), (203, .invokevirtual 213, 3), (206, .goto 21, 3), (195, .invokevirtual 305, 3), (198, .goto 29, 3), (190, .ifCond .eq 11, 3), (185, .ifCond .eq 24, 3), (283, .invokevirtual 209, 3), (273, .invokevirtual 377, 3), (276, .goto 10, 3), (266, .ifCond .eq 13, 3), (258, .invokevirtual 213, 3), (261, .goto 25, 3), (248, .invokevirtual 305, 3), (251, .goto 35, 3), (241, .ifCond .eq 13, 3), (236, .ifCond .eq 28, 3), (294, .goto 4, 3), (290, .ifCond .eq 7, 3), (325, .goto (-22), 3), (306, .if_icmp .ge 22, 3), (349, .invokevirtual 305, 3), (344, .goto 8, 3), (338, .ifCond .ne 9, 3), (409, .invokevirtual 305, 3), (398, .invokevirtual 305, 3), (401, .goto 11, 3), (391, .if_icmp .ne 13, 3), (382, .invokevirtual 305, 3), (385, .goto 27, 3), (377, .if_icmp .ne 11, 3), (371, .goto 41, 3), (365, .ifCond .ne 9, 3), (433, .invokevirtual 305, 3), (436, .goto 4, 3), (426, .if_icmp .ne 13, 3), (461, .invokevirtual 305, 3), (464, .goto 4, 3), (454, .if_icmp .ne 13, 3), (494, .goto 4, 3), (490, .ifCond .eq 7, 3), (499, .goto (-487), 3), (172, .if_icmp .le 5, 3), (148, .if_icmp .ge 27, 3), (32, .if_icmp .le 5, 3), (22, .if_icmp .eq 13, 3), (13, .ifCond .eq 489, 3), (567, .ireturn, 1), (525, .invokevirtual 213, 3), (565, .ireturn, 1), (561, .if_icmp .le 5, 3), (545, .if_icmp .gt 19, 3), (521, .ireturn, 1), (517, .if_icmp .le 5, 3), (507, .ifCond .eq 59, 3)])
set_option maxRecDepth 100000 in
theorem m_Mo_composed : hx_mok M_Mo_composed = true := by decide +kernel
theorem pd_Mo_composed : (parseMethodDescriptor M_Mo_composed.2.1.desc).map (fun q => q.parameters.length) = some 0 := by decide +kernel
theorem y_Mo_composed : hx_okV M_Mo_composed := ⟨⟨lw_g (lw_at lw_m11 47 rfl) rfl, lw_g (lw_at lw_m11 46 rfl) rfl, qs194, lw_g (lw_at lw_m1 12 rfl) rfl, rfl, by decide, by decide, by decide⟩, rfl, by decide, plainFor_of_name (by decide)⟩
noncomputable def f_Mo_composed (h : hH) : Option (Int32 × hH) :=
  lz (A := Int32) ((rdI h 192 26) + (10 : Int32)) fun v1 =>
  bE (P := (Int32 × Int32 × hH)) (X := (Int32 × hH)) (
    wh (A := (Int32 × Int32 × Int32 × hH)) (B := ((Int32 × Int32 × hH) ⊕ (Int32 × hH))) (fun p2 =>
        if p2.2.1 = 0 then (
          some (.inr (.inl (p2.1, p2.2.2.1, p2.2.2.2)))
        ) else (
          if (rdI p2.2.2.2 192 30) = (8 : Int32) then (
            some (.inr (.inr ((0 : Int32), p2.2.2.2)))
          ) else (
            if (p2.1 + (4 : Int32)) ≤ (rdI p2.2.2.2 192 27) then (
              bP (f_Mo_u2 p2.1 p2.2.2.2) fun a4 =>
              lz (A := Int32) (rdI p2.2.2.2 192 30) fun v5 =>
              gd (vp_in v5 8) <|
              lz (wrI p2.2.2.2 203 (Int32.toNatClampNeg v5) a4) fun h1 =>
              bP (f_Mo_u2 (p2.1 + (2 : Int32)) h1) fun a7 =>
              gd (vp_in v5 8) <|
              lz (wrI h1 204 (Int32.toNatClampNeg v5) a7) fun h2 =>
              lz (A := Int32) (p2.1 + (4 : Int32)) fun v9 =>
              lz (A := Int32) (if (a4 &&& (1 : Int32)) = 0 then (0 : Int32) else (1 : Int32)) fun p10 =>
              lz (A := Int32) (if (a4 &&& (2 : Int32)) = 0 then (0 : Int32) else (1 : Int32)) fun p12 =>
              lz (A := Int32) (if (a4 &&& (8 : Int32)) = 0 then (if (a4 &&& (64 : Int32)) = 0 then (if (a4 &&& (128 : Int32)) = 0 then (0 : Int32) else (4 : Int32)) else (2 : Int32)) else (1 : Int32)) fun p14 =>
              gd (vp_in v5 8) <|
              if (rdI h2 192 12) ≤ (rdI h2 204 (Int32.toNatClampNeg v5)) then (
                some (.inr (.inr ((0 : Int32), h2)))
              ) else (
                lz (A := Int32) (if p10 = 0 then (2 : Int32) else (4 : Int32)) fun p19 =>
                if ((v9 + p19) + ((2 : Int32) * p14)) ≤ (rdI h2 192 27) then (
                  bP (A := Int32) (
                    if p10 = 0 then (
                      if p12 = 0 then (
                        bP (f_Mo_u1 v9 h2) fun a22 =>
                        some a22
                      ) else (
                        bP (f_Mo_s1 v9 h2) fun a23 =>
                        some a23
                      )
                    ) else (
                      if p12 = 0 then (
                        bP (f_Mo_u2 v9 h2) fun a25 =>
                        some a25
                      ) else (
                        bP (f_Mo_s2 v9 h2) fun a26 =>
                        some a26
                      )
                    )
                  ) fun p21 =>
                  gd (vp_in v5 8) <|
                  lz (wrI h2 205 (Int32.toNatClampNeg v5) p21) fun h3 =>
                  bP (A := Int32) (
                    if p10 = 0 then (
                      if p12 = 0 then (
                        bP (f_Mo_u1 (v9 + (1 : Int32)) h3) fun a31 =>
                        some a31
                      ) else (
                        bP (f_Mo_s1 (v9 + (1 : Int32)) h3) fun a32 =>
                        some a32
                      )
                    ) else (
                      if p12 = 0 then (
                        bP (f_Mo_u2 (v9 + (2 : Int32)) h3) fun a34 =>
                        some a34
                      ) else (
                        bP (f_Mo_s2 (v9 + (2 : Int32)) h3) fun a35 =>
                        some a35
                      )
                    )
                  ) fun p30 =>
                  gd (vp_in v5 8) <|
                  lz (wrI h3 206 (Int32.toNatClampNeg v5) p30) fun h4 =>
                  lz (A := Int32) (if p10 = 0 then (2 : Int32) else (4 : Int32)) fun p39 =>
                  lz (A := Int32) (v9 + p39) fun v41 =>
                  bP (A := hH) (
                    wh (A := (Int32 × hH)) (B := hH) (fun p42 =>
                        if (4 : Int32) ≤ p42.1 then (
                          some (.inr p42.2)
                        ) else (
                          gd (vp_in (((4 : Int32) * v5) + p42.1) 32) <|
                          lz (wrI p42.2 207 (Int32.toNatClampNeg (((4 : Int32) * v5) + p42.1)) (0 : Int32)) fun h5 =>
                          lz (A := Int32) (p42.1 + (1 : Int32)) fun v45 =>
                          some (.inl (v45, h5))
                        )
                    ) ((0 : Int32), h4)
                  ) fun p43 =>
                  bP (A := Int32) (
                    if p14 = 0 then (
                      some (16384 : Int32)
                    ) else (
                      bP (f_Mo_s2 v41 p43) fun a48 =>
                      some a48
                    )
                  ) fun p47 =>
                  gd (vp_in ((4 : Int32) * v5) 32) <|
                  lz (wrI p43 207 (Int32.toNatClampNeg ((4 : Int32) * v5)) p47) fun h6 =>
                  bP (A := Int32) (
                    if p14 = 0 then (
                      some (16384 : Int32)
                    ) else (
                      if p14 = (1 : Int32) then (
                        bP (f_Mo_s2 v41 h6) fun a55 =>
                        some a55
                      ) else (
                        if p14 = (2 : Int32) then (
                          bP (f_Mo_s2 (v41 + (2 : Int32)) h6) fun a53 =>
                          some a53
                        ) else (
                          bP (f_Mo_s2 (v41 + (6 : Int32)) h6) fun a52 =>
                          some a52
                        )
                      )
                    )
                  ) fun p51 =>
                  gd (vp_in (((4 : Int32) * v5) + (3 : Int32)) 32) <|
                  lz (wrI h6 207 (Int32.toNatClampNeg (((4 : Int32) * v5) + (3 : Int32))) p51) fun h7 =>
                  bP (A := Int32) (
                    if p14 = (4 : Int32) then (
                      bP (f_Mo_s2 (v41 + (2 : Int32)) h7) fun a60 =>
                      some a60
                    ) else (
                      some (0 : Int32)
                    )
                  ) fun p59 =>
                  gd (vp_in (((4 : Int32) * v5) + (1 : Int32)) 32) <|
                  lz (wrI h7 207 (Int32.toNatClampNeg (((4 : Int32) * v5) + (1 : Int32))) p59) fun h8 =>
                  bP (A := Int32) (
                    if p14 = (4 : Int32) then (
                      bP (f_Mo_s2 (v41 + (4 : Int32)) h8) fun a64 =>
                      some a64
                    ) else (
                      some (0 : Int32)
                    )
                  ) fun p63 =>
                  gd (vp_in (((4 : Int32) * v5) + (2 : Int32)) 32) <|
                  lz (wrI h8 207 (Int32.toNatClampNeg (((4 : Int32) * v5) + (2 : Int32))) p63) fun h9 =>
                  lz (A := Int32) (v41 + ((2 : Int32) * p14)) fun v67 =>
                  lz (wrI h9 192 30 ((rdI h9 192 30) + (1 : Int32))) fun h10 =>
                  lz (A := Int32) (if (a4 &&& (32 : Int32)) = 0 then (0 : Int32) else (1 : Int32)) fun p68 =>
                  some (.inl (v67, p68, a4, h10))
                ) else (
                  some (.inr (.inr ((0 : Int32), h2)))
                )
              )
            ) else (
              some (.inr (.inr ((0 : Int32), p2.2.2.2)))
            )
          )
        )
    ) (v1, (1 : Int32), (0 : Int32), h)
  ) fun p3 =>
  if (p3.2.1 &&& (256 : Int32)) = 0 then (
    some ((1 : Int32), p3.2.2)
  ) else (
    if (p3.1 + (2 : Int32)) ≤ (rdI p3.2.2 192 27) then (
      bP (f_Mo_u2 p3.1 p3.2.2) fun a75 =>
      lz (wrI p3.2.2 192 32 a75) fun h11 =>
      lz (wrI h11 192 31 (p3.1 + (2 : Int32))) fun h12 =>
      if (400 : Int32) < (rdI h12 192 32) then (
        some ((0 : Int32), h12)
      ) else (
        if ((rdI h12 192 31) + (rdI h12 192 32)) ≤ (rdI h12 192 27) then (
          some ((1 : Int32), h12)
        ) else (
          some ((0 : Int32), h12)
        )
      )
    ) else (
      some ((0 : Int32), p3.2.2)
    )
  )
set_option maxRecDepth 20000 in
theorem k_Mo_composed (h : hH) : hx_kS S0 M_Mo_composed 4 NT [(.ref 192)] h (f_Mo_composed h) cvI := by
  have hm := m_Mo_composed
  show hx_P S0 M_Mo_composed 4 0 [(0, (.ref 192))] [] NT h (f_Mo_composed h) (hx_Rc cvI NT)
  unfold f_Mo_composed
  refine hp_z hm (at1 0 rfl) (fun (v1 : Int32) => [(1, (.int v1)), (0, (.ref 192))]) (fun (v1 : Int32) => []) rfl (by exact og_192) (pc' := 8) rfl (fun v1 => ?_)
  refine hp_b hm (at1 1 rfl) (L' := [(3, (.int (0 : Int32))), (2, (.int (1 : Int32))), (1, (.int v1)), (0, (.ref 192))]) (st' := []) rfl (by exact trivial) (pc' := 12) rfl ?_
  refine hp_E 502 (fun (p3 : (Int32 × Int32 × hH)) => [(0, (.ref 192)), (1, (.int p3.1)), (3, (.int p3.2.1))]) (fun (p3 : (Int32 × Int32 × hH)) => []) (fun (p3 : (Int32 × Int32 × hH)) => p3.2.2) ?_ (fun p3 => ?_)
  · refine hp_s [3, 2, 1, 0] rfl (L' := [(0, (.ref 192)), (1, (.int v1)), (2, (.int (1 : Int32))), (3, (.int (0 : Int32)))]) ?_
    refine hp_wh (fun (p2 : (Int32 × Int32 × Int32 × hH)) => [(0, (.ref 192)), (1, (.int p2.1)), (2, (.int p2.2.1)), (3, (.int p2.2.2.1))]) [] (fun (p2 : (Int32 × Int32 × Int32 × hH)) => p2.2.2.2) (fun p2 => ?_) (v1, (1 : Int32), (0 : Int32), h)
    refine hp_if_eq hm (at1 2 rfl) rfl (by exact trivial) (pc' := 13) rfl 65 rfl (tgt := 502) rfl (fun c74 => ?_) (fun c74 => ?_)
    · exact hp_lf [0, 1, 3] rfl (fun _ e => e)
    · refine hp_ic_eq hm (at1 3 rfl) rfl (by exact og_192) (pc' := 22) rfl 64 rfl (tgt := 35) rfl (fun c73 => ?_) (fun c73 => ?_)
      · exact hp_ir hm (at1 4 rfl) rfl (by exact trivial) (pc' := 36) rfl 0 rfl rfl rfl (fun _ e => e)
      · refine hp_ic_le hm (at1 5 rfl) rfl (by exact og_192) (pc' := 32) rfl 63 rfl (tgt := 37) rfl (fun c72 => ?_) (fun c72 => ?_)
        · refine hp_cVP (M2 := M_Mo_u2) hm (at1 6 rfl) (as := [(.int p2.1)]) (rest := []) (z := 192) rfl (by exact trivial) (pc' := 39) rfl 1 rfl (lw_g (lw_at lw_m9 204 rfl) rfl) y_Mo_u2 rfl (d2 := 2) ⟨le_b rfl, pd_Mo_u2, le_b rfl⟩ (le_b rfl) og_192 (k_Mo_u2 p2.1 p2.2.2.2) (fun a4 => ?_)
          refine hp_z hm (at1 7 rfl) (fun (v5 : Int32) => [(4, (.int v5)), (3, (.int a4)), (0, (.ref 192)), (1, (.int p2.1)), (2, (.int p2.2.1))]) (fun (v5 : Int32) => []) rfl (by exact og_192) (pc' := 49) rfl (fun v5 => ?_)
          refine hp_GW hm (at1 8 rfl) (L' := [(4, (.int v5)), (3, (.int a4)), (0, (.ref 192)), (1, (.int p2.1)), (2, (.int p2.2.1))]) rfl (fun hP => (by exact ⟨og_192, ⟨og_203, hP⟩⟩)) (pc' := 57) rfl (fun q6 h1 => ?_)
          refine hp_cVP (M2 := M_Mo_u2) hm (at1 9 rfl) (as := [(.int (p2.1 + (2 : Int32)))]) (rest := [(.int v5), (.ref 204)]) (z := 192) rfl (by exact og_192) (pc' := 67) rfl 2 rfl (lw_g (lw_at lw_m9 204 rfl) rfl) y_Mo_u2 rfl (d2 := 2) ⟨le_b rfl, pd_Mo_u2, le_b rfl⟩ (le_b rfl) og_192 (k_Mo_u2 (p2.1 + (2 : Int32)) h1) (fun a7 => ?_)
          refine hp_GW hm (at1 10 rfl) (L' := [(4, (.int v5)), (3, (.int a4)), (0, (.ref 192)), (1, (.int p2.1)), (2, (.int p2.2.1))]) rfl (fun hP => (by exact ⟨og_204, hP⟩)) (pc' := 71) rfl (fun q8 h2 => ?_)
          refine hp_z hm (at1 11 rfl) (fun (v9 : Int32) => [(1, (.int v9)), (4, (.int v5)), (3, (.int a4)), (0, (.ref 192)), (2, (.int p2.2.1))]) (fun (v9 : Int32) => []) rfl (by exact trivial) (pc' := 74) rfl (fun v9 => ?_)
          refine hp_JZ 85 (fun (p10 : Int32) => [(0, (.ref 192)), (1, (.int v9)), (3, (.int a4)), (4, (.int v5))]) (fun (p10 : Int32) => [(.int p10)]) (fun (p10 : Int32) => h2) ?_ (fun p10 => ?_)
          · refine hp_sv0 ?_
            refine hp_if_eq hm (at1 12 rfl) rfl (by exact trivial) (pc' := 77) rfl 4 rfl (tgt := 84) rfl (fun c11 => ?_) (fun c11 => ?_)
            · refine hp_b hm (at1 13 rfl) (L' := [(1, (.int v9)), (4, (.int v5)), (3, (.int a4)), (0, (.ref 192)), (2, (.int p2.2.1))]) (st' := [(.int (0 : Int32))]) rfl (by exact trivial) (pc' := 85) rfl ?_
              exact hp_lf [3, 0, 2, 1] rfl (fun _ e => e)
            · refine hp_b hm (at1 14 rfl) (L' := [(1, (.int v9)), (4, (.int v5)), (3, (.int a4)), (0, (.ref 192)), (2, (.int p2.2.1))]) (st' := [(.int (1 : Int32))]) rfl (by exact trivial) (pc' := 81) rfl ?_
              refine hp_goto hm 3 rfl (tgt := 85) rfl ?_
              exact hp_lf [3, 0, 2, 1] rfl (fun _ e => e)
          · refine hp_b hm (at1 15 rfl) (L' := [(5, (.int p10)), (0, (.ref 192)), (1, (.int v9)), (3, (.int a4)), (4, (.int v5))]) (st' := [(.int (a4 &&& (2 : Int32)))]) rfl (by exact trivial) (pc' := 90) rfl ?_
            refine hp_JZ 98 (fun (p12 : Int32) => [(0, (.ref 192)), (1, (.int v9)), (3, (.int a4)), (4, (.int v5)), (5, (.int p10))]) (fun (p12 : Int32) => [(.int p12)]) (fun (p12 : Int32) => h2) ?_ (fun p12 => ?_)
            · refine hp_sv0 ?_
              refine hp_if_eq hm at0 rfl (by exact trivial) (pc' := 90) rfl 6 rfl (tgt := 97) rfl (fun c13 => ?_) (fun c13 => ?_)
              · refine hp_b hm (at1 16 rfl) (L' := [(5, (.int p10)), (0, (.ref 192)), (1, (.int v9)), (3, (.int a4)), (4, (.int v5))]) (st' := [(.int (0 : Int32))]) rfl (by exact trivial) (pc' := 98) rfl ?_
                exact hp_lf [1, 2, 3, 4, 0] rfl (fun _ e => e)
              · refine hp_b hm (at1 17 rfl) (L' := [(5, (.int p10)), (0, (.ref 192)), (1, (.int v9)), (3, (.int a4)), (4, (.int v5))]) (st' := [(.int (1 : Int32))]) rfl (by exact trivial) (pc' := 94) rfl ?_
                refine hp_goto hm 5 rfl (tgt := 98) rfl ?_
                exact hp_lf [1, 2, 3, 4, 0] rfl (fun _ e => e)
            · refine hp_b hm (at1 18 rfl) (L' := [(6, (.int p12)), (0, (.ref 192)), (1, (.int v9)), (3, (.int a4)), (4, (.int v5)), (5, (.int p10))]) (st' := [(.int (a4 &&& (8 : Int32)))]) rfl (by exact trivial) (pc' := 104) rfl ?_
              refine hp_JZ 135 (fun (p14 : Int32) => [(0, (.ref 192)), (1, (.int v9)), (3, (.int a4)), (4, (.int v5)), (5, (.int p10)), (6, (.int p12))]) (fun (p14 : Int32) => [(.int p14)]) (fun (p14 : Int32) => h2) ?_ (fun p14 => ?_)
              · refine hp_sv0 ?_
                refine hp_if_eq hm at0 rfl (by exact trivial) (pc' := 104) rfl 12 rfl (tgt := 111) rfl (fun c17 => ?_) (fun c17 => ?_)
                · refine hp_sv0 ?_
                  refine hp_if_eq hm (at1 19 rfl) rfl (by exact trivial) (pc' := 115) rfl 10 rfl (tgt := 122) rfl (fun c16 => ?_) (fun c16 => ?_)
                  · refine hp_sv0 ?_
                    refine hp_if_eq hm (at1 20 rfl) rfl (by exact trivial) (pc' := 127) rfl 8 rfl (tgt := 134) rfl (fun c15 => ?_) (fun c15 => ?_)
                    · refine hp_b hm (at1 21 rfl) (L' := [(6, (.int p12)), (0, (.ref 192)), (1, (.int v9)), (3, (.int a4)), (4, (.int v5)), (5, (.int p10))]) (st' := [(.int (0 : Int32))]) rfl (by exact trivial) (pc' := 135) rfl ?_
                      exact hp_lf [1, 2, 3, 4, 5, 0] rfl (fun _ e => e)
                    · refine hp_b hm (at1 22 rfl) (L' := [(6, (.int p12)), (0, (.ref 192)), (1, (.int v9)), (3, (.int a4)), (4, (.int v5)), (5, (.int p10))]) (st' := [(.int (4 : Int32))]) rfl (by exact trivial) (pc' := 131) rfl ?_
                      refine hp_goto hm 7 rfl (tgt := 135) rfl ?_
                      exact hp_lf [1, 2, 3, 4, 5, 0] rfl (fun _ e => e)
                  · refine hp_b hm (at1 23 rfl) (L' := [(6, (.int p12)), (0, (.ref 192)), (1, (.int v9)), (3, (.int a4)), (4, (.int v5)), (5, (.int p10))]) (st' := [(.int (2 : Int32))]) rfl (by exact trivial) (pc' := 119) rfl ?_
                    refine hp_goto hm 9 rfl (tgt := 135) rfl ?_
                    exact hp_lf [1, 2, 3, 4, 5, 0] rfl (fun _ e => e)
                · refine hp_b hm (at1 24 rfl) (L' := [(6, (.int p12)), (0, (.ref 192)), (1, (.int v9)), (3, (.int a4)), (4, (.int v5)), (5, (.int p10))]) (st' := [(.int (1 : Int32))]) rfl (by exact trivial) (pc' := 108) rfl ?_
                  refine hp_goto hm 11 rfl (tgt := 135) rfl ?_
                  exact hp_lf [1, 2, 3, 4, 5, 0] rfl (fun _ e => e)
              · refine hp_G hm (at1 25 rfl) (L' := [(7, (.int p14)), (0, (.ref 192)), (1, (.int v9)), (3, (.int a4)), (4, (.int v5)), (5, (.int p10)), (6, (.int p12))]) (st' := [(.int (rdI h2 192 12)), (.int (rdI h2 204 (Int32.toNatClampNeg v5)))]) rfl (fun hP => (by exact ⟨⟨og_192, ⟨og_204, hP⟩⟩, og_192⟩)) (pc' := 148) rfl (fun q18 => ?_)
                refine hp_ic_ge hm at0 rfl (by exact trivial) (pc' := 148) rfl 62 rfl (tgt := 175) rfl (fun c71 => ?_) (fun c71 => ?_)
                · exact hp_ir hm (at1 26 rfl) rfl (by exact trivial) (pc' := 176) rfl 13 rfl rfl rfl (fun _ e => e)
                · refine hp_JZ 162 (fun (p19 : Int32) => [(0, (.ref 192)), (1, (.int v9)), (3, (.int a4)), (4, (.int v5)), (5, (.int p10)), (6, (.int p12)), (7, (.int p14))]) (fun (p19 : Int32) => [(.int p19), (.int v9)]) (fun (p19 : Int32) => h2) ?_ (fun p19 => ?_)
                  · refine hp_sv0 ?_
                    refine hp_if_eq hm (at1 27 rfl) rfl (by exact trivial) (pc' := 154) rfl 15 rfl (tgt := 161) rfl (fun c20 => ?_) (fun c20 => ?_)
                    · refine hp_b hm (at1 28 rfl) (L' := [(7, (.int p14)), (0, (.ref 192)), (1, (.int v9)), (3, (.int a4)), (4, (.int v5)), (5, (.int p10)), (6, (.int p12))]) (st' := [(.int (2 : Int32)), (.int v9)]) rfl (by exact trivial) (pc' := 162) rfl ?_
                      exact hp_lf [1, 2, 3, 4, 5, 6, 0] rfl (fun _ e => e)
                    · refine hp_b hm (at1 29 rfl) (L' := [(7, (.int p14)), (0, (.ref 192)), (1, (.int v9)), (3, (.int a4)), (4, (.int v5)), (5, (.int p10)), (6, (.int p12))]) (st' := [(.int (4 : Int32)), (.int v9)]) rfl (by exact trivial) (pc' := 158) rfl ?_
                      refine hp_goto hm 14 rfl (tgt := 162) rfl ?_
                      exact hp_lf [1, 2, 3, 4, 5, 6, 0] rfl (fun _ e => e)
                  · refine hp_ic_le hm (at1 30 rfl) rfl (by exact og_192) (pc' := 172) rfl 61 rfl (tgt := 177) rfl (fun c70 => ?_) (fun c70 => ?_)
                    · refine hp_J 227 (fun (p21 : Int32) => [(0, (.ref 192)), (1, (.int v9)), (3, (.int a4)), (4, (.int v5)), (5, (.int p10)), (6, (.int p12)), (7, (.int p14))]) (fun (p21 : Int32) => [(.int p21), (.int v5), (.ref 205)]) (fun (p21 : Int32) => h2) ?_ (fun p21 => ?_)
                      · refine hp_if_eq hm (at1 31 rfl) rfl (by exact og_192) (pc' := 185) rfl 25 rfl (tgt := 209) rfl (fun c28 => ?_) (fun c28 => ?_)
                        · refine hp_if_eq hm (at1 32 rfl) rfl (by exact trivial) (pc' := 211) rfl 19 rfl (tgt := 222) rfl (fun c24 => ?_) (fun c24 => ?_)
                          · refine hp_cVP (M2 := M_Mo_u1) hm (at1 33 rfl) (as := [(.int v9)]) (rest := [(.int v5), (.ref 205)]) (z := 192) rfl (by exact trivial) (pc' := 224) rfl 16 rfl (lw_g (lw_at lw_m9 208 rfl) rfl) y_Mo_u1 rfl (d2 := 1) ⟨le_b rfl, pd_Mo_u1, le_b rfl⟩ (le_b rfl) og_192 (k_Mo_u1 v9 h2) (fun a22 => ?_)
                            exact hp_lf [0, 1, 2, 3, 4, 5, 6] rfl (fun _ e => e)
                          · refine hp_cVP (M2 := M_Mo_s1) hm (at1 34 rfl) (as := [(.int v9)]) (rest := [(.int v5), (.ref 205)]) (z := 192) rfl (by exact trivial) (pc' := 216) rfl 17 rfl (lw_g (lw_at lw_m11 48 rfl) rfl) y_Mo_s1 rfl (d2 := 2) ⟨le_b rfl, pd_Mo_s1, le_b rfl⟩ (le_b rfl) og_192 (k_Mo_s1 v9 h2) (fun a23 => ?_)
                            refine hp_goto hm 18 rfl (tgt := 227) rfl ?_
                            exact hp_lf [0, 1, 2, 3, 4, 5, 6] rfl (fun _ e => e)
                        · refine hp_if_eq hm (at1 35 rfl) rfl (by exact trivial) (pc' := 190) rfl 24 rfl (tgt := 201) rfl (fun c27 => ?_) (fun c27 => ?_)
                          · refine hp_cVP (M2 := M_Mo_u2) hm (at1 36 rfl) (as := [(.int v9)]) (rest := [(.int v5), (.ref 205)]) (z := 192) rfl (by exact trivial) (pc' := 203) rfl 20 rfl (lw_g (lw_at lw_m9 204 rfl) rfl) y_Mo_u2 rfl (d2 := 2) ⟨le_b rfl, pd_Mo_u2, le_b rfl⟩ (le_b rfl) og_192 (k_Mo_u2 v9 h2) (fun a25 => ?_)
                            refine hp_goto hm 21 rfl (tgt := 227) rfl ?_
                            exact hp_lf [0, 1, 2, 3, 4, 5, 6] rfl (fun _ e => e)
                          · refine hp_cVP (M2 := M_Mo_s2) hm (at1 37 rfl) (as := [(.int v9)]) (rest := [(.int v5), (.ref 205)]) (z := 192) rfl (by exact trivial) (pc' := 195) rfl 22 rfl (lw_g (lw_at lw_m9 200 rfl) rfl) y_Mo_s2 rfl (d2 := 3) ⟨le_b rfl, pd_Mo_s2, le_b rfl⟩ (le_b rfl) og_192 (k_Mo_s2 v9 h2) (fun a26 => ?_)
                            refine hp_goto hm 23 rfl (tgt := 227) rfl ?_
                            exact hp_lf [0, 1, 2, 3, 4, 5, 6] rfl (fun _ e => e)
                      · refine hp_GW hm (at1 38 rfl) (L' := [(0, (.ref 192)), (1, (.int v9)), (3, (.int a4)), (4, (.int v5)), (5, (.int p10)), (6, (.int p12)), (7, (.int p14))]) rfl (fun hP => (by exact ⟨og_205, hP⟩)) (pc' := 228) rfl (fun q29 h3 => ?_)
                        refine hp_J 286 (fun (p30 : Int32) => [(0, (.ref 192)), (1, (.int v9)), (3, (.int a4)), (4, (.int v5)), (5, (.int p10)), (7, (.int p14))]) (fun (p30 : Int32) => [(.int p30), (.int v5), (.ref 206)]) (fun (p30 : Int32) => h3) ?_ (fun p30 => ?_)
                        · refine hp_if_eq hm (at1 39 rfl) rfl (by exact og_192) (pc' := 236) rfl 35 rfl (tgt := 264) rfl (fun c37 => ?_) (fun c37 => ?_)
                          · refine hp_if_eq hm (at1 40 rfl) rfl (by exact trivial) (pc' := 266) rfl 29 rfl (tgt := 279) rfl (fun c33 => ?_) (fun c33 => ?_)
                            · refine hp_cVP (M2 := M_Mo_u1) hm (at1 41 rfl) (as := [(.int (v9 + (1 : Int32)))]) (rest := [(.int v5), (.ref 206)]) (z := 192) rfl (by exact trivial) (pc' := 283) rfl 26 rfl (lw_g (lw_at lw_m9 208 rfl) rfl) y_Mo_u1 rfl (d2 := 1) ⟨le_b rfl, pd_Mo_u1, le_b rfl⟩ (le_b rfl) og_192 (k_Mo_u1 (v9 + (1 : Int32)) h3) (fun a31 => ?_)
                              exact hp_lf [0, 1, 2, 3, 4, 6] rfl (fun _ e => e)
                            · refine hp_cVP (M2 := M_Mo_s1) hm (at1 42 rfl) (as := [(.int (v9 + (1 : Int32)))]) (rest := [(.int v5), (.ref 206)]) (z := 192) rfl (by exact trivial) (pc' := 273) rfl 27 rfl (lw_g (lw_at lw_m11 48 rfl) rfl) y_Mo_s1 rfl (d2 := 2) ⟨le_b rfl, pd_Mo_s1, le_b rfl⟩ (le_b rfl) og_192 (k_Mo_s1 (v9 + (1 : Int32)) h3) (fun a32 => ?_)
                              refine hp_goto hm 28 rfl (tgt := 286) rfl ?_
                              exact hp_lf [0, 1, 2, 3, 4, 6] rfl (fun _ e => e)
                          · refine hp_if_eq hm (at1 43 rfl) rfl (by exact trivial) (pc' := 241) rfl 34 rfl (tgt := 254) rfl (fun c36 => ?_) (fun c36 => ?_)
                            · refine hp_cVP (M2 := M_Mo_u2) hm (at1 44 rfl) (as := [(.int (v9 + (2 : Int32)))]) (rest := [(.int v5), (.ref 206)]) (z := 192) rfl (by exact trivial) (pc' := 258) rfl 30 rfl (lw_g (lw_at lw_m9 204 rfl) rfl) y_Mo_u2 rfl (d2 := 2) ⟨le_b rfl, pd_Mo_u2, le_b rfl⟩ (le_b rfl) og_192 (k_Mo_u2 (v9 + (2 : Int32)) h3) (fun a34 => ?_)
                              refine hp_goto hm 31 rfl (tgt := 286) rfl ?_
                              exact hp_lf [0, 1, 2, 3, 4, 6] rfl (fun _ e => e)
                            · refine hp_cVP (M2 := M_Mo_s2) hm (at1 45 rfl) (as := [(.int (v9 + (2 : Int32)))]) (rest := [(.int v5), (.ref 206)]) (z := 192) rfl (by exact trivial) (pc' := 248) rfl 32 rfl (lw_g (lw_at lw_m9 200 rfl) rfl) y_Mo_s2 rfl (d2 := 3) ⟨le_b rfl, pd_Mo_s2, le_b rfl⟩ (le_b rfl) og_192 (k_Mo_s2 (v9 + (2 : Int32)) h3) (fun a35 => ?_)
                              refine hp_goto hm 33 rfl (tgt := 286) rfl ?_
                              exact hp_lf [0, 1, 2, 3, 4, 6] rfl (fun _ e => e)
                        · refine hp_GW hm (at1 46 rfl) (L' := [(0, (.ref 192)), (1, (.int v9)), (3, (.int a4)), (4, (.int v5)), (5, (.int p10)), (7, (.int p14))]) rfl (fun hP => (by exact ⟨og_206, hP⟩)) (pc' := 287) rfl (fun q38 h4 => ?_)
                          refine hp_JZ 298 (fun (p39 : Int32) => [(0, (.ref 192)), (3, (.int a4)), (4, (.int v5)), (7, (.int p14))]) (fun (p39 : Int32) => [(.int p39), (.int v9)]) (fun (p39 : Int32) => h4) ?_ (fun p39 => ?_)
                          · refine hp_sv0 ?_
                            refine hp_if_eq hm (at1 47 rfl) rfl (by exact trivial) (pc' := 290) rfl 37 rfl (tgt := 297) rfl (fun c40 => ?_) (fun c40 => ?_)
                            · refine hp_b hm (at1 48 rfl) (L' := [(0, (.ref 192)), (1, (.int v9)), (3, (.int a4)), (4, (.int v5)), (5, (.int p10)), (7, (.int p14))]) (st' := [(.int (2 : Int32)), (.int v9)]) rfl (by exact trivial) (pc' := 298) rfl ?_
                              exact hp_lf [0, 2, 3, 5] rfl (fun _ e => e)
                            · refine hp_b hm (at1 49 rfl) (L' := [(0, (.ref 192)), (1, (.int v9)), (3, (.int a4)), (4, (.int v5)), (5, (.int p10)), (7, (.int p14))]) (st' := [(.int (4 : Int32)), (.int v9)]) rfl (by exact trivial) (pc' := 294) rfl ?_
                              refine hp_goto hm 36 rfl (tgt := 298) rfl ?_
                              exact hp_lf [0, 2, 3, 5] rfl (fun _ e => e)
                          · refine hp_z hm (at1 50 rfl) (fun (v41 : Int32) => [(1, (.int v41)), (0, (.ref 192)), (3, (.int a4)), (4, (.int v5)), (7, (.int p14))]) (fun (v41 : Int32) => []) rfl (by exact trivial) (pc' := 300) rfl (fun v41 => ?_)
                            refine hp_b hm (at1 51 rfl) (L' := [(8, (.int (0 : Int32))), (1, (.int v41)), (0, (.ref 192)), (3, (.int a4)), (4, (.int v5)), (7, (.int p14))]) (st' := []) rfl (by exact trivial) (pc' := 303) rfl ?_
                            refine hp_J 328 (fun (p43 : hH) => [(0, (.ref 192)), (1, (.int v41)), (3, (.int a4)), (4, (.int v5)), (7, (.int p14))]) (fun (p43 : hH) => []) (fun (p43 : hH) => p43) ?_ (fun p43 => ?_)
                            · refine hp_s [2, 1, 3, 4, 5, 0] rfl (L' := [(0, (.ref 192)), (1, (.int v41)), (3, (.int a4)), (4, (.int v5)), (7, (.int p14)), (8, (.int (0 : Int32)))]) ?_
                              refine hp_wh (fun (p42 : (Int32 × hH)) => [(0, (.ref 192)), (1, (.int v41)), (3, (.int a4)), (4, (.int v5)), (7, (.int p14)), (8, (.int p42.1))]) [] (fun (p42 : (Int32 × hH)) => p42.2) (fun p42 => ?_) ((0 : Int32), h4)
                              refine hp_ic_ge hm (at1 52 rfl) rfl (by exact trivial) (pc' := 306) rfl 39 rfl (tgt := 328) rfl (fun c46 => ?_) (fun c46 => ?_)
                              · exact hp_lf [0, 1, 2, 3, 4] rfl (fun _ e => e)
                              · refine hp_GW hm (at1 53 rfl) (L' := [(0, (.ref 192)), (1, (.int v41)), (3, (.int a4)), (4, (.int v5)), (7, (.int p14)), (8, (.int p42.1))]) rfl (fun hP => (by exact ⟨og_192, ⟨og_207, hP⟩⟩)) (pc' := 322) rfl (fun q44 h5 => ?_)
                                refine hp_z hm (at1 54 rfl) (fun (v45 : Int32) => [(8, (.int v45)), (0, (.ref 192)), (1, (.int v41)), (3, (.int a4)), (4, (.int v5)), (7, (.int p14))]) (fun (v45 : Int32) => []) rfl (by exact trivial) (pc' := 325) rfl (fun v45 => ?_)
                                refine hp_goto hm 38 rfl (tgt := 303) rfl ?_
                                exact hp_lf [1, 2, 3, 4, 5, 0] rfl (fun _ e => e)
                            · refine hp_J 352 (fun (p47 : Int32) => [(0, (.ref 192)), (1, (.int v41)), (3, (.int a4)), (4, (.int v5)), (7, (.int p14))]) (fun (p47 : Int32) => [(.int p47), (.int ((4 : Int32) * v5)), (.ref 207)]) (fun (p47 : Int32) => p43) ?_ (fun p47 => ?_)
                              · refine hp_if_ne hm (at1 55 rfl) rfl (by exact og_192) (pc' := 338) rfl 42 rfl (tgt := 347) rfl (fun c49 => ?_) (fun c49 => ?_)
                                · refine hp_cVP (M2 := M_Mo_s2) hm (at1 56 rfl) (as := [(.int v41)]) (rest := [(.int ((4 : Int32) * v5)), (.ref 207)]) (z := 192) rfl (by exact trivial) (pc' := 349) rfl 40 rfl (lw_g (lw_at lw_m9 200 rfl) rfl) y_Mo_s2 rfl (d2 := 3) ⟨le_b rfl, pd_Mo_s2, le_b rfl⟩ (le_b rfl) og_192 (k_Mo_s2 v41 p43) (fun a48 => ?_)
                                  exact hp_lf [0, 1, 2, 3, 4] rfl (fun _ e => e)
                                · refine hp_b hm (at1 57 rfl) (L' := [(0, (.ref 192)), (1, (.int v41)), (3, (.int a4)), (4, (.int v5)), (7, (.int p14))]) (st' := [(.int (16384 : Int32)), (.int ((4 : Int32) * v5)), (.ref 207)]) rfl (by exact trivial) (pc' := 344) rfl ?_
                                  refine hp_goto hm 41 rfl (tgt := 352) rfl ?_
                                  exact hp_lf [0, 1, 2, 3, 4] rfl (fun _ e => e)
                              · refine hp_GW hm (at1 58 rfl) (L' := [(0, (.ref 192)), (1, (.int v41)), (3, (.int a4)), (4, (.int v5)), (7, (.int p14))]) rfl (fun hP => (by exact ⟨og_207, hP⟩)) (pc' := 353) rfl (fun q50 h6 => ?_)
                                refine hp_J 412 (fun (p51 : Int32) => [(0, (.ref 192)), (1, (.int v41)), (3, (.int a4)), (4, (.int v5)), (7, (.int p14))]) (fun (p51 : Int32) => [(.int p51), (.int (((4 : Int32) * v5) + (3 : Int32))), (.ref 207)]) (fun (p51 : Int32) => h6) ?_ (fun p51 => ?_)
                                · refine hp_if_ne hm (at1 59 rfl) rfl (by exact og_192) (pc' := 365) rfl 51 rfl (tgt := 374) rfl (fun c57 => ?_) (fun c57 => ?_)
                                  · refine hp_ic_ne hm (at1 60 rfl) rfl (by exact trivial) (pc' := 377) rfl 49 rfl (tgt := 388) rfl (fun c56 => ?_) (fun c56 => ?_)
                                    · refine hp_ic_ne hm (at1 61 rfl) rfl (by exact trivial) (pc' := 391) rfl 46 rfl (tgt := 404) rfl (fun c54 => ?_) (fun c54 => ?_)
                                      · refine hp_cVP (M2 := M_Mo_s2) hm (at1 62 rfl) (as := [(.int (v41 + (6 : Int32)))]) (rest := [(.int (((4 : Int32) * v5) + (3 : Int32))), (.ref 207)]) (z := 192) rfl (by exact trivial) (pc' := 409) rfl 43 rfl (lw_g (lw_at lw_m9 200 rfl) rfl) y_Mo_s2 rfl (d2 := 3) ⟨le_b rfl, pd_Mo_s2, le_b rfl⟩ (le_b rfl) og_192 (k_Mo_s2 (v41 + (6 : Int32)) h6) (fun a52 => ?_)
                                        exact hp_lf [0, 1, 2, 3, 4] rfl (fun _ e => e)
                                      · refine hp_cVP (M2 := M_Mo_s2) hm (at1 63 rfl) (as := [(.int (v41 + (2 : Int32)))]) (rest := [(.int (((4 : Int32) * v5) + (3 : Int32))), (.ref 207)]) (z := 192) rfl (by exact trivial) (pc' := 398) rfl 44 rfl (lw_g (lw_at lw_m9 200 rfl) rfl) y_Mo_s2 rfl (d2 := 3) ⟨le_b rfl, pd_Mo_s2, le_b rfl⟩ (le_b rfl) og_192 (k_Mo_s2 (v41 + (2 : Int32)) h6) (fun a53 => ?_)
                                        refine hp_goto hm 45 rfl (tgt := 412) rfl ?_
                                        exact hp_lf [0, 1, 2, 3, 4] rfl (fun _ e => e)
                                    · refine hp_cVP (M2 := M_Mo_s2) hm (at1 64 rfl) (as := [(.int v41)]) (rest := [(.int (((4 : Int32) * v5) + (3 : Int32))), (.ref 207)]) (z := 192) rfl (by exact trivial) (pc' := 382) rfl 47 rfl (lw_g (lw_at lw_m9 200 rfl) rfl) y_Mo_s2 rfl (d2 := 3) ⟨le_b rfl, pd_Mo_s2, le_b rfl⟩ (le_b rfl) og_192 (k_Mo_s2 v41 h6) (fun a55 => ?_)
                                      refine hp_goto hm 48 rfl (tgt := 412) rfl ?_
                                      exact hp_lf [0, 1, 2, 3, 4] rfl (fun _ e => e)
                                  · refine hp_b hm (at1 65 rfl) (L' := [(0, (.ref 192)), (1, (.int v41)), (3, (.int a4)), (4, (.int v5)), (7, (.int p14))]) (st' := [(.int (16384 : Int32)), (.int (((4 : Int32) * v5) + (3 : Int32))), (.ref 207)]) rfl (by exact trivial) (pc' := 371) rfl ?_
                                    refine hp_goto hm 50 rfl (tgt := 412) rfl ?_
                                    exact hp_lf [0, 1, 2, 3, 4] rfl (fun _ e => e)
                                · refine hp_GW hm (at1 66 rfl) (L' := [(0, (.ref 192)), (1, (.int v41)), (3, (.int a4)), (4, (.int v5)), (7, (.int p14))]) rfl (fun hP => (by exact ⟨og_207, hP⟩)) (pc' := 413) rfl (fun q58 h7 => ?_)
                                  refine hp_J 440 (fun (p59 : Int32) => [(0, (.ref 192)), (1, (.int v41)), (3, (.int a4)), (4, (.int v5)), (7, (.int p14))]) (fun (p59 : Int32) => [(.int p59), (.int (((4 : Int32) * v5) + (1 : Int32))), (.ref 207)]) (fun (p59 : Int32) => h7) ?_ (fun p59 => ?_)
                                  · refine hp_ic_ne hm (at1 67 rfl) rfl (by exact og_192) (pc' := 426) rfl 54 rfl (tgt := 439) rfl (fun c61 => ?_) (fun c61 => ?_)
                                    · refine hp_b hm (at1 68 rfl) (L' := [(0, (.ref 192)), (1, (.int v41)), (3, (.int a4)), (4, (.int v5)), (7, (.int p14))]) (st' := [(.int (0 : Int32)), (.int (((4 : Int32) * v5) + (1 : Int32))), (.ref 207)]) rfl (by exact trivial) (pc' := 440) rfl ?_
                                      exact hp_lf [0, 1, 2, 3, 4] rfl (fun _ e => e)
                                    · refine hp_cVP (M2 := M_Mo_s2) hm (at1 69 rfl) (as := [(.int (v41 + (2 : Int32)))]) (rest := [(.int (((4 : Int32) * v5) + (1 : Int32))), (.ref 207)]) (z := 192) rfl (by exact trivial) (pc' := 433) rfl 52 rfl (lw_g (lw_at lw_m9 200 rfl) rfl) y_Mo_s2 rfl (d2 := 3) ⟨le_b rfl, pd_Mo_s2, le_b rfl⟩ (le_b rfl) og_192 (k_Mo_s2 (v41 + (2 : Int32)) h7) (fun a60 => ?_)
                                      refine hp_goto hm 53 rfl (tgt := 440) rfl ?_
                                      exact hp_lf [0, 1, 2, 3, 4] rfl (fun _ e => e)
                                  · refine hp_GW hm (at1 70 rfl) (L' := [(0, (.ref 192)), (1, (.int v41)), (3, (.int a4)), (4, (.int v5)), (7, (.int p14))]) rfl (fun hP => (by exact ⟨og_207, hP⟩)) (pc' := 441) rfl (fun q62 h8 => ?_)
                                    refine hp_J 468 (fun (p63 : Int32) => [(0, (.ref 192)), (1, (.int v41)), (3, (.int a4)), (7, (.int p14))]) (fun (p63 : Int32) => [(.int p63), (.int (((4 : Int32) * v5) + (2 : Int32))), (.ref 207)]) (fun (p63 : Int32) => h8) ?_ (fun p63 => ?_)
                                    · refine hp_ic_ne hm (at1 71 rfl) rfl (by exact og_192) (pc' := 454) rfl 57 rfl (tgt := 467) rfl (fun c65 => ?_) (fun c65 => ?_)
                                      · refine hp_b hm (at1 72 rfl) (L' := [(0, (.ref 192)), (1, (.int v41)), (3, (.int a4)), (4, (.int v5)), (7, (.int p14))]) (st' := [(.int (0 : Int32)), (.int (((4 : Int32) * v5) + (2 : Int32))), (.ref 207)]) rfl (by exact trivial) (pc' := 468) rfl ?_
                                        exact hp_lf [0, 1, 2, 4] rfl (fun _ e => e)
                                      · refine hp_cVP (M2 := M_Mo_s2) hm (at1 73 rfl) (as := [(.int (v41 + (4 : Int32)))]) (rest := [(.int (((4 : Int32) * v5) + (2 : Int32))), (.ref 207)]) (z := 192) rfl (by exact trivial) (pc' := 461) rfl 55 rfl (lw_g (lw_at lw_m9 200 rfl) rfl) y_Mo_s2 rfl (d2 := 3) ⟨le_b rfl, pd_Mo_s2, le_b rfl⟩ (le_b rfl) og_192 (k_Mo_s2 (v41 + (4 : Int32)) h8) (fun a64 => ?_)
                                        refine hp_goto hm 56 rfl (tgt := 468) rfl ?_
                                        exact hp_lf [0, 1, 2, 4] rfl (fun _ e => e)
                                    · refine hp_GW hm (at1 74 rfl) (L' := [(0, (.ref 192)), (1, (.int v41)), (3, (.int a4)), (7, (.int p14))]) rfl (fun hP => (by exact ⟨og_207, hP⟩)) (pc' := 469) rfl (fun q66 h9 => ?_)
                                      refine hp_z hm (at1 75 rfl) (fun (v67 : Int32) => [(1, (.int v67)), (0, (.ref 192)), (3, (.int a4)), (7, (.int p14))]) (fun (v67 : Int32) => []) rfl (by exact trivial) (pc' := 476) rfl (fun v67 => ?_)
                                      refine hp_w hm (at1 76 rfl) (L' := [(1, (.int v67)), (0, (.ref 192)), (3, (.int a4)), (7, (.int p14))]) rfl (by exact ⟨og_192, og_192⟩) (pc' := 486) rfl (fun h10 => ?_)
                                      refine hp_JZ 498 (fun (p68 : Int32) => [(0, (.ref 192)), (1, (.int v67)), (3, (.int a4))]) (fun (p68 : Int32) => [(.int p68)]) (fun (p68 : Int32) => h10) ?_ (fun p68 => ?_)
                                      · refine hp_sv0 ?_
                                        refine hp_if_eq hm (at1 77 rfl) rfl (by exact trivial) (pc' := 490) rfl 59 rfl (tgt := 497) rfl (fun c69 => ?_) (fun c69 => ?_)
                                        · refine hp_b hm (at1 78 rfl) (L' := [(1, (.int v67)), (0, (.ref 192)), (3, (.int a4)), (7, (.int p14))]) (st' := [(.int (0 : Int32))]) rfl (by exact trivial) (pc' := 498) rfl ?_
                                          exact hp_lf [1, 0, 2] rfl (fun _ e => e)
                                        · refine hp_b hm (at1 79 rfl) (L' := [(1, (.int v67)), (0, (.ref 192)), (3, (.int a4)), (7, (.int p14))]) (st' := [(.int (1 : Int32))]) rfl (by exact trivial) (pc' := 494) rfl ?_
                                          refine hp_goto hm 58 rfl (tgt := 498) rfl ?_
                                          exact hp_lf [1, 0, 2] rfl (fun _ e => e)
                                      · refine hp_b hm (at1 80 rfl) (L' := [(2, (.int p68)), (0, (.ref 192)), (1, (.int v67)), (3, (.int a4))]) (st' := []) rfl (by exact trivial) (pc' := 499) rfl ?_
                                        refine hp_goto hm 60 rfl (tgt := 12) rfl ?_
                                        exact hp_lf [1, 2, 0, 3] rfl (fun _ e => e)
                    · exact hp_ir hm (at1 26 rfl) rfl (by exact trivial) (pc' := 176) rfl 13 rfl rfl rfl (fun _ e => e)
        · exact hp_ir hm (at1 4 rfl) rfl (by exact trivial) (pc' := 36) rfl 0 rfl rfl rfl (fun _ e => e)
  · refine hp_if_eq hm (at1 81 rfl) rfl (by exact trivial) (pc' := 507) rfl 73 rfl (tgt := 566) rfl (fun c79 => ?_) (fun c79 => ?_)
    · exact hp_ir hm (at1 82 rfl) rfl (by exact trivial) (pc' := 567) rfl 66 rfl rfl rfl (fun _ e => e)
    · refine hp_ic_le hm (at1 83 rfl) rfl (by exact og_192) (pc' := 517) rfl 72 rfl (tgt := 522) rfl (fun c78 => ?_) (fun c78 => ?_)
      · refine hp_cVP (M2 := M_Mo_u2) hm (at1 84 rfl) (as := [(.int p3.1)]) (rest := [(.ref 192)]) (z := 192) rfl (by exact trivial) (pc' := 525) rfl 67 rfl (lw_g (lw_at lw_m9 204 rfl) rfl) y_Mo_u2 rfl (d2 := 2) ⟨le_b rfl, pd_Mo_u2, le_b rfl⟩ (le_b rfl) og_192 (k_Mo_u2 p3.1 p3.2.2) (fun a75 => ?_)
        refine hp_w hm (at1 85 rfl) (L' := [(0, (.ref 192)), (1, (.int p3.1)), (3, (.int p3.2.1))]) rfl (by exact og_192) (pc' := 531) rfl (fun h11 => ?_)
        refine hp_w hm (at1 86 rfl) (L' := [(0, (.ref 192)), (1, (.int p3.1)), (3, (.int p3.2.1))]) rfl (by exact og_192) (pc' := 538) rfl (fun h12 => ?_)
        refine hp_ic_gt hm (at1 87 rfl) rfl (by exact og_192) (pc' := 545) rfl 70 rfl (tgt := 564) rfl (fun c77 => ?_) (fun c77 => ?_)
        · exact hp_ir hm (at1 88 rfl) rfl (by exact trivial) (pc' := 565) rfl 68 rfl rfl rfl (fun _ e => e)
        · refine hp_ic_le hm (at1 89 rfl) rfl (by exact ⟨⟨og_192, og_192⟩, og_192⟩) (pc' := 561) rfl 69 rfl (tgt := 566) rfl (fun c76 => ?_) (fun c76 => ?_)
          · exact hp_ir hm (at1 82 rfl) rfl (by exact trivial) (pc' := 567) rfl 66 rfl rfl rfl (fun _ e => e)
          · exact hp_ir hm (at1 88 rfl) rfl (by exact trivial) (pc' := 565) rfl 68 rfl rfl rfl (fun _ e => e)
      · exact hp_ir hm (at1 90 rfl) rfl (by exact trivial) (pc' := 521) rfl 71 rfl rfl rfl (fun _ e => e)
/-! HintHouseModel.isGlyph(I)Z -/
def M_Mo_isGlyph : hM := (11, ⟨"HintHouseModel", "isGlyph", "(I)Z"⟩, prog_13_method_24_code, 2, (Option.some Jvm.ClassFile.FieldType.boolean), [], [(0, [(.aload_n 0, 1, 0, 0, 0, .null), (.iload_n 1, 1, 0, 0, 0, .null)]), (5, [(.aload_n 0, 1, 0, 0, 0, .null), (.getfield 342, 3, 11, 26, 0, .null), (.aload_n 0, 1, 0, 0, 0, .null), (.getfield 345, 3, 11, 27, 0, .null)]), (18, [(.aload_n 0, 1, 0, 0, 0, .null), (.getfield 345, 3, 11, 27, 0, .null), (.aload_n 0, 1, 0, 0, 0, .null), (.getfield 342, 3, 11, 26, 0, .null), (.isub, 1, 0, 0, 0, .null), (.bipush 10, 2, 0, 0, 0, (.int (10 : Int32)))]), (34, [(.aload_n 0, 1, 0, 0, 0, .null), (.getfield 348, 3, 11, 28, 0, .null), (.i2l, 1, 0, 0, 0, .null), (.lconst 0, 1, 0, 0, 0, (.long (0 : Int64))), (.ldc2_w 230, 3, 0, 0, 0, (.long (12 : Int64)))]), (56, [(.aload_n 0, 1, 0, 0, 0, .null), (.getfield 348, 3, 11, 28, 0, .null), (.iconst (-1), 1, 0, 0, 0, (.int (-1 : Int32)))]), (75, [(.iconst 0, 1, 0, 0, 0, (.int (0 : Int32)))]), (64, [(.aload_n 0, 1, 0, 0, 0, .null)]), (71, [(.iconst 1, 1, 0, 0, 0, (.int (1 : Int32)))]), (49, [(.aload_n 0, 1, 0, 0, 0, .null)]), (32, [(.iconst 0, 1, 0, 0, 0, (.int (0 : Int32)))]), (16, [(.iconst 1, 1, 0, 0, 0, (.int (1 : Int32)))])], [(2, .invokevirtual 363, 3), (43, .invokestatic 263, 3), (76, .ireturn, 1), (65, .invokevirtual 370, 3), (72, .goto 4, 3), (68, .ifCond .eq 7, 3), (61, .if_icmp .ne 14, 3), (50, .invokevirtual 367, 3), (53, .goto 23, 3), (46, .ifCond .eq 10, 3), (33, .ireturn, 1), (29, .if_icmp .ge 5, 3), (17, .ireturn, 1), (13, .if_icmp .ne 5, 3)])
set_option maxRecDepth 100000 in
theorem m_Mo_isGlyph : hx_mok M_Mo_isGlyph = true := by decide +kernel
theorem pd_Mo_isGlyph : (parseMethodDescriptor M_Mo_isGlyph.2.1.desc).map (fun q => q.parameters.length) = some 1 := by decide +kernel
theorem y_Mo_isGlyph : hx_okV M_Mo_isGlyph := ⟨⟨lw_g (lw_at lw_m11 34 rfl) rfl, lw_g (lw_at lw_m11 33 rfl) rfl, qs191, lw_g (lw_at lw_m1 12 rfl) rfl, rfl, by decide, by decide, by decide⟩, rfl, by decide, plainFor_of_name (by decide)⟩
noncomputable def f_Mo_isGlyph (x1 : Int32) (h : hH) : Option (Int32 × hH) :=
  bS (f_Mo_bytesOf x1 h) fun _ h1 =>
  if (rdI h1 192 26) = (rdI h1 192 27) then (
    some ((1 : Int32), h1)
  ) else (
    if (10 : Int32) ≤ ((rdI h1 192 27) - (rdI h1 192 26)) then (
      bP (f_Mo_in (Int32.toInt64 (rdI h1 192 28)) (0 : Int64) (12 : Int64)) fun a1 =>
      if a1 = 0 then (
        if (rdI h1 192 28) = (-1 : Int32) then (
          bS (f_Mo_composed h1) fun a2 h2 =>
          if a2 = 0 then (
            some ((0 : Int32), h2)
          ) else (
            some ((1 : Int32), h2)
          )
        ) else (
          some ((0 : Int32), h1)
        )
      ) else (
        bS (f_Mo_simple h1) fun a5 h3 =>
        gd ((a5 = 0 ∨ a5 = 1)) <|
        some (a5, h3)
      )
    ) else (
      some ((0 : Int32), h1)
    )
  )
set_option maxRecDepth 20000 in
theorem k_Mo_isGlyph (x1 : Int32) (h : hH) : hx_kS S0 M_Mo_isGlyph 6 NT [(.ref 192), (.int x1)] h (f_Mo_isGlyph x1 h) cvI := by
  have hm := m_Mo_isGlyph
  show hx_P S0 M_Mo_isGlyph 6 0 [(0, (.ref 192)), (1, (.int x1))] [] NT h (f_Mo_isGlyph x1 h) (hx_Rc cvI NT)
  unfold f_Mo_isGlyph
  refine hp_cVS (M2 := M_Mo_bytesOf) hm (at1 0 rfl) (as := [(.int x1)]) (rest := []) (z := 192) rfl (by exact trivial) (pc' := 2) rfl 0 rfl (lw_g (lw_at lw_m11 8 rfl) rfl) y_Mo_bytesOf rfl (d2 := 5) ⟨le_b rfl, pd_Mo_bytesOf, le_b rfl⟩ (le_b rfl) og_192 (k_Mo_bytesOf x1 h) (fun _ h1 => ?_)
  refine hp_ic_ne hm (at1 1 rfl) rfl (by exact ⟨og_192, og_192⟩) (pc' := 13) rfl 13 rfl (tgt := 18) rfl (fun c9 => ?_) (fun c9 => ?_)
  · refine hp_ic_ge hm (at1 2 rfl) rfl (by exact ⟨og_192, og_192⟩) (pc' := 29) rfl 11 rfl (tgt := 34) rfl (fun c8 => ?_) (fun c8 => ?_)
    · refine hp_cSP (M2 := M_Mo_in) hm (at1 3 rfl) (as := [(.long (Int32.toInt64 (rdI h1 192 28))), (.long (0 : Int64)), (.long (12 : Int64))]) (rest := []) rfl (by exact og_192) (pc' := 43) rfl 1 rfl (lw_g (lw_at lw_m9 184 rfl) rfl) y_Mo_in rfl (d2 := 1) ⟨le_b rfl, pd_Mo_in, le_b rfl⟩ (le_b rfl) (k_Mo_in (Int32.toInt64 (rdI h1 192 28)) (0 : Int64) (12 : Int64) h1) (fun a1 => ?_)
      refine hp_if_eq hm at0 rfl (by exact trivial) (pc' := 46) rfl 9 rfl (tgt := 56) rfl (fun c7 => ?_) (fun c7 => ?_)
      · refine hp_ic_ne hm (at1 4 rfl) rfl (by exact og_192) (pc' := 61) rfl 6 rfl (tgt := 75) rfl (fun c4 => ?_) (fun c4 => ?_)
        · refine hp_b hm (at1 5 rfl) (L' := [(0, (.ref 192)), (1, (.int x1))]) (st' := [(.int (0 : Int32))]) rfl (by exact trivial) (pc' := 76) rfl ?_
          exact hp_ir hm at0 rfl (by exact trivial) (pc' := 76) rfl 2 rfl rfl rfl (fun _ e => e)
        · refine hp_cVS (M2 := M_Mo_composed) hm (at1 6 rfl) (as := []) (rest := []) (z := 192) rfl (by exact trivial) (pc' := 65) rfl 3 rfl (lw_g (lw_at lw_m11 44 rfl) rfl) y_Mo_composed rfl (d2 := 4) ⟨le_b rfl, pd_Mo_composed, le_b rfl⟩ (le_b rfl) og_192 (k_Mo_composed h1) (fun a2 h2 => ?_)
          refine hp_if_eq hm at0 rfl (by exact trivial) (pc' := 68) rfl 5 rfl (tgt := 75) rfl (fun c3 => ?_) (fun c3 => ?_)
          · refine hp_b hm (at1 5 rfl) (L' := [(0, (.ref 192)), (1, (.int x1))]) (st' := [(.int (0 : Int32))]) rfl (by exact trivial) (pc' := 76) rfl ?_
            exact hp_ir hm at0 rfl (by exact trivial) (pc' := 76) rfl 2 rfl rfl rfl (fun _ e => e)
          · refine hp_b hm (at1 7 rfl) (L' := [(0, (.ref 192)), (1, (.int x1))]) (st' := [(.int (1 : Int32))]) rfl (by exact trivial) (pc' := 72) rfl ?_
            refine hp_goto hm 4 rfl (tgt := 76) rfl ?_
            exact hp_ir hm at0 rfl (by exact trivial) (pc' := 76) rfl 2 rfl rfl rfl (fun _ e => e)
      · refine hp_cVS (M2 := M_Mo_simple) hm (at1 8 rfl) (as := []) (rest := []) (z := 192) rfl (by exact trivial) (pc' := 50) rfl 7 rfl (lw_g (lw_at lw_m11 36 rfl) rfl) y_Mo_simple rfl (d2 := 5) ⟨le_b rfl, pd_Mo_simple, le_b rfl⟩ (le_b rfl) og_192 (k_Mo_simple h1) (fun a5 h3 => ?_)
        refine hp_goto hm 8 rfl (tgt := 76) rfl ?_
        refine hp_G0 (fun q6 => ?_)
        exact hp_ir hm at0 rfl (by exact trivial) (pc' := 76) rfl 2 rfl rfl (nar01 q6) (fun _ e => e)
    · exact hp_ir hm (at1 9 rfl) rfl (by exact trivial) (pc' := 33) rfl 10 rfl rfl rfl (fun _ e => e)
  · exact hp_ir hm (at1 10 rfl) rfl (by exact trivial) (pc' := 17) rfl 12 rfl rfl rfl (fun _ e => e)
/-! HintHouseModel.failOutside(I)V -/
def M_Mo_failOutside : hM := (11, ⟨"HintHouseModel", "failOutside", "(I)V"⟩, prog_13_method_101_code, 2, (Option.none : Option Jvm.ClassFile.FieldType), [], [(0, [(.aload_n 0, 1, 0, 0, 0, .null), (.getfield 409, 3, 11, 59, 0, .null)]), (7, [(.aload_n 0, 1, 0, 0, 0, .null), (.iload_n 1, 1, 0, 0, 0, .null), (.putfield 409, 3, 11, 59, 0, .null)]), (12, [(.aload_n 0, 1, 0, 0, 0, .null), (.iconst (-1), 1, 0, 0, 0, (.int (-1 : Int32))), (.putfield 415, 3, 11, 60, 0, .null)])], [(17, .return_, 1), (4, .ifCond .ne 13, 3)])
set_option maxRecDepth 100000 in
theorem m_Mo_failOutside : hx_mok M_Mo_failOutside = true := by decide +kernel
theorem pd_Mo_failOutside : (parseMethodDescriptor M_Mo_failOutside.2.1.desc).map (fun q => q.parameters.length) = some 1 := by decide +kernel
theorem y_Mo_failOutside : hx_okV M_Mo_failOutside := ⟨⟨lw_g (lw_at lw_m11 59 rfl) rfl, lw_g (lw_at lw_m11 58 rfl) rfl, qs197, lw_g (lw_at lw_m1 12 rfl) rfl, rfl, by decide, by decide, by decide⟩, rfl, by decide, plainFor_of_name (by decide)⟩
noncomputable def f_Mo_failOutside (x1 : Int32) (h : hH) : Option (Unit × hH) :=
  if (rdI h 192 59) = 0 then (
    lz (wrI h 192 59 x1) fun h1 =>
    lz (wrI h1 192 60 (-1 : Int32)) fun h2 =>
    some ((), h2)
  ) else (
    some ((), h)
  )
set_option maxRecDepth 20000 in
theorem k_Mo_failOutside (x1 : Int32) (h : hH) : hx_kS S0 M_Mo_failOutside 1 NT [(.ref 192), (.int x1)] h (f_Mo_failOutside x1 h) cvU := by
  have hm := m_Mo_failOutside
  show hx_P S0 M_Mo_failOutside 1 0 [(0, (.ref 192)), (1, (.int x1))] [] NT h (f_Mo_failOutside x1 h) (hx_Rc cvU NT)
  unfold f_Mo_failOutside
  refine hp_if_ne hm (at1 0 rfl) rfl (by exact og_192) (pc' := 4) rfl 1 rfl (tgt := 17) rfl (fun c1 => ?_) (fun c1 => ?_)
  · exact hp_vr hm 0 rfl rfl (fun _ e => e)
  · refine hp_w hm (at1 1 rfl) (L' := [(0, (.ref 192)), (1, (.int x1))]) rfl (by exact og_192) (pc' := 12) rfl (fun h1 => ?_)
    refine hp_w hm (at1 2 rfl) (L' := [(0, (.ref 192)), (1, (.int x1))]) rfl (by exact og_192) (pc' := 17) rfl (fun h2 => ?_)
    exact hp_vr hm 0 rfl rfl (fun _ e => e)
/-! HintHouseModel.toPixel(J)I -/
def M_Mo_toPixel : hM := (11, ⟨"HintHouseModel", "toPixel", "(J)I"⟩, prog_13_method_7_code, 2, (Option.some Jvm.ClassFile.FieldType.int), [], [(0, [(.lload_n 0, 1, 0, 0, 0, .null), (.ldc2_w 202, 3, 0, 0, 0, (.long (32 : Int64))), (.ladd, 1, 0, 0, 0, .null), (.ldc2_w 204, 3, 0, 0, 0, (.long (-64 : Int64))), (.land, 1, 0, 0, 0, .null), (.l2i, 1, 0, 0, 0, .null)])], [(10, .ireturn, 1)])
set_option maxRecDepth 100000 in
theorem m_Mo_toPixel : hx_mok M_Mo_toPixel = true := by decide +kernel
theorem pd_Mo_toPixel : (parseMethodDescriptor M_Mo_toPixel.2.1.desc).map (fun q => q.parameters.length) = some 1 := by decide +kernel
theorem y_Mo_toPixel : hx_okS M_Mo_toPixel := ⟨⟨lw_g (lw_at lw_m11 62 rfl) rfl, lw_g (lw_at lw_m11 61 rfl) rfl, lw_g (lw_at lw_m1 12 rfl) rfl, by decide, by decide⟩, rfl, by decide, plainFor_of_name (by decide), rfl⟩
noncomputable def f_Mo_toPixel (x1 : Int64) : Option Int32 :=
  some (Int64.toInt32 ((x1 + (32 : Int64)) &&& (-64 : Int64)))
set_option maxRecDepth 20000 in
theorem k_Mo_toPixel (x1 : Int64) (h : hH) : hx_kP S0 M_Mo_toPixel 1 NT [(.long x1)] h (f_Mo_toPixel x1) cvI := by
  have hm := m_Mo_toPixel
  show hx_P S0 M_Mo_toPixel 1 0 [(0, (.long x1))] [] NT h (f_Mo_toPixel x1) (hx_Rp cvI NT h)
  unfold f_Mo_toPixel
  exact hp_ir hm (at1 0 rfl) rfl (by exact trivial) (pc' := 10) rfl 0 rfl rfl (vp_nar_int _) (fun _ e => e)
/-! HintHouseModel.bring()V -/
def M_Mo_bring : hM := (11, ⟨"HintHouseModel", "bring", "()V"⟩, prog_13_method_98_code, 2, (Option.none : Option Jvm.ClassFile.FieldType), [], [(0, [(.aload_n 0, 1, 0, 0, 0, .null), (.aload_n 0, 1, 0, 0, 0, .null), (.getfield 140, 3, 11, 116, 4, .null), (.iconst 0, 1, 0, 0, 0, (.int (0 : Int32))), (.iaload, 1, 0, 0, 0, .null), (.putfield 605, 3, 11, 80, 0, .null)]), (10, [(.aload_n 0, 1, 0, 0, 0, .null), (.aload_n 0, 1, 0, 0, 0, .null), (.getfield 140, 3, 11, 116, 4, .null), (.iconst 1, 1, 0, 0, 0, (.int (1 : Int32))), (.iaload, 1, 0, 0, 0, .null), (.putfield 615, 3, 11, 81, 0, .null)]), (20, [(.aload_n 0, 1, 0, 0, 0, .null), (.aload_n 0, 1, 0, 0, 0, .null), (.getfield 140, 3, 11, 116, 4, .null), (.iconst 2, 1, 0, 0, 0, (.int (2 : Int32))), (.iaload, 1, 0, 0, 0, .null), (.putfield 608, 3, 11, 82, 0, .null)]), (30, [(.aload_n 0, 1, 0, 0, 0, .null), (.aload_n 0, 1, 0, 0, 0, .null), (.getfield 140, 3, 11, 116, 4, .null), (.iconst 3, 1, 0, 0, 0, (.int (3 : Int32))), (.iaload, 1, 0, 0, 0, .null), (.putfield 595, 3, 11, 83, 0, .null)]), (40, [(.aload_n 0, 1, 0, 0, 0, .null), (.aload_n 0, 1, 0, 0, 0, .null), (.getfield 140, 3, 11, 116, 4, .null), (.iconst 4, 1, 0, 0, 0, (.int (4 : Int32))), (.iaload, 1, 0, 0, 0, .null), (.iconst 1, 1, 0, 0, 0, (.int (1 : Int32)))]), (55, [(.iconst 0, 1, 0, 0, 0, (.int (0 : Int32)))]), (51, [(.iconst 1, 1, 0, 0, 0, (.int (1 : Int32)))]), (56, [(.putfield 683, 3, 11, 84, 1, .null)]), (59, [(.aload_n 0, 1, 0, 0, 0, .null), (.aload_n 0, 1, 0, 0, 0, .null), (.getfield 140, 3, 11, 116, 4, .null), (.iconst 5, 1, 0, 0, 0, (.int (5 : Int32))), (.iaload, 1, 0, 0, 0, .null), (.putfield 700, 3, 11, 85, 0, .null)]), (69, [(.aload_n 0, 1, 0, 0, 0, .null), (.aload_n 0, 1, 0, 0, 0, .null), (.getfield 140, 3, 11, 116, 4, .null), (.bipush 6, 2, 0, 0, 0, (.int (6 : Int32))), (.iaload, 1, 0, 0, 0, .null), (.putfield 703, 3, 11, 86, 0, .null)]), (80, [(.aload_n 0, 1, 0, 0, 0, .null), (.aload_n 0, 1, 0, 0, 0, .null), (.getfield 140, 3, 11, 116, 4, .null), (.bipush 7, 2, 0, 0, 0, (.int (7 : Int32))), (.iaload, 1, 0, 0, 0, .null), (.putfield 739, 3, 11, 87, 0, .null)]), (91, [(.aload_n 0, 1, 0, 0, 0, .null), (.aload_n 0, 1, 0, 0, 0, .null), (.getfield 140, 3, 11, 116, 4, .null), (.bipush 8, 2, 0, 0, 0, (.int (8 : Int32))), (.iaload, 1, 0, 0, 0, .null), (.putfield 747, 3, 11, 88, 0, .null)]), (102, [(.iconst 0, 1, 0, 0, 0, (.int (0 : Int32))), (.istore_n 1, 1, 0, 0, 0, .null)]), (104, [(.iload_n 1, 1, 0, 0, 0, .null), (.sipush 256, 3, 0, 0, 0, (.int (256 : Int32)))]), (111, [(.aload_n 0, 1, 0, 0, 0, .null), (.getfield 64, 3, 11, 44, 4, .null), (.iload_n 1, 1, 0, 0, 0, .null), (.aload_n 0, 1, 0, 0, 0, .null), (.getfield 131, 3, 11, 113, 4, .null), (.iload_n 1, 1, 0, 0, 0, .null), (.iaload, 1, 0, 0, 0, .null), (.iastore, 1, 0, 0, 0, .null)]), (123, [(.iinc 1 1, 3, 0, 0, 0, (.int (1 : Int32)))]), (129, [(.iconst 0, 1, 0, 0, 0, (.int (0 : Int32))), (.istore_n 1, 1, 0, 0, 0, .null)]), (131, [(.iload_n 1, 1, 0, 0, 0, .null), (.bipush 64, 2, 0, 0, 0, (.int (64 : Int32)))]), (137, [(.aload_n 0, 1, 0, 0, 0, .null), (.getfield 67, 3, 11, 45, 4, .null), (.iload_n 1, 1, 0, 0, 0, .null), (.aload_n 0, 1, 0, 0, 0, .null), (.getfield 134, 3, 11, 114, 4, .null), (.iload_n 1, 1, 0, 0, 0, .null), (.iaload, 1, 0, 0, 0, .null), (.iastore, 1, 0, 0, 0, .null)]), (149, [(.aload_n 0, 1, 0, 0, 0, .null), (.getfield 76, 3, 11, 48, 4, .null), (.iload_n 1, 1, 0, 0, 0, .null), (.aload_n 0, 1, 0, 0, 0, .null), (.getfield 137, 3, 11, 115, 4, .null), (.iconst 4, 1, 0, 0, 0, (.int (4 : Int32))), (.iload_n 1, 1, 0, 0, 0, .null), (.imul, 1, 0, 0, 0, .null), (.iaload, 1, 0, 0, 0, .null), (.iastore, 1, 0, 0, 0, .null)]), (163, [(.aload_n 0, 1, 0, 0, 0, .null), (.getfield 79, 3, 11, 49, 4, .null), (.iload_n 1, 1, 0, 0, 0, .null), (.aload_n 0, 1, 0, 0, 0, .null), (.getfield 137, 3, 11, 115, 4, .null), (.iconst 4, 1, 0, 0, 0, (.int (4 : Int32))), (.iload_n 1, 1, 0, 0, 0, .null), (.imul, 1, 0, 0, 0, .null), (.iconst 1, 1, 0, 0, 0, (.int (1 : Int32))), (.iadd, 1, 0, 0, 0, .null), (.iaload, 1, 0, 0, 0, .null), (.iastore, 1, 0, 0, 0, .null)]), (179, [(.aload_n 0, 1, 0, 0, 0, .null), (.getfield 70, 3, 11, 46, 4, .null), (.iload_n 1, 1, 0, 0, 0, .null), (.aload_n 0, 1, 0, 0, 0, .null), (.getfield 137, 3, 11, 115, 4, .null), (.iconst 4, 1, 0, 0, 0, (.int (4 : Int32))), (.iload_n 1, 1, 0, 0, 0, .null), (.imul, 1, 0, 0, 0, .null), (.iconst 2, 1, 0, 0, 0, (.int (2 : Int32))), (.iadd, 1, 0, 0, 0, .null), (.iaload, 1, 0, 0, 0, .null), (.iastore, 1, 0, 0, 0, .null)]), (195, [(.aload_n 0, 1, 0, 0, 0, .null), (.getfield 73, 3, 11, 47, 4, .null), (.iload_n 1, 1, 0, 0, 0, .null), (.aload_n 0, 1, 0, 0, 0, .null), (.getfield 137, 3, 11, 115, 4, .null), (.iconst 4, 1, 0, 0, 0, (.int (4 : Int32))), (.iload_n 1, 1, 0, 0, 0, .null), (.imul, 1, 0, 0, 0, .null), (.iconst 3, 1, 0, 0, 0, (.int (3 : Int32))), (.iadd, 1, 0, 0, 0, .null), (.iaload, 1, 0, 0, 0, .null), (.iastore, 1, 0, 0, 0, .null)]), (211, [(.aload_n 0, 1, 0, 0, 0, .null), (.getfield 82, 3, 11, 50, 4, .null), (.iload_n 1, 1, 0, 0, 0, .null), (.aload_n 0, 1, 0, 0, 0, .null), (.getfield 143, 3, 11, 117, 4, .null), (.iload_n 1, 1, 0, 0, 0, .null), (.iaload, 1, 0, 0, 0, .null), (.iastore, 1, 0, 0, 0, .null)]), (223, [(.iinc 1 1, 3, 0, 0, 0, (.int (1 : Int32)))])], [(52, .goto 4, 3), (48, .if_icmp .ne 7, 3), (126, .goto (-22), 3), (108, .if_icmp .ge 21, 3), (226, .goto (-95), 3), (134, .if_icmp .ge 95, 3), (229, .return_, 1)])
set_option maxRecDepth 100000 in
theorem m_Mo_bring : hx_mok M_Mo_bring = true := by decide +kernel
theorem pd_Mo_bring : (parseMethodDescriptor M_Mo_bring.2.1.desc).map (fun q => q.parameters.length) = some 0 := by decide +kernel
theorem y_Mo_bring : hx_okV M_Mo_bring := ⟨⟨lw_g (lw_at lw_m11 73 rfl) rfl, lw_g (lw_at lw_m11 72 rfl) rfl, qs199, lw_g (lw_at lw_m1 12 rfl) rfl, rfl, by decide, by decide, by decide⟩, rfl, by decide, plainFor_of_name (by decide)⟩
noncomputable def f_Mo_bring (h : hH) : Option (Unit × hH) :=
  lz (wrI h 192 80 (rdI h 234 0)) fun h1 =>
  lz (wrI h1 192 81 (rdI h1 234 1)) fun h2 =>
  lz (wrI h2 192 82 (rdI h2 234 2)) fun h3 =>
  lz (wrI h3 192 83 (rdI h3 234 3)) fun h4 =>
  lz (A := Int32) (if (rdI h4 234 4) = (1 : Int32) then (1 : Int32) else (0 : Int32)) fun p1 =>
  gd ((p1 = 0 ∨ p1 = 1)) <|
  lz (wrI h4 192 84 p1) fun h5 =>
  lz (wrI h5 192 85 (rdI h5 234 5)) fun h6 =>
  lz (wrI h6 192 86 (rdI h6 234 6)) fun h7 =>
  lz (wrI h7 192 87 (rdI h7 234 7)) fun h8 =>
  lz (wrI h8 192 88 (rdI h8 234 8)) fun h9 =>
  bP (A := hH) (
    wh (A := (Int32 × hH)) (B := hH) (fun p4 =>
        if (256 : Int32) ≤ p4.1 then (
          some (.inr p4.2)
        ) else (
          gd (vp_in p4.1 256) <|
          lz (wrI p4.2 210 (Int32.toNatClampNeg p4.1) (rdI p4.2 231 (Int32.toNatClampNeg p4.1))) fun h10 =>
          lz (A := Int32) (p4.1 + (1 : Int32)) fun v7 =>
          some (.inl (v7, h10))
        )
    ) ((0 : Int32), h9)
  ) fun p5 =>
  bP (A := hH) (
    wh (A := (Int32 × hH)) (B := hH) (fun p9 =>
        if (64 : Int32) ≤ p9.1 then (
          some (.inr p9.2)
        ) else (
          gd (vp_in p9.1 64) <|
          lz (wrI p9.2 211 (Int32.toNatClampNeg p9.1) (rdI p9.2 232 (Int32.toNatClampNeg p9.1))) fun h11 =>
          gd (vp_in ((4 : Int32) * p9.1) 256 ∧ vp_in p9.1 204) <|
          lz (wrI h11 214 (Int32.toNatClampNeg p9.1) (rdI h11 233 (Int32.toNatClampNeg ((4 : Int32) * p9.1)))) fun h12 =>
          gd (vp_in (((4 : Int32) * p9.1) + (1 : Int32)) 256 ∧ vp_in p9.1 204) <|
          lz (wrI h12 215 (Int32.toNatClampNeg p9.1) (rdI h12 233 (Int32.toNatClampNeg (((4 : Int32) * p9.1) + (1 : Int32))))) fun h13 =>
          gd (vp_in (((4 : Int32) * p9.1) + (2 : Int32)) 256 ∧ vp_in p9.1 204) <|
          lz (wrI h13 212 (Int32.toNatClampNeg p9.1) (rdI h13 233 (Int32.toNatClampNeg (((4 : Int32) * p9.1) + (2 : Int32))))) fun h14 =>
          gd (vp_in (((4 : Int32) * p9.1) + (3 : Int32)) 256 ∧ vp_in p9.1 204) <|
          lz (wrI h14 213 (Int32.toNatClampNeg p9.1) (rdI h14 233 (Int32.toNatClampNeg (((4 : Int32) * p9.1) + (3 : Int32))))) fun h15 =>
          gd (vp_in p9.1 64 ∧ vp_in p9.1 204) <|
          lz (wrI h15 216 (Int32.toNatClampNeg p9.1) (rdI h15 235 (Int32.toNatClampNeg p9.1))) fun h16 =>
          lz (A := Int32) (p9.1 + (1 : Int32)) fun v17 =>
          some (.inl (v17, h16))
        )
    ) ((0 : Int32), p5)
  ) fun p10 =>
  some ((), p10)
set_option maxRecDepth 20000 in
theorem k_Mo_bring (h : hH) : hx_kS S0 M_Mo_bring 1 NT [(.ref 192)] h (f_Mo_bring h) cvU := by
  have hm := m_Mo_bring
  show hx_P S0 M_Mo_bring 1 0 [(0, (.ref 192))] [] NT h (f_Mo_bring h) (hx_Rc cvU NT)
  unfold f_Mo_bring
  refine hp_w hm (at1 0 rfl) (L' := [(0, (.ref 192))]) rfl (by exact ⟨⟨og_192, ⟨og_234, (show vp_in (0 : Int32) 9 from vp_lit (by decide))⟩⟩, og_192⟩) (pc' := 10) rfl (fun h1 => ?_)
  refine hp_w hm (at1 1 rfl) (L' := [(0, (.ref 192))]) rfl (by exact ⟨⟨og_192, ⟨og_234, (show vp_in (1 : Int32) 9 from vp_lit (by decide))⟩⟩, og_192⟩) (pc' := 20) rfl (fun h2 => ?_)
  refine hp_w hm (at1 2 rfl) (L' := [(0, (.ref 192))]) rfl (by exact ⟨⟨og_192, ⟨og_234, (show vp_in (2 : Int32) 9 from vp_lit (by decide))⟩⟩, og_192⟩) (pc' := 30) rfl (fun h3 => ?_)
  refine hp_w hm (at1 3 rfl) (L' := [(0, (.ref 192))]) rfl (by exact ⟨⟨og_192, ⟨og_234, (show vp_in (3 : Int32) 9 from vp_lit (by decide))⟩⟩, og_192⟩) (pc' := 40) rfl (fun h4 => ?_)
  refine hp_JZ 56 (fun (p1 : Int32) => [(0, (.ref 192))]) (fun (p1 : Int32) => [(.int p1), (.ref 192)]) (fun (p1 : Int32) => h4) ?_ (fun p1 => ?_)
  · refine hp_sv0 ?_
    refine hp_ic_ne hm (at1 4 rfl) rfl (by exact ⟨og_192, ⟨og_234, (show vp_in (4 : Int32) 9 from vp_lit (by decide))⟩⟩) (pc' := 48) rfl 1 rfl (tgt := 55) rfl (fun c2 => ?_) (fun c2 => ?_)
    · refine hp_b hm (at1 5 rfl) (L' := [(0, (.ref 192))]) (st' := [(.int (0 : Int32)), (.ref 192)]) rfl (by exact trivial) (pc' := 56) rfl ?_
      exact hp_lf [0] rfl (fun _ e => e)
    · refine hp_b hm (at1 6 rfl) (L' := [(0, (.ref 192))]) (st' := [(.int (1 : Int32)), (.ref 192)]) rfl (by exact trivial) (pc' := 52) rfl ?_
      refine hp_goto hm 0 rfl (tgt := 56) rfl ?_
      exact hp_lf [0] rfl (fun _ e => e)
  · refine hp_GW hm (at1 7 rfl) (L' := [(0, (.ref 192))]) rfl (fun hP => (by exact ⟨og_192, hP⟩)) (pc' := 59) rfl (fun q3 h5 => ?_)
    refine hp_w hm (at1 8 rfl) (L' := [(0, (.ref 192))]) rfl (by exact ⟨⟨og_192, ⟨og_234, (show vp_in (5 : Int32) 9 from vp_lit (by decide))⟩⟩, og_192⟩) (pc' := 69) rfl (fun h6 => ?_)
    refine hp_w hm (at1 9 rfl) (L' := [(0, (.ref 192))]) rfl (by exact ⟨⟨og_192, ⟨og_234, (show vp_in (6 : Int32) 9 from vp_lit (by decide))⟩⟩, og_192⟩) (pc' := 80) rfl (fun h7 => ?_)
    refine hp_w hm (at1 10 rfl) (L' := [(0, (.ref 192))]) rfl (by exact ⟨⟨og_192, ⟨og_234, (show vp_in (7 : Int32) 9 from vp_lit (by decide))⟩⟩, og_192⟩) (pc' := 91) rfl (fun h8 => ?_)
    refine hp_w hm (at1 11 rfl) (L' := [(0, (.ref 192))]) rfl (by exact ⟨⟨og_192, ⟨og_234, (show vp_in (8 : Int32) 9 from vp_lit (by decide))⟩⟩, og_192⟩) (pc' := 102) rfl (fun h9 => ?_)
    refine hp_b hm (at1 12 rfl) (L' := [(1, (.int (0 : Int32))), (0, (.ref 192))]) (st' := []) rfl (by exact trivial) (pc' := 104) rfl ?_
    refine hp_J 129 (fun (p5 : hH) => [(0, (.ref 192))]) (fun (p5 : hH) => []) (fun (p5 : hH) => p5) ?_ (fun p5 => ?_)
    · refine hp_s [1, 0] rfl (L' := [(0, (.ref 192)), (1, (.int (0 : Int32)))]) ?_
      refine hp_wh (fun (p4 : (Int32 × hH)) => [(0, (.ref 192)), (1, (.int p4.1))]) [] (fun (p4 : (Int32 × hH)) => p4.2) (fun p4 => ?_) ((0 : Int32), h9)
      refine hp_ic_ge hm (at1 13 rfl) rfl (by exact trivial) (pc' := 108) rfl 3 rfl (tgt := 129) rfl (fun c8 => ?_) (fun c8 => ?_)
      · exact hp_lf [0] rfl (fun _ e => e)
      · refine hp_GW hm (at1 14 rfl) (L' := [(0, (.ref 192)), (1, (.int p4.1))]) rfl (fun hP => (by exact ⟨⟨⟨og_192, og_192⟩, ⟨og_231, hP⟩⟩, ⟨og_210, hP⟩⟩)) (pc' := 123) rfl (fun q6 h10 => ?_)
        refine hp_z hm (at1 15 rfl) (fun (v7 : Int32) => [(1, (.int v7)), (0, (.ref 192))]) (fun (v7 : Int32) => []) rfl (by exact trivial) (pc' := 126) rfl (fun v7 => ?_)
        refine hp_goto hm 2 rfl (tgt := 104) rfl ?_
        exact hp_lf [1, 0] rfl (fun _ e => e)
    · refine hp_b hm (at1 16 rfl) (L' := [(1, (.int (0 : Int32))), (0, (.ref 192))]) (st' := []) rfl (by exact trivial) (pc' := 131) rfl ?_
      refine hp_J 229 (fun (p10 : hH) => []) (fun (p10 : hH) => []) (fun (p10 : hH) => p10) ?_ (fun p10 => ?_)
      · refine hp_s [1, 0] rfl (L' := [(0, (.ref 192)), (1, (.int (0 : Int32)))]) ?_
        refine hp_wh (fun (p9 : (Int32 × hH)) => [(0, (.ref 192)), (1, (.int p9.1))]) [] (fun (p9 : (Int32 × hH)) => p9.2) (fun p9 => ?_) ((0 : Int32), p5)
        refine hp_ic_ge hm (at1 17 rfl) rfl (by exact trivial) (pc' := 134) rfl 5 rfl (tgt := 229) rfl (fun c18 => ?_) (fun c18 => ?_)
        · exact hp_lf [] rfl (fun _ e => e)
        · refine hp_GW hm (at1 18 rfl) (L' := [(0, (.ref 192)), (1, (.int p9.1))]) rfl (fun hP => (by exact ⟨⟨⟨og_192, og_192⟩, ⟨og_232, hP⟩⟩, ⟨og_211, hP⟩⟩)) (pc' := 149) rfl (fun q11 h11 => ?_)
          refine hp_GW hm (at1 19 rfl) (L' := [(0, (.ref 192)), (1, (.int p9.1))]) rfl (fun hP => (by exact ⟨⟨⟨og_192, og_192⟩, ⟨og_233, hP.1⟩⟩, ⟨og_214, hP.2⟩⟩)) (pc' := 163) rfl (fun q12 h12 => ?_)
          refine hp_GW hm (at1 20 rfl) (L' := [(0, (.ref 192)), (1, (.int p9.1))]) rfl (fun hP => (by exact ⟨⟨⟨og_192, og_192⟩, ⟨og_233, hP.1⟩⟩, ⟨og_215, hP.2⟩⟩)) (pc' := 179) rfl (fun q13 h13 => ?_)
          refine hp_GW hm (at1 21 rfl) (L' := [(0, (.ref 192)), (1, (.int p9.1))]) rfl (fun hP => (by exact ⟨⟨⟨og_192, og_192⟩, ⟨og_233, hP.1⟩⟩, ⟨og_212, hP.2⟩⟩)) (pc' := 195) rfl (fun q14 h14 => ?_)
          refine hp_GW hm (at1 22 rfl) (L' := [(0, (.ref 192)), (1, (.int p9.1))]) rfl (fun hP => (by exact ⟨⟨⟨og_192, og_192⟩, ⟨og_233, hP.1⟩⟩, ⟨og_213, hP.2⟩⟩)) (pc' := 211) rfl (fun q15 h15 => ?_)
          refine hp_GW hm (at1 23 rfl) (L' := [(0, (.ref 192)), (1, (.int p9.1))]) rfl (fun hP => (by exact ⟨⟨⟨og_192, og_192⟩, ⟨og_235, hP.1⟩⟩, ⟨og_216, hP.2⟩⟩)) (pc' := 223) rfl (fun q16 h16 => ?_)
          refine hp_z hm (at1 24 rfl) (fun (v17 : Int32) => [(1, (.int v17)), (0, (.ref 192))]) (fun (v17 : Int32) => []) rfl (by exact trivial) (pc' := 226) rfl (fun v17 => ?_)
          refine hp_goto hm 4 rfl (tgt := 131) rfl ?_
          exact hp_lf [1, 0] rfl (fun _ e => e)
      · exact hp_vr hm 6 rfl rfl (fun _ e => e)
/-! HintHouseModel.hint(I)V -/
def M_Mo_hint : hM := (11, ⟨"HintHouseModel", "hint", "(I)V"⟩, prog_13_method_104_code, 5, (Option.none : Option Jvm.ClassFile.FieldType), [], [(0, [(.aload_n 0, 1, 0, 0, 0, .null)]), (4, [(.bipush 102, 2, 0, 0, 0, (.int (102 : Int32))), (.iload_n 1, 1, 0, 0, 0, .null), (.imul, 1, 0, 0, 0, .null), (.istore_n 2, 1, 0, 0, 0, .null)]), (9, [(.aload_n 0, 1, 0, 0, 0, .null), (.getfield 146, 3, 11, 118, 4, .null), (.iload_n 1, 1, 0, 0, 0, .null), (.iaload, 1, 0, 0, 0, .null), (.istore_n 3, 1, 0, 0, 0, .null)]), (16, [(.aload_n 0, 1, 0, 0, 0, .null), (.iload_n 3, 1, 0, 0, 0, .null), (.iconst 2, 1, 0, 0, 0, (.int (2 : Int32))), (.iadd, 1, 0, 0, 0, .null), (.putfield 514, 3, 11, 52, 0, .null)]), (23, [(.aload_n 0, 1, 0, 0, 0, .null), (.aload_n 0, 1, 0, 0, 0, .null), (.getfield 149, 3, 11, 119, 4, .null), (.iload_n 1, 1, 0, 0, 0, .null), (.iaload, 1, 0, 0, 0, .null), (.putfield 706, 3, 11, 53, 0, .null)]), (33, [(.iconst 0, 1, 0, 0, 0, (.int (0 : Int32))), (.istore 4, 2, 0, 0, 0, .null)]), (36, [(.iload 4, 2, 0, 0, 0, .null), (.aload_n 0, 1, 0, 0, 0, .null), (.getfield 706, 3, 11, 53, 0, .null)]), (45, [(.aload_n 0, 1, 0, 0, 0, .null), (.getfield 88, 3, 11, 54, 4, .null), (.iload 4, 2, 0, 0, 0, .null), (.aload_n 0, 1, 0, 0, 0, .null), (.getfield 161, 3, 11, 123, 4, .null), (.bipush 20, 2, 0, 0, 0, (.int (20 : Int32))), (.iload_n 1, 1, 0, 0, 0, .null), (.imul, 1, 0, 0, 0, .null), (.iload 4, 2, 0, 0, 0, .null), (.iadd, 1, 0, 0, 0, .null), (.iaload, 1, 0, 0, 0, .null), (.iastore, 1, 0, 0, 0, .null)]), (64, [(.iinc 4 1, 3, 0, 0, 0, (.int (1 : Int32)))]), (70, [(.iconst 0, 1, 0, 0, 0, (.int (0 : Int32))), (.istore 4, 2, 0, 0, 0, .null)]), (73, [(.iload 4, 2, 0, 0, 0, .null), (.iload_n 3, 1, 0, 0, 0, .null), (.iconst 2, 1, 0, 0, 0, (.int (2 : Int32))), (.iadd, 1, 0, 0, 0, .null)]), (81, [(.aload_n 0, 1, 0, 0, 0, .null), (.bipush 102, 2, 0, 0, 0, (.int (102 : Int32))), (.iload 4, 2, 0, 0, 0, .null), (.iadd, 1, 0, 0, 0, .null), (.iload 4, 2, 0, 0, 0, .null), (.iload_n 3, 1, 0, 0, 0, .null)]), (106, [(.aload_n 0, 1, 0, 0, 0, .null), (.getfield 164, 3, 11, 124, 4, .null), (.iconst 4, 1, 0, 0, 0, (.int (4 : Int32))), (.iload_n 1, 1, 0, 0, 0, .null), (.imul, 1, 0, 0, 0, .null), (.iconst 2, 1, 0, 0, 0, (.int (2 : Int32))), (.iload 4, 2, 0, 0, 0, .null), (.iload_n 3, 1, 0, 0, 0, .null), (.isub, 1, 0, 0, 0, .null), (.imul, 1, 0, 0, 0, .null), (.iadd, 1, 0, 0, 0, .null), (.iaload, 1, 0, 0, 0, .null), (.i2l, 1, 0, 0, 0, .null)]), (93, [(.aload_n 0, 1, 0, 0, 0, .null), (.getfield 152, 3, 11, 120, 4, .null), (.iload_n 2, 1, 0, 0, 0, .null), (.iload 4, 2, 0, 0, 0, .null), (.iadd, 1, 0, 0, 0, .null), (.iaload, 1, 0, 0, 0, .null), (.i2l, 1, 0, 0, 0, .null)]), (122, [(.iload 4, 2, 0, 0, 0, .null), (.iload_n 3, 1, 0, 0, 0, .null)]), (141, [(.aload_n 0, 1, 0, 0, 0, .null), (.getfield 164, 3, 11, 124, 4, .null), (.iconst 4, 1, 0, 0, 0, (.int (4 : Int32))), (.iload_n 1, 1, 0, 0, 0, .null), (.imul, 1, 0, 0, 0, .null), (.iconst 2, 1, 0, 0, 0, (.int (2 : Int32))), (.iload 4, 2, 0, 0, 0, .null), (.iload_n 3, 1, 0, 0, 0, .null), (.isub, 1, 0, 0, 0, .null), (.imul, 1, 0, 0, 0, .null), (.iadd, 1, 0, 0, 0, .null), (.iconst 1, 1, 0, 0, 0, (.int (1 : Int32))), (.iadd, 1, 0, 0, 0, .null), (.iaload, 1, 0, 0, 0, .null), (.i2l, 1, 0, 0, 0, .null)]), (128, [(.aload_n 0, 1, 0, 0, 0, .null), (.getfield 155, 3, 11, 121, 4, .null), (.iload_n 2, 1, 0, 0, 0, .null), (.iload 4, 2, 0, 0, 0, .null), (.iadd, 1, 0, 0, 0, .null), (.iaload, 1, 0, 0, 0, .null), (.i2l, 1, 0, 0, 0, .null)]), (162, [(.aload_n 0, 1, 0, 0, 0, .null), (.getfield 82, 3, 11, 50, 4, .null), (.bipush 102, 2, 0, 0, 0, (.int (102 : Int32))), (.iload 4, 2, 0, 0, 0, .null), (.iadd, 1, 0, 0, 0, .null), (.iconst 0, 1, 0, 0, 0, (.int (0 : Int32))), (.iastore, 1, 0, 0, 0, .null)]), (173, [(.aload_n 0, 1, 0, 0, 0, .null), (.getfield 85, 3, 11, 51, 4, .null), (.iload 4, 2, 0, 0, 0, .null), (.iload 4, 2, 0, 0, 0, .null), (.iload_n 3, 1, 0, 0, 0, .null)]), (201, [(.iconst 0, 1, 0, 0, 0, (.int (0 : Int32)))]), (185, [(.aload_n 0, 1, 0, 0, 0, .null), (.getfield 158, 3, 11, 122, 4, .null), (.iload_n 2, 1, 0, 0, 0, .null), (.iload 4, 2, 0, 0, 0, .null), (.iadd, 1, 0, 0, 0, .null), (.baload, 1, 101, 0, 0, .null)]), (197, [(.iconst 1, 1, 0, 0, 0, (.int (1 : Int32)))]), (202, [(.bastore, 1, 101, 0, 0, .null)]), (203, [(.iinc 4 1, 3, 0, 0, 0, (.int (1 : Int32)))]), (209, [(.aload_n 0, 1, 0, 0, 0, .null), (.getfield 76, 3, 11, 48, 4, .null), (.bipush 102, 2, 0, 0, 0, (.int (102 : Int32))), (.iload_n 3, 1, 0, 0, 0, .null), (.iadd, 1, 0, 0, 0, .null), (.aload_n 0, 1, 0, 0, 0, .null), (.getfield 76, 3, 11, 48, 4, .null), (.bipush 102, 2, 0, 0, 0, (.int (102 : Int32))), (.iload_n 3, 1, 0, 0, 0, .null), (.iadd, 1, 0, 0, 0, .null), (.iaload, 1, 0, 0, 0, .null), (.i2l, 1, 0, 0, 0, .null)]), (230, [(.iastore, 1, 0, 0, 0, .null)]), (231, [(.aload_n 0, 1, 0, 0, 0, .null), (.getfield 76, 3, 11, 48, 4, .null), (.bipush 103, 2, 0, 0, 0, (.int (103 : Int32))), (.iload_n 3, 1, 0, 0, 0, .null), (.iadd, 1, 0, 0, 0, .null), (.aload_n 0, 1, 0, 0, 0, .null), (.getfield 76, 3, 11, 48, 4, .null), (.bipush 103, 2, 0, 0, 0, (.int (103 : Int32))), (.iload_n 3, 1, 0, 0, 0, .null), (.iadd, 1, 0, 0, 0, .null), (.iaload, 1, 0, 0, 0, .null), (.i2l, 1, 0, 0, 0, .null)]), (252, [(.iastore, 1, 0, 0, 0, .null)]), (253, [(.aload_n 0, 1, 0, 0, 0, .null), (.getfield 94, 3, 11, 89, 4, .null), (.iconst 2, 1, 0, 0, 0, (.int (2 : Int32))), (.aload_n 0, 1, 0, 0, 0, .null), (.getfield 357, 3, 11, 31, 0, .null), (.iastore, 1, 0, 0, 0, .null)]), (263, [(.aload_n 0, 1, 0, 0, 0, .null), (.getfield 97, 3, 11, 90, 4, .null), (.iconst 2, 1, 0, 0, 0, (.int (2 : Int32))), (.aload_n 0, 1, 0, 0, 0, .null), (.getfield 360, 3, 11, 32, 0, .null), (.iastore, 1, 0, 0, 0, .null)]), (273, [(.aload_n 0, 1, 0, 0, 0, .null), (.iconst 2, 1, 0, 0, 0, (.int (2 : Int32)))]), (278, [(.iconst 0, 1, 0, 0, 0, (.int (0 : Int32))), (.istore 4, 2, 0, 0, 0, .null)]), (281, [(.iload 4, 2, 0, 0, 0, .null), (.iload_n 3, 1, 0, 0, 0, .null)]), (287, [(.aload_n 0, 1, 0, 0, 0, .null), (.getfield 152, 3, 11, 120, 4, .null), (.iload_n 2, 1, 0, 0, 0, .null), (.iload 4, 2, 0, 0, 0, .null), (.iadd, 1, 0, 0, 0, .null), (.aload_n 0, 1, 0, 0, 0, .null), (.getfield 76, 3, 11, 48, 4, .null), (.bipush 102, 2, 0, 0, 0, (.int (102 : Int32))), (.iload 4, 2, 0, 0, 0, .null), (.iadd, 1, 0, 0, 0, .null), (.iaload, 1, 0, 0, 0, .null), (.iastore, 1, 0, 0, 0, .null)]), (306, [(.aload_n 0, 1, 0, 0, 0, .null), (.getfield 155, 3, 11, 121, 4, .null), (.iload_n 2, 1, 0, 0, 0, .null), (.iload 4, 2, 0, 0, 0, .null), (.iadd, 1, 0, 0, 0, .null), (.aload_n 0, 1, 0, 0, 0, .null), (.getfield 79, 3, 11, 49, 4, .null), (.bipush 102, 2, 0, 0, 0, (.int (102 : Int32))), (.iload 4, 2, 0, 0, 0, .null), (.iadd, 1, 0, 0, 0, .null), (.iaload, 1, 0, 0, 0, .null), (.iastore, 1, 0, 0, 0, .null)]), (325, [(.aload_n 0, 1, 0, 0, 0, .null), (.getfield 158, 3, 11, 122, 4, .null), (.iload_n 2, 1, 0, 0, 0, .null), (.iload 4, 2, 0, 0, 0, .null), (.iadd, 1, 0, 0, 0, .null), (.aload_n 0, 1, 0, 0, 0, .null), (.getfield 85, 3, 11, 51, 4, .null), (.iload 4, 2, 0, 0, 0, .null), (.baload, 1, 101, 0, 0, .null), (.bastore, 1, 101, 0, 0, .null)]), (341, [(.iinc 4 1, 3, 0, 0, 0, (.int (1 : Int32)))]), (347, [(.iconst 0, 1, 0, 0, 0, (.int (0 : Int32))), (.istore 4, 2, 0, 0, 0, .null)]), (350, [(.iload 4, 2, 0, 0, 0, .null), (.iconst 2, 1, 0, 0, 0, (.int (2 : Int32)))]), (356, [(.aload_n 0, 1, 0, 0, 0, .null), (.getfield 164, 3, 11, 124, 4, .null), (.iconst 4, 1, 0, 0, 0, (.int (4 : Int32))), (.iload_n 1, 1, 0, 0, 0, .null), (.imul, 1, 0, 0, 0, .null), (.iconst 2, 1, 0, 0, 0, (.int (2 : Int32))), (.iload 4, 2, 0, 0, 0, .null), (.imul, 1, 0, 0, 0, .null), (.iadd, 1, 0, 0, 0, .null), (.aload_n 0, 1, 0, 0, 0, .null), (.getfield 76, 3, 11, 48, 4, .null), (.bipush 102, 2, 0, 0, 0, (.int (102 : Int32))), (.iload_n 3, 1, 0, 0, 0, .null), (.iadd, 1, 0, 0, 0, .null), (.iload 4, 2, 0, 0, 0, .null), (.iadd, 1, 0, 0, 0, .null), (.iaload, 1, 0, 0, 0, .null), (.iastore, 1, 0, 0, 0, .null)]), (381, [(.aload_n 0, 1, 0, 0, 0, .null), (.getfield 164, 3, 11, 124, 4, .null), (.iconst 4, 1, 0, 0, 0, (.int (4 : Int32))), (.iload_n 1, 1, 0, 0, 0, .null), (.imul, 1, 0, 0, 0, .null), (.iconst 2, 1, 0, 0, 0, (.int (2 : Int32))), (.iload 4, 2, 0, 0, 0, .null), (.imul, 1, 0, 0, 0, .null), (.iadd, 1, 0, 0, 0, .null), (.iconst 1, 1, 0, 0, 0, (.int (1 : Int32))), (.iadd, 1, 0, 0, 0, .null), (.aload_n 0, 1, 0, 0, 0, .null), (.getfield 79, 3, 11, 49, 4, .null), (.bipush 102, 2, 0, 0, 0, (.int (102 : Int32))), (.iload_n 3, 1, 0, 0, 0, .null), (.iadd, 1, 0, 0, 0, .null), (.iload 4, 2, 0, 0, 0, .null), (.iadd, 1, 0, 0, 0, .null), (.iaload, 1, 0, 0, 0, .null), (.iastore, 1, 0, 0, 0, .null)]), (408, [(.iinc 4 1, 3, 0, 0, 0, (.int (1 : Int32)))]), (414, [(.iload_n 1, 1, 0, 0, 0, .null)]), (418, [(.aload_n 0, 1, 0, 0, 0, .null), (.aload_n 0, 1, 0, 0, 0, .null), (.getfield 739, 3, 11, 87, 0, .null), (.putfield 798, 3, 11, 126, 0, .null)]), (426, [(.aload_n 0, 1, 0, 0, 0, .null), (.aload_n 0, 1, 0, 0, 0, .null), (.getfield 747, 3, 11, 88, 0, .null), (.putfield 801, 3, 11, 127, 0, .null)]), (434, [(.aload_n 0, 1, 0, 0, 0, .null), (.iconst 0, 1, 0, 0, 0, (.int (0 : Int32))), (.putfield 514, 3, 11, 52, 0, .null)]), (439, [(.aload_n 0, 1, 0, 0, 0, .null), (.iconst 0, 1, 0, 0, 0, (.int (0 : Int32))), (.putfield 706, 3, 11, 53, 0, .null)])], [(1, .invokevirtual 816, 3), (67, .goto (-31), 3), (42, .if_icmp .ge 28, 3), (103, .goto 19, 3), (90, .if_icmp .ge 16, 3), (138, .goto 21, 3), (125, .if_icmp .ge 16, 3), (159, .invokevirtual 716, 3), (198, .goto 4, 3), (194, .ifCond .eq 7, 3), (182, .if_icmp .ge 19, 3), (206, .goto (-133), 3), (78, .if_icmp .ge 131, 3), (227, .invokestatic 813, 3), (249, .invokestatic 813, 3), (275, .invokevirtual 770, 3), (344, .goto (-63), 3), (284, .if_icmp .ge 63, 3), (411, .goto (-61), 3), (353, .if_icmp .ge 61, 3), (415, .ifCond .ne 19, 3), (444, .return_, 1)])
set_option maxRecDepth 100000 in
theorem m_Mo_hint : hx_mok M_Mo_hint = true := by decide +kernel
theorem pd_Mo_hint : (parseMethodDescriptor M_Mo_hint.2.1.desc).map (fun q => q.parameters.length) = some 1 := by decide +kernel
theorem y_Mo_hint : hx_okV M_Mo_hint := ⟨⟨lw_g (lw_at lw_m11 69 rfl) rfl, lw_g (lw_at lw_m11 68 rfl) rfl, qs198, lw_g (lw_at lw_m1 12 rfl) rfl, rfl, by decide, by decide, by decide⟩, rfl, by decide, plainFor_of_name (by decide)⟩
noncomputable def f_Mo_hint (x1 : Int32) (h : hH) : Option (Unit × hH) :=
  bS (f_Mo_bring h) fun _ h1 =>
  lz (A := Int32) ((102 : Int32) * x1) fun v1 =>
  gd (vp_in x1 6) <|
  lz (A := Int32) (rdI h1 236 (Int32.toNatClampNeg x1)) fun v2 =>
  lz (wrI h1 192 52 (v2 + (2 : Int32))) fun h2 =>
  gd (vp_in x1 6) <|
  lz (wrI h2 192 53 (rdI h2 237 (Int32.toNatClampNeg x1))) fun h3 =>
  bP (A := hH) (
    wh (A := (Int32 × hH)) (B := hH) (fun p5 =>
        if (rdI p5.2 192 53) ≤ p5.1 then (
          some (.inr p5.2)
        ) else (
          gd (vp_in (((20 : Int32) * x1) + p5.1) 120 ∧ vp_in p5.1 20) <|
          lz (wrI p5.2 218 (Int32.toNatClampNeg p5.1) (rdI p5.2 241 (Int32.toNatClampNeg (((20 : Int32) * x1) + p5.1)))) fun h4 =>
          lz (A := Int32) (p5.1 + (1 : Int32)) fun v8 =>
          some (.inl (v8, h4))
        )
    ) ((0 : Int32), h3)
  ) fun p6 =>
  bP (A := hH) (
    wh (A := (Int32 × hH)) (B := hH) (fun p10 =>
        if (v2 + (2 : Int32)) ≤ p10.1 then (
          some (.inr p10.2)
        ) else (
          bP (A := Int64) (
            if v2 ≤ p10.1 then (
              gd (vp_in (((4 : Int32) * x1) + ((2 : Int32) * (p10.1 - v2))) 24) <|
              some (Int32.toInt64 (rdI p10.2 242 (Int32.toNatClampNeg (((4 : Int32) * x1) + ((2 : Int32) * (p10.1 - v2))))))
            ) else (
              gd (vp_in (v1 + p10.1) 612) <|
              some (Int32.toInt64 (rdI p10.2 238 (Int32.toNatClampNeg (v1 + p10.1))))
            )
          ) fun p12 =>
          bP (A := Int64) (
            if v2 ≤ p10.1 then (
              gd (vp_in ((((4 : Int32) * x1) + ((2 : Int32) * (p10.1 - v2))) + (1 : Int32)) 24) <|
              some (Int32.toInt64 (rdI p10.2 242 (Int32.toNatClampNeg ((((4 : Int32) * x1) + ((2 : Int32) * (p10.1 - v2))) + (1 : Int32)))))
            ) else (
              gd (vp_in (v1 + p10.1) 612) <|
              some (Int32.toInt64 (rdI p10.2 239 (Int32.toNatClampNeg (v1 + p10.1))))
            )
          ) fun p16 =>
          bS (f_Mo_put ((102 : Int32) + p10.1) p12 p16 p10.2) fun _ h5 =>
          gd (vp_in ((102 : Int32) + p10.1) 204) <|
          lz (wrI h5 216 (Int32.toNatClampNeg ((102 : Int32) + p10.1)) (0 : Int32)) fun h6 =>
          bP (A := Int32) (
            if v2 ≤ p10.1 then (
              some (0 : Int32)
            ) else (
              gd (vp_in (v1 + p10.1) 612) <|
              if (rdI h6 240 (Int32.toNatClampNeg (v1 + p10.1))) = 0 then (
                some (0 : Int32)
              ) else (
                some (1 : Int32)
              )
            )
          ) fun p21 =>
          gd (vp_in p10.1 102) <|
          lz (wrI h6 217 (Int32.toNatClampNeg p10.1) (p21 &&& 1)) fun h7 =>
          lz (A := Int32) (p10.1 + (1 : Int32)) fun v26 =>
          some (.inl (v26, h7))
        )
    ) ((0 : Int32), p6)
  ) fun p11 =>
  gd (vp_in ((102 : Int32) + v2) 204) <|
  bP (f_Mo_toPixel (Int32.toInt64 (rdI p11 214 (Int32.toNatClampNeg ((102 : Int32) + v2))))) fun a29 =>
  gd (vp_in ((102 : Int32) + v2) 204) <|
  lz (wrI p11 214 (Int32.toNatClampNeg ((102 : Int32) + v2)) a29) fun h8 =>
  gd (vp_in ((103 : Int32) + v2) 204) <|
  bP (f_Mo_toPixel (Int32.toInt64 (rdI h8 214 (Int32.toNatClampNeg ((103 : Int32) + v2))))) fun a32 =>
  gd (vp_in ((103 : Int32) + v2) 204) <|
  lz (wrI h8 214 (Int32.toNatClampNeg ((103 : Int32) + v2)) a32) fun h9 =>
  lz (wrI h9 220 2 (rdI h9 192 31)) fun h10 =>
  lz (wrI h10 221 2 (rdI h10 192 32)) fun h11 =>
  bS (f_Mo_runProgram (2 : Int32) h11) fun _ h12 =>
  bP (A := hH) (
    wh (A := (Int32 × hH)) (B := hH) (fun p34 =>
        if v2 ≤ p34.1 then (
          some (.inr p34.2)
        ) else (
          gd (vp_in ((102 : Int32) + p34.1) 204 ∧ vp_in (v1 + p34.1) 612) <|
          lz (wrI p34.2 238 (Int32.toNatClampNeg (v1 + p34.1)) (rdI p34.2 214 (Int32.toNatClampNeg ((102 : Int32) + p34.1)))) fun h13 =>
          gd (vp_in ((102 : Int32) + p34.1) 204 ∧ vp_in (v1 + p34.1) 612) <|
          lz (wrI h13 239 (Int32.toNatClampNeg (v1 + p34.1)) (rdI h13 215 (Int32.toNatClampNeg ((102 : Int32) + p34.1)))) fun h14 =>
          gd (vp_in p34.1 102 ∧ vp_in (v1 + p34.1) 612) <|
          lz (wrI h14 240 (Int32.toNatClampNeg (v1 + p34.1)) ((rdI h14 217 (Int32.toNatClampNeg p34.1)) &&& 1)) fun h15 =>
          lz (A := Int32) (p34.1 + (1 : Int32)) fun v39 =>
          some (.inl (v39, h15))
        )
    ) ((0 : Int32), h12)
  ) fun p35 =>
  bP (A := hH) (
    wh (A := (Int32 × hH)) (B := hH) (fun p41 =>
        if (2 : Int32) ≤ p41.1 then (
          some (.inr p41.2)
        ) else (
          gd (vp_in (((102 : Int32) + v2) + p41.1) 204 ∧ vp_in (((4 : Int32) * x1) + ((2 : Int32) * p41.1)) 24) <|
          lz (wrI p41.2 242 (Int32.toNatClampNeg (((4 : Int32) * x1) + ((2 : Int32) * p41.1))) (rdI p41.2 214 (Int32.toNatClampNeg (((102 : Int32) + v2) + p41.1)))) fun h16 =>
          gd (vp_in (((102 : Int32) + v2) + p41.1) 204 ∧ vp_in ((((4 : Int32) * x1) + ((2 : Int32) * p41.1)) + (1 : Int32)) 24) <|
          lz (wrI h16 242 (Int32.toNatClampNeg ((((4 : Int32) * x1) + ((2 : Int32) * p41.1)) + (1 : Int32))) (rdI h16 215 (Int32.toNatClampNeg (((102 : Int32) + v2) + p41.1)))) fun h17 =>
          lz (A := Int32) (p41.1 + (1 : Int32)) fun v45 =>
          some (.inl (v45, h17))
        )
    ) ((0 : Int32), p35)
  ) fun p42 =>
  bP (A := hH) (
    if x1 = 0 then (
      lz (wrI p42 192 126 (rdI p42 192 87)) fun h18 =>
      lz (wrI h18 192 127 (rdI h18 192 88)) fun h19 =>
      some h19
    ) else (
      some p42
    )
  ) fun p47 =>
  lz (wrI p47 192 52 (0 : Int32)) fun h20 =>
  lz (wrI h20 192 53 (0 : Int32)) fun h21 =>
  some ((), h21)
set_option maxRecDepth 20000 in
theorem k_Mo_hint (x1 : Int32) (h : hH) : hx_kS S0 M_Mo_hint 11 NT [(.ref 192), (.int x1)] h (f_Mo_hint x1 h) cvU := by
  have hm := m_Mo_hint
  show hx_P S0 M_Mo_hint 11 0 [(0, (.ref 192)), (1, (.int x1))] [] NT h (f_Mo_hint x1 h) (hx_Rc cvU NT)
  unfold f_Mo_hint
  refine hp_cVS (M2 := M_Mo_bring) hm (at1 0 rfl) (as := []) (rest := []) (z := 192) rfl (by exact trivial) (pc' := 1) rfl 0 rfl (lw_g (lw_at lw_m11 70 rfl) rfl) y_Mo_bring rfl (d2 := 1) ⟨le_b rfl, pd_Mo_bring, le_b rfl⟩ (le_b rfl) og_192 (k_Mo_bring h) (fun _ h1 => ?_)
  refine hp_z hm (at1 1 rfl) (fun (v1 : Int32) => [(2, (.int v1)), (0, (.ref 192)), (1, (.int x1))]) (fun (v1 : Int32) => []) rfl (by exact trivial) (pc' := 9) rfl (fun v1 => ?_)
  refine hp_GZ hm (at1 2 rfl) (fun (v2 : Int32) => [(3, (.int v2)), (2, (.int v1)), (0, (.ref 192)), (1, (.int x1))]) (fun (v2 : Int32) => []) rfl (fun hP => (by exact ⟨og_192, ⟨og_236, hP⟩⟩)) (pc' := 16) rfl (fun q3 v2 => ?_)
  refine hp_w hm (at1 3 rfl) (L' := [(3, (.int v2)), (2, (.int v1)), (0, (.ref 192)), (1, (.int x1))]) rfl (by exact og_192) (pc' := 23) rfl (fun h2 => ?_)
  refine hp_GW hm (at1 4 rfl) (L' := [(3, (.int v2)), (2, (.int v1)), (0, (.ref 192)), (1, (.int x1))]) rfl (fun hP => (by exact ⟨⟨og_192, ⟨og_237, hP⟩⟩, og_192⟩)) (pc' := 33) rfl (fun q4 h3 => ?_)
  refine hp_b hm (at1 5 rfl) (L' := [(4, (.int (0 : Int32))), (3, (.int v2)), (2, (.int v1)), (0, (.ref 192)), (1, (.int x1))]) (st' := []) rfl (by exact trivial) (pc' := 36) rfl ?_
  refine hp_J 70 (fun (p6 : hH) => [(0, (.ref 192)), (1, (.int x1)), (2, (.int v1)), (3, (.int v2))]) (fun (p6 : hH) => []) (fun (p6 : hH) => p6) ?_ (fun p6 => ?_)
  · refine hp_s [3, 4, 2, 1, 0] rfl (L' := [(0, (.ref 192)), (1, (.int x1)), (2, (.int v1)), (3, (.int v2)), (4, (.int (0 : Int32)))]) ?_
    refine hp_wh (fun (p5 : (Int32 × hH)) => [(0, (.ref 192)), (1, (.int x1)), (2, (.int v1)), (3, (.int v2)), (4, (.int p5.1))]) [] (fun (p5 : (Int32 × hH)) => p5.2) (fun p5 => ?_) ((0 : Int32), h3)
    refine hp_ic_ge hm (at1 6 rfl) rfl (by exact og_192) (pc' := 42) rfl 2 rfl (tgt := 70) rfl (fun c9 => ?_) (fun c9 => ?_)
    · exact hp_lf [0, 1, 2, 3] rfl (fun _ e => e)
    · refine hp_GW hm (at1 7 rfl) (L' := [(0, (.ref 192)), (1, (.int x1)), (2, (.int v1)), (3, (.int v2)), (4, (.int p5.1))]) rfl (fun hP => (by exact ⟨⟨⟨og_192, og_192⟩, ⟨og_241, hP.1⟩⟩, ⟨og_218, hP.2⟩⟩)) (pc' := 64) rfl (fun q7 h4 => ?_)
      refine hp_z hm (at1 8 rfl) (fun (v8 : Int32) => [(4, (.int v8)), (0, (.ref 192)), (1, (.int x1)), (2, (.int v1)), (3, (.int v2))]) (fun (v8 : Int32) => []) rfl (by exact trivial) (pc' := 67) rfl (fun v8 => ?_)
      refine hp_goto hm 1 rfl (tgt := 36) rfl ?_
      exact hp_lf [1, 2, 3, 4, 0] rfl (fun _ e => e)
  · refine hp_b hm (at1 9 rfl) (L' := [(4, (.int (0 : Int32))), (0, (.ref 192)), (1, (.int x1)), (2, (.int v1)), (3, (.int v2))]) (st' := []) rfl (by exact trivial) (pc' := 73) rfl ?_
    refine hp_J 209 (fun (p11 : hH) => [(0, (.ref 192)), (1, (.int x1)), (2, (.int v1)), (3, (.int v2))]) (fun (p11 : hH) => []) (fun (p11 : hH) => p11) ?_ (fun p11 => ?_)
    · refine hp_s [1, 2, 3, 4, 0] rfl (L' := [(0, (.ref 192)), (1, (.int x1)), (2, (.int v1)), (3, (.int v2)), (4, (.int (0 : Int32)))]) ?_
      refine hp_wh (fun (p10 : (Int32 × hH)) => [(0, (.ref 192)), (1, (.int x1)), (2, (.int v1)), (3, (.int v2)), (4, (.int p10.1))]) [] (fun (p10 : (Int32 × hH)) => p10.2) (fun p10 => ?_) ((0 : Int32), p6)
      refine hp_ic_ge hm (at1 10 rfl) rfl (by exact trivial) (pc' := 78) rfl 12 rfl (tgt := 209) rfl (fun c27 => ?_) (fun c27 => ?_)
      · exact hp_lf [0, 1, 2, 3] rfl (fun _ e => e)
      · refine hp_J 122 (fun (p12 : Int64) => [(0, (.ref 192)), (1, (.int x1)), (2, (.int v1)), (3, (.int v2)), (4, (.int p10.1))]) (fun (p12 : Int64) => [(.long p12), (.int ((102 : Int32) + p10.1)), (.ref 192)]) (fun (p12 : Int64) => p10.2) ?_ (fun p12 => ?_)
        · refine hp_ic_ge hm (at1 11 rfl) rfl (by exact trivial) (pc' := 90) rfl 4 rfl (tgt := 106) rfl (fun c15 => ?_) (fun c15 => ?_)
          · refine hp_G hm (at1 12 rfl) (L' := [(0, (.ref 192)), (1, (.int x1)), (2, (.int v1)), (3, (.int v2)), (4, (.int p10.1))]) (st' := [(.long (Int32.toInt64 (rdI p10.2 242 (Int32.toNatClampNeg (((4 : Int32) * x1) + ((2 : Int32) * (p10.1 - v2))))))), (.int ((102 : Int32) + p10.1)), (.ref 192)]) rfl (fun hP => (by exact ⟨og_192, ⟨og_242, hP⟩⟩)) (pc' := 122) rfl (fun q13 => ?_)
            exact hp_lf [0, 1, 2, 3, 4] rfl (fun _ e => e)
          · refine hp_G hm (at1 13 rfl) (L' := [(0, (.ref 192)), (1, (.int x1)), (2, (.int v1)), (3, (.int v2)), (4, (.int p10.1))]) (st' := [(.long (Int32.toInt64 (rdI p10.2 238 (Int32.toNatClampNeg (v1 + p10.1))))), (.int ((102 : Int32) + p10.1)), (.ref 192)]) rfl (fun hP => (by exact ⟨og_192, ⟨og_238, hP⟩⟩)) (pc' := 103) rfl (fun q14 => ?_)
            refine hp_goto hm 3 rfl (tgt := 122) rfl ?_
            exact hp_lf [0, 1, 2, 3, 4] rfl (fun _ e => e)
        · refine hp_J 159 (fun (p16 : Int64) => [(0, (.ref 192)), (1, (.int x1)), (2, (.int v1)), (3, (.int v2)), (4, (.int p10.1))]) (fun (p16 : Int64) => [(.long p16), (.long p12), (.int ((102 : Int32) + p10.1)), (.ref 192)]) (fun (p16 : Int64) => p10.2) ?_ (fun p16 => ?_)
          · refine hp_ic_ge hm (at1 14 rfl) rfl (by exact trivial) (pc' := 125) rfl 6 rfl (tgt := 141) rfl (fun c19 => ?_) (fun c19 => ?_)
            · refine hp_G hm (at1 15 rfl) (L' := [(0, (.ref 192)), (1, (.int x1)), (2, (.int v1)), (3, (.int v2)), (4, (.int p10.1))]) (st' := [(.long (Int32.toInt64 (rdI p10.2 242 (Int32.toNatClampNeg ((((4 : Int32) * x1) + ((2 : Int32) * (p10.1 - v2))) + (1 : Int32)))))), (.long p12), (.int ((102 : Int32) + p10.1)), (.ref 192)]) rfl (fun hP => (by exact ⟨og_192, ⟨og_242, hP⟩⟩)) (pc' := 159) rfl (fun q17 => ?_)
              exact hp_lf [0, 1, 2, 3, 4] rfl (fun _ e => e)
            · refine hp_G hm (at1 16 rfl) (L' := [(0, (.ref 192)), (1, (.int x1)), (2, (.int v1)), (3, (.int v2)), (4, (.int p10.1))]) (st' := [(.long (Int32.toInt64 (rdI p10.2 239 (Int32.toNatClampNeg (v1 + p10.1))))), (.long p12), (.int ((102 : Int32) + p10.1)), (.ref 192)]) rfl (fun hP => (by exact ⟨og_192, ⟨og_239, hP⟩⟩)) (pc' := 138) rfl (fun q18 => ?_)
              refine hp_goto hm 5 rfl (tgt := 159) rfl ?_
              exact hp_lf [0, 1, 2, 3, 4] rfl (fun _ e => e)
          · refine hp_cVS (M2 := M_Mo_put) hm at0 (as := [(.int ((102 : Int32) + p10.1)), (.long p12), (.long p16)]) (rest := []) (z := 192) rfl (by exact trivial) (pc' := 159) rfl 7 rfl (lw_g (lw_at lw_m9 187 rfl) rfl) y_Mo_put rfl (d2 := 1) ⟨le_b rfl, pd_Mo_put, le_b rfl⟩ (le_b rfl) og_192 (k_Mo_put ((102 : Int32) + p10.1) p12 p16 p10.2) (fun _ h5 => ?_)
            refine hp_GW hm (at1 17 rfl) (L' := [(0, (.ref 192)), (1, (.int x1)), (2, (.int v1)), (3, (.int v2)), (4, (.int p10.1))]) rfl (fun hP => (by exact ⟨og_192, ⟨og_216, hP⟩⟩)) (pc' := 173) rfl (fun q20 h6 => ?_)
            refine hp_J 202 (fun (p21 : Int32) => [(0, (.ref 192)), (1, (.int x1)), (2, (.int v1)), (3, (.int v2)), (4, (.int p10.1))]) (fun (p21 : Int32) => [(.int p21), (.int p10.1), (.ref 217)]) (fun (p21 : Int32) => h6) ?_ (fun p21 => ?_)
            · refine hp_ic_ge hm (at1 18 rfl) rfl (by exact og_192) (pc' := 182) rfl 10 rfl (tgt := 201) rfl (fun c24 => ?_) (fun c24 => ?_)
              · refine hp_b hm (at1 19 rfl) (L' := [(0, (.ref 192)), (1, (.int x1)), (2, (.int v1)), (3, (.int v2)), (4, (.int p10.1))]) (st' := [(.int (0 : Int32)), (.int p10.1), (.ref 217)]) rfl (by exact trivial) (pc' := 202) rfl ?_
                exact hp_lf [0, 1, 2, 3, 4] rfl (fun _ e => e)
              · refine hp_G hm (at1 20 rfl) (L' := [(0, (.ref 192)), (1, (.int x1)), (2, (.int v1)), (3, (.int v2)), (4, (.int p10.1))]) (st' := [(.int (rdI h6 240 (Int32.toNatClampNeg (v1 + p10.1)))), (.int p10.1), (.ref 217)]) rfl (fun hP => (by exact ⟨og_192, ⟨og_240, hP⟩⟩)) (pc' := 194) rfl (fun q22 => ?_)
                refine hp_if_eq hm at0 rfl (by exact trivial) (pc' := 194) rfl 9 rfl (tgt := 201) rfl (fun c23 => ?_) (fun c23 => ?_)
                · refine hp_b hm (at1 19 rfl) (L' := [(0, (.ref 192)), (1, (.int x1)), (2, (.int v1)), (3, (.int v2)), (4, (.int p10.1))]) (st' := [(.int (0 : Int32)), (.int p10.1), (.ref 217)]) rfl (by exact trivial) (pc' := 202) rfl ?_
                  exact hp_lf [0, 1, 2, 3, 4] rfl (fun _ e => e)
                · refine hp_b hm (at1 21 rfl) (L' := [(0, (.ref 192)), (1, (.int x1)), (2, (.int v1)), (3, (.int v2)), (4, (.int p10.1))]) (st' := [(.int (1 : Int32)), (.int p10.1), (.ref 217)]) rfl (by exact trivial) (pc' := 198) rfl ?_
                  refine hp_goto hm 8 rfl (tgt := 202) rfl ?_
                  exact hp_lf [0, 1, 2, 3, 4] rfl (fun _ e => e)
            · refine hp_GW hm (at1 22 rfl) (L' := [(0, (.ref 192)), (1, (.int x1)), (2, (.int v1)), (3, (.int v2)), (4, (.int p10.1))]) rfl (fun hP => (by exact ⟨og_217, hP⟩)) (pc' := 203) rfl (fun q25 h7 => ?_)
              refine hp_z hm (at1 23 rfl) (fun (v26 : Int32) => [(4, (.int v26)), (0, (.ref 192)), (1, (.int x1)), (2, (.int v1)), (3, (.int v2))]) (fun (v26 : Int32) => []) rfl (by exact trivial) (pc' := 206) rfl (fun v26 => ?_)
              refine hp_goto hm 11 rfl (tgt := 73) rfl ?_
              exact hp_lf [1, 2, 3, 4, 0] rfl (fun _ e => e)
    · refine hp_G hm (at1 24 rfl) (L' := [(0, (.ref 192)), (1, (.int x1)), (2, (.int v1)), (3, (.int v2))]) (st' := [(.long (Int32.toInt64 (rdI p11 214 (Int32.toNatClampNeg ((102 : Int32) + v2))))), (.int ((102 : Int32) + v2)), (.ref 214)]) rfl (fun hP => (by exact ⟨⟨og_192, og_192⟩, ⟨og_214, hP⟩⟩)) (pc' := 227) rfl (fun q28 => ?_)
      refine hp_cSP (M2 := M_Mo_toPixel) hm at0 (as := [(.long (Int32.toInt64 (rdI p11 214 (Int32.toNatClampNeg ((102 : Int32) + v2)))))]) (rest := [(.int ((102 : Int32) + v2)), (.ref 214)]) rfl (by exact trivial) (pc' := 227) rfl 13 rfl (lw_g (lw_at lw_m11 60 rfl) rfl) y_Mo_toPixel rfl (d2 := 1) ⟨le_b rfl, pd_Mo_toPixel, le_b rfl⟩ (le_b rfl) (k_Mo_toPixel (Int32.toInt64 (rdI p11 214 (Int32.toNatClampNeg ((102 : Int32) + v2)))) p11) (fun a29 => ?_)
      refine hp_GW hm (at1 25 rfl) (L' := [(0, (.ref 192)), (1, (.int x1)), (2, (.int v1)), (3, (.int v2))]) rfl (fun hP => (by exact ⟨og_214, hP⟩)) (pc' := 231) rfl (fun q30 h8 => ?_)
      refine hp_G hm (at1 26 rfl) (L' := [(0, (.ref 192)), (1, (.int x1)), (2, (.int v1)), (3, (.int v2))]) (st' := [(.long (Int32.toInt64 (rdI h8 214 (Int32.toNatClampNeg ((103 : Int32) + v2))))), (.int ((103 : Int32) + v2)), (.ref 214)]) rfl (fun hP => (by exact ⟨⟨og_192, og_192⟩, ⟨og_214, hP⟩⟩)) (pc' := 249) rfl (fun q31 => ?_)
      refine hp_cSP (M2 := M_Mo_toPixel) hm at0 (as := [(.long (Int32.toInt64 (rdI h8 214 (Int32.toNatClampNeg ((103 : Int32) + v2)))))]) (rest := [(.int ((103 : Int32) + v2)), (.ref 214)]) rfl (by exact trivial) (pc' := 249) rfl 14 rfl (lw_g (lw_at lw_m11 60 rfl) rfl) y_Mo_toPixel rfl (d2 := 1) ⟨le_b rfl, pd_Mo_toPixel, le_b rfl⟩ (le_b rfl) (k_Mo_toPixel (Int32.toInt64 (rdI h8 214 (Int32.toNatClampNeg ((103 : Int32) + v2)))) h8) (fun a32 => ?_)
      refine hp_GW hm (at1 27 rfl) (L' := [(0, (.ref 192)), (1, (.int x1)), (2, (.int v1)), (3, (.int v2))]) rfl (fun hP => (by exact ⟨og_214, hP⟩)) (pc' := 253) rfl (fun q33 h9 => ?_)
      refine hp_w hm (at1 28 rfl) (L' := [(0, (.ref 192)), (1, (.int x1)), (2, (.int v1)), (3, (.int v2))]) rfl (by exact ⟨⟨og_192, og_192⟩, ⟨og_220, (show vp_in (2 : Int32) 3 from vp_lit (by decide))⟩⟩) (pc' := 263) rfl (fun h10 => ?_)
      refine hp_w hm (at1 29 rfl) (L' := [(0, (.ref 192)), (1, (.int x1)), (2, (.int v1)), (3, (.int v2))]) rfl (by exact ⟨⟨og_192, og_192⟩, ⟨og_221, (show vp_in (2 : Int32) 3 from vp_lit (by decide))⟩⟩) (pc' := 273) rfl (fun h11 => ?_)
      refine hp_cVS (M2 := M_Mo_runProgram) hm (at1 30 rfl) (as := [(.int (2 : Int32))]) (rest := []) (z := 192) rfl (by exact trivial) (pc' := 275) rfl 15 rfl (lw_g (lw_at lw_m9 232 rfl) rfl) y_Mo_runProgram rfl (d2 := 10) ⟨le_b rfl, pd_Mo_runProgram, le_b rfl⟩ (le_b rfl) og_192 (k_Mo_runProgram (2 : Int32) h11) (fun _ h12 => ?_)
      refine hp_b hm (at1 31 rfl) (L' := [(4, (.int (0 : Int32))), (0, (.ref 192)), (1, (.int x1)), (2, (.int v1)), (3, (.int v2))]) (st' := []) rfl (by exact trivial) (pc' := 281) rfl ?_
      refine hp_J 347 (fun (p35 : hH) => [(0, (.ref 192)), (1, (.int x1)), (3, (.int v2))]) (fun (p35 : hH) => []) (fun (p35 : hH) => p35) ?_ (fun p35 => ?_)
      · refine hp_s [1, 2, 3, 4, 0] rfl (L' := [(0, (.ref 192)), (1, (.int x1)), (2, (.int v1)), (3, (.int v2)), (4, (.int (0 : Int32)))]) ?_
        refine hp_wh (fun (p34 : (Int32 × hH)) => [(0, (.ref 192)), (1, (.int x1)), (2, (.int v1)), (3, (.int v2)), (4, (.int p34.1))]) [] (fun (p34 : (Int32 × hH)) => p34.2) (fun p34 => ?_) ((0 : Int32), h12)
        refine hp_ic_ge hm (at1 32 rfl) rfl (by exact trivial) (pc' := 284) rfl 17 rfl (tgt := 347) rfl (fun c40 => ?_) (fun c40 => ?_)
        · exact hp_lf [0, 1, 3] rfl (fun _ e => e)
        · refine hp_GW hm (at1 33 rfl) (L' := [(0, (.ref 192)), (1, (.int x1)), (2, (.int v1)), (3, (.int v2)), (4, (.int p34.1))]) rfl (fun hP => (by exact ⟨⟨⟨og_192, og_192⟩, ⟨og_214, hP.1⟩⟩, ⟨og_238, hP.2⟩⟩)) (pc' := 306) rfl (fun q36 h13 => ?_)
          refine hp_GW hm (at1 34 rfl) (L' := [(0, (.ref 192)), (1, (.int x1)), (2, (.int v1)), (3, (.int v2)), (4, (.int p34.1))]) rfl (fun hP => (by exact ⟨⟨⟨og_192, og_192⟩, ⟨og_215, hP.1⟩⟩, ⟨og_239, hP.2⟩⟩)) (pc' := 325) rfl (fun q37 h14 => ?_)
          refine hp_GW hm (at1 35 rfl) (L' := [(0, (.ref 192)), (1, (.int x1)), (2, (.int v1)), (3, (.int v2)), (4, (.int p34.1))]) rfl (fun hP => (by exact ⟨⟨⟨og_192, og_192⟩, ⟨og_217, hP.1⟩⟩, ⟨og_240, hP.2⟩⟩)) (pc' := 341) rfl (fun q38 h15 => ?_)
          refine hp_z hm (at1 36 rfl) (fun (v39 : Int32) => [(4, (.int v39)), (0, (.ref 192)), (1, (.int x1)), (2, (.int v1)), (3, (.int v2))]) (fun (v39 : Int32) => []) rfl (by exact trivial) (pc' := 344) rfl (fun v39 => ?_)
          refine hp_goto hm 16 rfl (tgt := 281) rfl ?_
          exact hp_lf [1, 2, 3, 4, 0] rfl (fun _ e => e)
      · refine hp_b hm (at1 37 rfl) (L' := [(4, (.int (0 : Int32))), (0, (.ref 192)), (1, (.int x1)), (3, (.int v2))]) (st' := []) rfl (by exact trivial) (pc' := 350) rfl ?_
        refine hp_J 414 (fun (p42 : hH) => [(0, (.ref 192)), (1, (.int x1))]) (fun (p42 : hH) => []) (fun (p42 : hH) => p42) ?_ (fun p42 => ?_)
        · refine hp_s [1, 2, 3, 0] rfl (L' := [(0, (.ref 192)), (1, (.int x1)), (3, (.int v2)), (4, (.int (0 : Int32)))]) ?_
          refine hp_wh (fun (p41 : (Int32 × hH)) => [(0, (.ref 192)), (1, (.int x1)), (3, (.int v2)), (4, (.int p41.1))]) [] (fun (p41 : (Int32 × hH)) => p41.2) (fun p41 => ?_) ((0 : Int32), p35)
          refine hp_ic_ge hm (at1 38 rfl) rfl (by exact trivial) (pc' := 353) rfl 19 rfl (tgt := 414) rfl (fun c46 => ?_) (fun c46 => ?_)
          · exact hp_lf [0, 1] rfl (fun _ e => e)
          · refine hp_GW hm (at1 39 rfl) (L' := [(0, (.ref 192)), (1, (.int x1)), (3, (.int v2)), (4, (.int p41.1))]) rfl (fun hP => (by exact ⟨⟨⟨og_192, og_192⟩, ⟨og_214, hP.1⟩⟩, ⟨og_242, hP.2⟩⟩)) (pc' := 381) rfl (fun q43 h16 => ?_)
            refine hp_GW hm (at1 40 rfl) (L' := [(0, (.ref 192)), (1, (.int x1)), (3, (.int v2)), (4, (.int p41.1))]) rfl (fun hP => (by exact ⟨⟨⟨og_192, og_192⟩, ⟨og_215, hP.1⟩⟩, ⟨og_242, hP.2⟩⟩)) (pc' := 408) rfl (fun q44 h17 => ?_)
            refine hp_z hm (at1 41 rfl) (fun (v45 : Int32) => [(4, (.int v45)), (0, (.ref 192)), (1, (.int x1)), (3, (.int v2))]) (fun (v45 : Int32) => []) rfl (by exact trivial) (pc' := 411) rfl (fun v45 => ?_)
            refine hp_goto hm 18 rfl (tgt := 350) rfl ?_
            exact hp_lf [1, 2, 3, 0] rfl (fun _ e => e)
        · refine hp_J 434 (fun (p47 : hH) => [(0, (.ref 192))]) (fun (p47 : hH) => []) (fun (p47 : hH) => p47) ?_ (fun p47 => ?_)
          · refine hp_if_ne hm (at1 42 rfl) rfl (by exact trivial) (pc' := 415) rfl 20 rfl (tgt := 434) rfl (fun c48 => ?_) (fun c48 => ?_)
            · exact hp_lf [0] rfl (fun _ e => e)
            · refine hp_w hm (at1 43 rfl) (L' := [(0, (.ref 192)), (1, (.int x1))]) rfl (by exact ⟨og_192, og_192⟩) (pc' := 426) rfl (fun h18 => ?_)
              refine hp_w hm (at1 44 rfl) (L' := [(0, (.ref 192)), (1, (.int x1))]) rfl (by exact ⟨og_192, og_192⟩) (pc' := 434) rfl (fun h19 => ?_)
              exact hp_lf [0] rfl (fun _ e => e)
          · refine hp_w hm (at1 45 rfl) (L' := [(0, (.ref 192))]) rfl (by exact og_192) (pc' := 439) rfl (fun h20 => ?_)
            refine hp_w hm (at1 46 rfl) (L' := [(0, (.ref 192))]) rfl (by exact og_192) (pc' := 444) rfl (fun h21 => ?_)
            exact hp_vr hm 21 rfl rfl (fun _ e => e)
