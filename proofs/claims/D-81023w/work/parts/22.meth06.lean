/-! LAYER 2b: methods (printed by gen/dec.py): Ma_step Ma_run Zo_copy Se_copy St_copy Mk_setSize HH_right HH_fails Mk_begin Ou_clear Mk_simple Mk_want HH_snapped Ou_copyPhantoms Mk_join Ou_isWithin Mk_work Mk_build Mk_finish In_add In_go In_layContour In_lay Ou_contourOf HH_point HH_told HH_held -/
/-! HintHouse$Machine.step()V -/
def M_Ma_step : hM := (4, ⟨"HintHouse$Machine", "step", "()V"⟩, prog_6_method_25_code, 2, (Option.none : Option Jvm.ClassFile.FieldType), [], [(0, [(.aload_n 0, 1, 0, 0, 0, .null), (.aload_n 0, 1, 0, 0, 0, .null), (.getfield 164, 3, 4, 11, 0, .null), (.putfield 167, 3, 4, 12, 0, .null)]), (8, [(.aload_n 0, 1, 0, 0, 0, .null), (.aload_n 0, 1, 0, 0, 0, .null), (.getfield 87, 3, 4, 5, 0, .null), (.sipush 20000, 3, 0, 0, 0, (.int (20000 : Int32)))]), (23, [(.iconst 0, 1, 0, 0, 0, (.int (0 : Int32)))]), (19, [(.iconst 1, 1, 0, 0, 0, (.int (1 : Int32)))]), (24, [(.bipush 10, 2, 0, 0, 0, (.int (10 : Int32)))]), (29, [(.aload_n 0, 1, 0, 0, 0, .null), (.dup, 1, 0, 0, 0, .null), (.getfield 87, 3, 4, 5, 0, .null), (.iconst 1, 1, 0, 0, 0, (.int (1 : Int32))), (.iadd, 1, 0, 0, 0, .null), (.putfield 87, 3, 4, 5, 0, .null)]), (39, [(.aload_n 0, 1, 0, 0, 0, .null), (.aload_n 0, 1, 0, 0, 0, .null), (.getfield 164, 3, 4, 11, 0, .null)]), (47, [(.istore_n 1, 1, 0, 0, 0, .null), (.aload_n 0, 1, 0, 0, 0, .null), (.dup, 1, 0, 0, 0, .null), (.getfield 164, 3, 4, 11, 0, .null), (.iconst 1, 1, 0, 0, 0, (.int (1 : Int32))), (.iadd, 1, 0, 0, 0, .null), (.putfield 164, 3, 4, 11, 0, .null)]), (58, [(.iload_n 1, 1, 0, 0, 0, .null), (.sipush 192, 3, 0, 0, 0, (.int (192 : Int32)))]), (73, [(.iload_n 1, 1, 0, 0, 0, .null), (.sipush 176, 3, 0, 0, 0, (.int (176 : Int32)))]), (119, [(.iload_n 1, 1, 0, 0, 0, .null), (.bipush 32, 2, 0, 0, 0, (.int (32 : Int32)))]), (133, [(.iload_n 1, 1, 0, 0, 0, .null), (.bipush 64, 2, 0, 0, 0, (.int (64 : Int32)))]), (147, [(.iload_n 1, 1, 0, 0, 0, .null), (.bipush 96, 2, 0, 0, 0, (.int (96 : Int32)))]), (161, [(.aload_n 0, 1, 0, 0, 0, .null), (.iload_n 1, 1, 0, 0, 0, .null)]), (153, [(.aload_n 0, 1, 0, 0, 0, .null), (.iload_n 1, 1, 0, 0, 0, .null)]), (139, [(.aload_n 0, 1, 0, 0, 0, .null), (.iload_n 1, 1, 0, 0, 0, .null)]), (125, [(.aload_n 0, 1, 0, 0, 0, .null), (.iload_n 1, 1, 0, 0, 0, .null)]), (80, [(.aload_n 0, 1, 0, 0, 0, .null), (.iload_n 1, 1, 0, 0, 0, .null), (.sipush 184, 3, 0, 0, 0, (.int (184 : Int32)))]), (96, [(.iload_n 1, 1, 0, 0, 0, .null), (.sipush 183, 3, 0, 0, 0, (.int (183 : Int32))), (.isub, 1, 0, 0, 0, .null)]), (88, [(.iload_n 1, 1, 0, 0, 0, .null), (.sipush 175, 3, 0, 0, 0, (.int (175 : Int32))), (.isub, 1, 0, 0, 0, .null)]), (101, [(.iload_n 1, 1, 0, 0, 0, .null), (.sipush 184, 3, 0, 0, 0, (.int (184 : Int32)))]), (112, [(.iconst 0, 1, 0, 0, 0, (.int (0 : Int32)))]), (108, [(.iconst 1, 1, 0, 0, 0, (.int (1 : Int32)))]), (65, [(.aload_n 0, 1, 0, 0, 0, .null), (.iload_n 1, 1, 0, 0, 0, .null)])], [(20, .goto 4, 3), (16, .if_icmp .ge 7, 3), (26, .invokevirtual 187, 3), (44, .invokevirtual 197, 3), (163, .invokevirtual 322, 3), (166, .return_, 1), (155, .invokevirtual 319, 3), (158, .goto 8, 3), (150, .if_icmp .ge 11, 3), (141, .invokevirtual 316, 3), (144, .goto 22, 3), (136, .if_icmp .ge 11, 3), (127, .invokevirtual 314, 3), (130, .goto 36, 3), (122, .if_icmp .ge 11, 3), (93, .goto 8, 3), (85, .if_icmp .ge 11, 3), (109, .goto 4, 3), (105, .if_icmp .lt 7, 3), (113, .invokevirtual 310, 3), (116, .goto 50, 3), (77, .if_icmp .lt 42, 3), (67, .invokevirtual 307, 3), (70, .goto 96, 3), (62, .if_icmp .lt 11, 3)])
set_option maxRecDepth 100000 in
theorem m_Ma_step : hx_mok M_Ma_step = true := by decide +kernel
theorem pd_Ma_step : (parseMethodDescriptor M_Ma_step.2.1.desc).map (fun q => q.parameters.length) = some 0 := by decide +kernel
theorem y_Ma_step : hx_okV M_Ma_step := ⟨⟨lw_g (lw_at lw_m5 207 rfl) rfl, lw_g (lw_at lw_m5 206 rfl) rfl, qs40, lw_g (lw_at lw_m1 5 rfl) rfl, rfl, by decide, by decide, by decide⟩, rfl, by decide, plainFor_of_name (by decide)⟩
noncomputable def f_Ma_step (h : hH) : Option (hH ⊕ (Unit × hH)) :=
  lz (wrI h 22 12 (rdI h 22 11)) fun h1 =>
  lz (A := Int32) (if (20000 : Int32) ≤ (rdI h1 22 5) then (0 : Int32) else (1 : Int32)) fun p1 =>
  bT (f_Ma_want p1 (10 : Int32) h1) fun _ h2 =>
  lz (wrI h2 22 5 ((rdI h2 22 5) + (1 : Int32))) fun h3 =>
  bT (f_Ma_byteAt (rdI h3 22 11) h3) fun a3 h4 =>
  lz (wrI h4 22 11 ((rdI h4 22 11) + (1 : Int32))) fun h5 =>
  if a3 < (192 : Int32) then (
    if a3 < (176 : Int32) then (
      if (32 : Int32) ≤ a3 then (
        if (64 : Int32) ≤ a3 then (
          if (96 : Int32) ≤ a3 then (
            bT (f_Ma_upper a3 h5) fun _ h6 =>
            some (.inr ((), h6))
          ) else (
            bT (f_Ma_middle a3 h5) fun _ h7 =>
            some (.inr ((), h7))
          )
        ) else (
          bT (f_Ma_low a3 h5) fun _ h8 =>
          some (.inr ((), h8))
        )
      ) else (
        bT (f_Ma_settings a3 h5) fun _ h9 =>
        some (.inr ((), h9))
      )
    ) else (
      lz (A := Int32) (if (184 : Int32) ≤ a3 then (a3 - (183 : Int32)) else (a3 - (175 : Int32))) fun p7 =>
      lz (A := Int32) (if a3 < (184 : Int32) then (0 : Int32) else (1 : Int32)) fun p9 =>
      bT (f_Ma_pushBytes p7 p9 h5) fun _ h10 =>
      some (.inr ((), h10))
    )
  ) else (
    bT (f_Ma_relative a3 h5) fun _ h11 =>
    some (.inr ((), h11))
  )
set_option maxRecDepth 20000 in
theorem k_Ma_step (h : hH) : hx_kT S0 M_Ma_step 13 NT [(.ref 22)] h (f_Ma_step h) cvU := by
  have hm := m_Ma_step
  show hx_P S0 M_Ma_step 13 0 [(0, (.ref 22))] [] NT h (f_Ma_step h) (hx_T NT (hx_Rc cvU NT))
  unfold f_Ma_step
  refine hp_w hm (at1 0 rfl) (L' := [(0, (.ref 22))]) rfl (by exact ⟨og_22, og_22⟩) (pc' := 8) rfl (fun h1 => ?_)
  refine hp_JZ 24 (fun (p1 : Int32) => [(0, (.ref 22))]) (fun (p1 : Int32) => [(.int p1), (.ref 22)]) (fun (p1 : Int32) => h1) ?_ (fun p1 => ?_)
  · refine hp_sv0 ?_
    refine hp_ic_ge hm (at1 1 rfl) rfl (by exact og_22) (pc' := 16) rfl 1 rfl (tgt := 23) rfl (fun c2 => ?_) (fun c2 => ?_)
    · refine hp_b hm (at1 2 rfl) (L' := [(0, (.ref 22))]) (st' := [(.int (0 : Int32)), (.ref 22)]) rfl (by exact trivial) (pc' := 24) rfl ?_
      exact hp_lf [0] rfl (fun _ e => e)
    · refine hp_b hm (at1 3 rfl) (L' := [(0, (.ref 22))]) (st' := [(.int (1 : Int32)), (.ref 22)]) rfl (by exact trivial) (pc' := 20) rfl ?_
      refine hp_goto hm 0 rfl (tgt := 24) rfl ?_
      exact hp_lf [0] rfl (fun _ e => e)
  · refine hp_cVT (M2 := M_Ma_want) hm (at1 4 rfl) (as := [(.int p1), (.int (10 : Int32))]) (rest := []) (z := 22) rfl (by exact trivial) (pc' := 26) rfl 2 rfl (lw_g (lw_at lw_m5 139 rfl) rfl) y_Ma_want rfl (d2 := 6) ⟨le_b rfl, pd_Ma_want, le_b rfl⟩ (le_b rfl) og_22 rfl (k_Ma_want p1 (10 : Int32) h1) (fun _ h2 => ?_)
    refine hp_w hm (at1 5 rfl) (L' := [(0, (.ref 22))]) rfl (by exact ⟨og_22, og_22⟩) (pc' := 39) rfl (fun h3 => ?_)
    refine hp_cVT (M2 := M_Ma_byteAt) hm (at1 6 rfl) (as := [(.int (rdI h3 22 11))]) (rest := []) (z := 22) rfl (by exact og_22) (pc' := 44) rfl 3 rfl (lw_g (lw_at lw_m5 208 rfl) rfl) y_Ma_byteAt rfl (d2 := 7) ⟨le_b rfl, pd_Ma_byteAt, le_b rfl⟩ (le_b rfl) og_22 rfl (k_Ma_byteAt (rdI h3 22 11) h3) (fun a3 h4 => ?_)
    refine hp_w hm (at1 7 rfl) (L' := [(1, (.int a3)), (0, (.ref 22))]) rfl (by exact ⟨og_22, og_22⟩) (pc' := 58) rfl (fun h5 => ?_)
    refine hp_ic_lt hm (at1 8 rfl) rfl (by exact trivial) (pc' := 62) rfl 24 rfl (tgt := 73) rfl (fun c12 => ?_) (fun c12 => ?_)
    · refine hp_ic_lt hm (at1 9 rfl) rfl (by exact trivial) (pc' := 77) rfl 21 rfl (tgt := 119) rfl (fun c11 => ?_) (fun c11 => ?_)
      · refine hp_ic_ge hm (at1 10 rfl) rfl (by exact trivial) (pc' := 122) rfl 14 rfl (tgt := 133) rfl (fun c6 => ?_) (fun c6 => ?_)
        · refine hp_ic_ge hm (at1 11 rfl) rfl (by exact trivial) (pc' := 136) rfl 11 rfl (tgt := 147) rfl (fun c5 => ?_) (fun c5 => ?_)
          · refine hp_ic_ge hm (at1 12 rfl) rfl (by exact trivial) (pc' := 150) rfl 8 rfl (tgt := 161) rfl (fun c4 => ?_) (fun c4 => ?_)
            · refine hp_cVT (M2 := M_Ma_upper) hm (at1 13 rfl) (as := [(.int a3)]) (rest := []) (z := 22) rfl (by exact trivial) (pc' := 163) rfl 4 rfl (lw_g (lw_at lw_m6 218 rfl) rfl) y_Ma_upper rfl (d2 := 12) ⟨le_b rfl, pd_Ma_upper, le_b rfl⟩ (le_b rfl) og_22 rfl (k_Ma_upper a3 h5) (fun _ h6 => ?_)
              exact hp_vr hm 5 rfl rfl (fun _ e => e)
            · refine hp_cVT (M2 := M_Ma_middle) hm (at1 14 rfl) (as := [(.int a3)]) (rest := []) (z := 22) rfl (by exact trivial) (pc' := 155) rfl 6 rfl (lw_g (lw_at lw_m6 188 rfl) rfl) y_Ma_middle rfl (d2 := 10) ⟨le_b rfl, pd_Ma_middle, le_b rfl⟩ (le_b rfl) og_22 rfl (k_Ma_middle a3 h5) (fun _ h7 => ?_)
              refine hp_goto hm 7 rfl (tgt := 166) rfl ?_
              exact hp_vr hm 5 rfl rfl (fun _ e => e)
          · refine hp_cVT (M2 := M_Ma_low) hm (at1 15 rfl) (as := [(.int a3)]) (rest := []) (z := 22) rfl (by exact trivial) (pc' := 141) rfl 9 rfl (lw_g (lw_at lw_m6 104 rfl) rfl) y_Ma_low rfl (d2 := 12) ⟨le_b rfl, pd_Ma_low, le_b rfl⟩ (le_b rfl) og_22 rfl (k_Ma_low a3 h5) (fun _ h8 => ?_)
            refine hp_goto hm 10 rfl (tgt := 166) rfl ?_
            exact hp_vr hm 5 rfl rfl (fun _ e => e)
        · refine hp_cVT (M2 := M_Ma_settings) hm (at1 16 rfl) (as := [(.int a3)]) (rest := []) (z := 22) rfl (by exact trivial) (pc' := 127) rfl 12 rfl (lw_g (lw_at lw_m6 49 rfl) rfl) y_Ma_settings rfl (d2 := 11) ⟨le_b rfl, pd_Ma_settings, le_b rfl⟩ (le_b rfl) og_22 rfl (k_Ma_settings a3 h5) (fun _ h9 => ?_)
          refine hp_goto hm 13 rfl (tgt := 166) rfl ?_
          exact hp_vr hm 5 rfl rfl (fun _ e => e)
      · refine hp_JZ 101 (fun (p7 : Int32) => [(1, (.int a3))]) (fun (p7 : Int32) => [(.int p7), (.ref 22)]) (fun (p7 : Int32) => h5) ?_ (fun p7 => ?_)
        · refine hp_sv0 ?_
          refine hp_ic_ge hm (at1 17 rfl) rfl (by exact trivial) (pc' := 85) rfl 16 rfl (tgt := 96) rfl (fun c8 => ?_) (fun c8 => ?_)
          · refine hp_b hm (at1 18 rfl) (L' := [(1, (.int a3)), (0, (.ref 22))]) (st' := [(.int (a3 - (183 : Int32))), (.ref 22)]) rfl (by exact trivial) (pc' := 101) rfl ?_
            exact hp_lf [0] rfl (fun _ e => e)
          · refine hp_b hm (at1 19 rfl) (L' := [(1, (.int a3)), (0, (.ref 22))]) (st' := [(.int (a3 - (175 : Int32))), (.ref 22)]) rfl (by exact trivial) (pc' := 93) rfl ?_
            refine hp_goto hm 15 rfl (tgt := 101) rfl ?_
            exact hp_lf [0] rfl (fun _ e => e)
        · refine hp_JZ 113 (fun (p9 : Int32) => []) (fun (p9 : Int32) => [(.int p9), (.int p7), (.ref 22)]) (fun (p9 : Int32) => h5) ?_ (fun p9 => ?_)
          · refine hp_sv0 ?_
            refine hp_ic_lt hm (at1 20 rfl) rfl (by exact trivial) (pc' := 105) rfl 18 rfl (tgt := 112) rfl (fun c10 => ?_) (fun c10 => ?_)
            · refine hp_b hm (at1 21 rfl) (L' := [(1, (.int a3))]) (st' := [(.int (0 : Int32)), (.int p7), (.ref 22)]) rfl (by exact trivial) (pc' := 113) rfl ?_
              exact hp_lf [] rfl (fun _ e => e)
            · refine hp_b hm (at1 22 rfl) (L' := [(1, (.int a3))]) (st' := [(.int (1 : Int32)), (.int p7), (.ref 22)]) rfl (by exact trivial) (pc' := 109) rfl ?_
              refine hp_goto hm 17 rfl (tgt := 113) rfl ?_
              exact hp_lf [] rfl (fun _ e => e)
          · refine hp_cVT (M2 := M_Ma_pushBytes) hm at0 (as := [(.int p7), (.int p9)]) (rest := []) (z := 22) rfl (by exact trivial) (pc' := 113) rfl 19 rfl (lw_g (lw_at lw_m6 34 rfl) rfl) y_Ma_pushBytes rfl (d2 := 9) ⟨le_b rfl, pd_Ma_pushBytes, le_b rfl⟩ (le_b rfl) og_22 rfl (k_Ma_pushBytes p7 p9 h5) (fun _ h10 => ?_)
            refine hp_goto hm 20 rfl (tgt := 166) rfl ?_
            exact hp_vr hm 5 rfl rfl (fun _ e => e)
    · refine hp_cVT (M2 := M_Ma_relative) hm (at1 23 rfl) (as := [(.int a3)]) (rest := []) (z := 22) rfl (by exact trivial) (pc' := 67) rfl 22 rfl (lw_g (lw_at lw_m5 213 rfl) rfl) y_Ma_relative rfl (d2 := 8) ⟨le_b rfl, pd_Ma_relative, le_b rfl⟩ (le_b rfl) og_22 rfl (k_Ma_relative a3 h5) (fun _ h11 => ?_)
      refine hp_goto hm 23 rfl (tgt := 166) rfl ?_
      exact hp_vr hm 5 rfl rfl (fun _ e => e)
/-! HintHouse$Machine.run(III)V -/
def M_Ma_run : hM := (4, ⟨"HintHouse$Machine", "run", "(III)V"⟩, prog_6_method_5_code, 5, (Option.none : Option Jvm.ClassFile.FieldType), [], [(0, [(.aload_n 0, 1, 0, 0, 0, .null), (.iload_n 1, 1, 0, 0, 0, .null), (.putfield 158, 3, 4, 7, 0, .null)]), (5, [(.aload_n 0, 1, 0, 0, 0, .null), (.iload_n 1, 1, 0, 0, 0, .null), (.putfield 161, 3, 4, 8, 0, .null)]), (10, [(.aload_n 0, 1, 0, 0, 0, .null), (.getfield 27, 3, 4, 9, 4, .null), (.iload_n 1, 1, 0, 0, 0, .null), (.iload_n 2, 1, 0, 0, 0, .null), (.iastore, 1, 0, 0, 0, .null)]), (17, [(.aload_n 0, 1, 0, 0, 0, .null), (.getfield 31, 3, 4, 10, 4, .null), (.iload_n 1, 1, 0, 0, 0, .null), (.iload_n 3, 1, 0, 0, 0, .null), (.iastore, 1, 0, 0, 0, .null)]), (24, [(.aload_n 0, 1, 0, 0, 0, .null), (.iconst 0, 1, 0, 0, 0, (.int (0 : Int32))), (.putfield 164, 3, 4, 11, 0, .null)]), (29, [(.aload_n 0, 1, 0, 0, 0, .null), (.iconst (-1), 1, 0, 0, 0, (.int (-1 : Int32))), (.putfield 167, 3, 4, 12, 0, .null)]), (34, [(.aload_n 0, 1, 0, 0, 0, .null), (.iconst 0, 1, 0, 0, 0, (.int (0 : Int32))), (.putfield 170, 3, 4, 15, 0, .null)]), (39, [(.aload_n 0, 1, 0, 0, 0, .null), (.iconst 0, 1, 0, 0, 0, (.int (0 : Int32))), (.putfield 173, 3, 4, 16, 0, .null)]), (44, [(.aload_n 0, 1, 0, 0, 0, .null), (.sipush 16384, 3, 0, 0, 0, (.int (16384 : Int32))), (.iconst 0, 1, 0, 0, 0, (.int (0 : Int32)))]), (52, [(.aload_n 0, 1, 0, 0, 0, .null), (.getfield 67, 3, 4, 36, 4, .null), (.iconst 0, 1, 0, 0, 0, (.int (0 : Int32))), (.iconst 0, 1, 0, 0, 0, (.int (0 : Int32))), (.iastore, 1, 0, 0, 0, .null)]), (59, [(.aload_n 0, 1, 0, 0, 0, .null), (.getfield 67, 3, 4, 36, 4, .null), (.iconst 1, 1, 0, 0, 0, (.int (1 : Int32))), (.iconst 0, 1, 0, 0, 0, (.int (0 : Int32))), (.iastore, 1, 0, 0, 0, .null)]), (66, [(.aload_n 0, 1, 0, 0, 0, .null), (.getfield 67, 3, 4, 36, 4, .null), (.iconst 2, 1, 0, 0, 0, (.int (2 : Int32))), (.iconst 0, 1, 0, 0, 0, (.int (0 : Int32))), (.iastore, 1, 0, 0, 0, .null)]), (73, [(.aload_n 0, 1, 0, 0, 0, .null), (.getfield 70, 3, 4, 37, 4, .null), (.iconst 0, 1, 0, 0, 0, (.int (0 : Int32))), (.iconst 1, 1, 0, 0, 0, (.int (1 : Int32))), (.iastore, 1, 0, 0, 0, .null)]), (80, [(.aload_n 0, 1, 0, 0, 0, .null), (.getfield 70, 3, 4, 37, 4, .null), (.iconst 1, 1, 0, 0, 0, (.int (1 : Int32))), (.iconst 1, 1, 0, 0, 0, (.int (1 : Int32))), (.iastore, 1, 0, 0, 0, .null)]), (87, [(.aload_n 0, 1, 0, 0, 0, .null), (.getfield 70, 3, 4, 37, 4, .null), (.iconst 2, 1, 0, 0, 0, (.int (2 : Int32))), (.iconst 1, 1, 0, 0, 0, (.int (1 : Int32))), (.iastore, 1, 0, 0, 0, .null)]), (94, [(.aload_n 0, 1, 0, 0, 0, .null), (.iconst 1, 1, 0, 0, 0, (.int (1 : Int32))), (.putfield 180, 3, 4, 38, 0, .null)]), (99, [(.aload_n 0, 1, 0, 0, 0, .null), (.bipush 64, 2, 0, 0, 0, (.int (64 : Int32))), (.iconst 0, 1, 0, 0, 0, (.int (0 : Int32))), (.bipush 32, 2, 0, 0, 0, (.int (32 : Int32)))]), (108, [(.iconst 1, 1, 0, 0, 0, (.int (1 : Int32))), (.istore 4, 2, 0, 0, 0, .null)]), (111, [(.iload 4, 2, 0, 0, 0, .null)]), (116, [(.aload_n 0, 1, 0, 0, 0, .null), (.getfield 164, 3, 4, 11, 0, .null), (.aload_n 0, 1, 0, 0, 0, .null), (.getfield 31, 3, 4, 10, 4, .null), (.aload_n 0, 1, 0, 0, 0, .null), (.getfield 158, 3, 4, 7, 0, .null), (.iaload, 1, 0, 0, 0, .null)]), (155, [(.aload_n 0, 1, 0, 0, 0, .null)]), (132, [(.aload_n 0, 1, 0, 0, 0, .null), (.aload_n 0, 1, 0, 0, 0, .null), (.getfield 173, 3, 4, 16, 0, .null)]), (144, [(.iconst 0, 1, 0, 0, 0, (.int (0 : Int32)))]), (140, [(.iconst 1, 1, 0, 0, 0, (.int (1 : Int32)))]), (145, [(.iconst 4, 1, 0, 0, 0, (.int (4 : Int32)))]), (149, [(.iconst 0, 1, 0, 0, 0, (.int (0 : Int32))), (.istore 4, 2, 0, 0, 0, .null)]), (162, [(.aload_n 0, 1, 0, 0, 0, .null), (.iconst (-1), 1, 0, 0, 0, (.int (-1 : Int32))), (.putfield 167, 3, 4, 12, 0, .null)])], [(49, .invokevirtual 176, 3), (105, .invokevirtual 183, 3), (156, .invokevirtual 191, 3), (159, .goto (-48), 3), (141, .goto 4, 3), (137, .ifCond .ne 7, 3), (146, .invokevirtual 187, 3), (152, .goto (-41), 3), (129, .if_icmp .ne 26, 3), (113, .ifCond .eq 49, 3), (167, .return_, 1)])
set_option maxRecDepth 100000 in
theorem m_Ma_run : hx_mok M_Ma_run = true := by decide +kernel
theorem pd_Ma_run : (parseMethodDescriptor M_Ma_run.2.1.desc).map (fun q => q.parameters.length) = some 3 := by decide +kernel
theorem y_Ma_run : hx_okV M_Ma_run := ⟨⟨lw_g (lw_at lw_m5 130 rfl) rfl, lw_g (lw_at lw_m5 128 rfl) rfl, lw_g (lw_at lw_m5 129 rfl) rfl, lw_g (lw_at lw_m1 5 rfl) rfl, rfl, by decide, by decide, by decide⟩, rfl, by decide, plainFor_of_name (by decide)⟩
noncomputable def f_Ma_run (x1 : Int32) (x2 : Int32) (x3 : Int32) (h : hH) : Option (hH ⊕ (Unit × hH)) :=
  lz (wrI h 22 7 x1) fun h1 =>
  lz (wrI h1 22 8 x1) fun h2 =>
  gd (vp_in x1 3) <|
  lz (wrI h2 41 (Int32.toNatClampNeg x1) x2) fun h3 =>
  gd (vp_in x1 3) <|
  lz (wrI h3 42 (Int32.toNatClampNeg x1) x3) fun h4 =>
  lz (wrI h4 22 11 (0 : Int32)) fun h5 =>
  lz (wrI h5 22 12 (-1 : Int32)) fun h6 =>
  lz (wrI h6 22 15 (0 : Int32)) fun h7 =>
  lz (wrI h7 22 16 (0 : Int32)) fun h8 =>
  bS (f_Ma_axes (16384 : Int32) (0 : Int32) h8) fun _ h9 =>
  lz (wrI h9 54 0 (0 : Int32)) fun h10 =>
  lz (wrI h10 54 1 (0 : Int32)) fun h11 =>
  lz (wrI h11 54 2 (0 : Int32)) fun h12 =>
  lz (wrI h12 55 0 (1 : Int32)) fun h13 =>
  lz (wrI h13 55 1 (1 : Int32)) fun h14 =>
  lz (wrI h14 55 2 (1 : Int32)) fun h15 =>
  lz (wrI h15 22 38 (1 : Int32)) fun h16 =>
  bS (f_Ma_rounding (64 : Int32) (0 : Int32) (32 : Int32) h16) fun _ h17 =>
  bJT (P := hH) (
    whT (A := (Int32 × hH)) (B := hH) (fun p3 =>
        if p3.1 = 0 then (
          some (.inr (.inr p3.2))
        ) else (
          gd (vp_in (rdI p3.2 22 7) 3) <|
          if (rdI p3.2 22 11) = (rdI p3.2 42 (Int32.toNatClampNeg (rdI p3.2 22 7))) then (
            lz (A := Int32) (if (rdI p3.2 22 16) = 0 then (1 : Int32) else (0 : Int32)) fun p6 =>
            bT (f_Ma_want p6 (4 : Int32) p3.2) fun _ h19 =>
            some (.inr (.inl ((0 : Int32), h19)))
          ) else (
            bT (f_Ma_step p3.2) fun _ h18 =>
            some (.inr (.inl (p3.1, h18)))
          )
        )
    ) ((1 : Int32), h17)
  ) fun p4 =>
  lz (wrI p4 22 12 (-1 : Int32)) fun h20 =>
  some (.inr ((), h20))
set_option maxRecDepth 20000 in
theorem k_Ma_run (x1 : Int32) (x2 : Int32) (x3 : Int32) (h : hH) : hx_kT S0 M_Ma_run 14 NT [(.ref 22), (.int x1), (.int x2), (.int x3)] h (f_Ma_run x1 x2 x3 h) cvU := by
  have hm := m_Ma_run
  show hx_P S0 M_Ma_run 14 0 [(0, (.ref 22)), (1, (.int x1)), (2, (.int x2)), (3, (.int x3))] [] NT h (f_Ma_run x1 x2 x3 h) (hx_T NT (hx_Rc cvU NT))
  unfold f_Ma_run
  refine hp_w hm (at1 0 rfl) (L' := [(0, (.ref 22)), (1, (.int x1)), (2, (.int x2)), (3, (.int x3))]) rfl (by exact og_22) (pc' := 5) rfl (fun h1 => ?_)
  refine hp_w hm (at1 1 rfl) (L' := [(0, (.ref 22)), (1, (.int x1)), (2, (.int x2)), (3, (.int x3))]) rfl (by exact og_22) (pc' := 10) rfl (fun h2 => ?_)
  refine hp_GW hm (at1 2 rfl) (L' := [(0, (.ref 22)), (1, (.int x1)), (2, (.int x2)), (3, (.int x3))]) rfl (fun hP => (by exact ⟨og_22, ⟨og_41, hP⟩⟩)) (pc' := 17) rfl (fun q1 h3 => ?_)
  refine hp_GW hm (at1 3 rfl) (L' := [(0, (.ref 22)), (1, (.int x1)), (2, (.int x2)), (3, (.int x3))]) rfl (fun hP => (by exact ⟨og_22, ⟨og_42, hP⟩⟩)) (pc' := 24) rfl (fun q2 h4 => ?_)
  refine hp_w hm (at1 4 rfl) (L' := [(0, (.ref 22)), (1, (.int x1)), (2, (.int x2)), (3, (.int x3))]) rfl (by exact og_22) (pc' := 29) rfl (fun h5 => ?_)
  refine hp_w hm (at1 5 rfl) (L' := [(0, (.ref 22)), (1, (.int x1)), (2, (.int x2)), (3, (.int x3))]) rfl (by exact og_22) (pc' := 34) rfl (fun h6 => ?_)
  refine hp_w hm (at1 6 rfl) (L' := [(0, (.ref 22)), (1, (.int x1)), (2, (.int x2)), (3, (.int x3))]) rfl (by exact og_22) (pc' := 39) rfl (fun h7 => ?_)
  refine hp_w hm (at1 7 rfl) (L' := [(0, (.ref 22)), (1, (.int x1)), (2, (.int x2)), (3, (.int x3))]) rfl (by exact og_22) (pc' := 44) rfl (fun h8 => ?_)
  refine hp_cVS (M2 := M_Ma_axes) hm (at1 8 rfl) (as := [(.int (16384 : Int32)), (.int (0 : Int32))]) (rest := []) (z := 22) rfl (by exact trivial) (pc' := 49) rfl 0 rfl (lw_g (lw_at lw_m5 131 rfl) rfl) y_Ma_axes rfl (d2 := 1) ⟨le_b rfl, pd_Ma_axes, le_b rfl⟩ (le_b rfl) og_22 (k_Ma_axes (16384 : Int32) (0 : Int32) h8) (fun _ h9 => ?_)
  refine hp_w hm (at1 9 rfl) (L' := [(0, (.ref 22)), (1, (.int x1)), (2, (.int x2)), (3, (.int x3))]) rfl (by exact ⟨og_22, ⟨og_54, (show vp_in (0 : Int32) 3 from vp_lit (by decide))⟩⟩) (pc' := 59) rfl (fun h10 => ?_)
  refine hp_w hm (at1 10 rfl) (L' := [(0, (.ref 22)), (1, (.int x1)), (2, (.int x2)), (3, (.int x3))]) rfl (by exact ⟨og_22, ⟨og_54, (show vp_in (1 : Int32) 3 from vp_lit (by decide))⟩⟩) (pc' := 66) rfl (fun h11 => ?_)
  refine hp_w hm (at1 11 rfl) (L' := [(0, (.ref 22)), (1, (.int x1)), (2, (.int x2)), (3, (.int x3))]) rfl (by exact ⟨og_22, ⟨og_54, (show vp_in (2 : Int32) 3 from vp_lit (by decide))⟩⟩) (pc' := 73) rfl (fun h12 => ?_)
  refine hp_w hm (at1 12 rfl) (L' := [(0, (.ref 22)), (1, (.int x1)), (2, (.int x2)), (3, (.int x3))]) rfl (by exact ⟨og_22, ⟨og_55, (show vp_in (0 : Int32) 3 from vp_lit (by decide))⟩⟩) (pc' := 80) rfl (fun h13 => ?_)
  refine hp_w hm (at1 13 rfl) (L' := [(0, (.ref 22)), (1, (.int x1)), (2, (.int x2)), (3, (.int x3))]) rfl (by exact ⟨og_22, ⟨og_55, (show vp_in (1 : Int32) 3 from vp_lit (by decide))⟩⟩) (pc' := 87) rfl (fun h14 => ?_)
  refine hp_w hm (at1 14 rfl) (L' := [(0, (.ref 22)), (1, (.int x1)), (2, (.int x2)), (3, (.int x3))]) rfl (by exact ⟨og_22, ⟨og_55, (show vp_in (2 : Int32) 3 from vp_lit (by decide))⟩⟩) (pc' := 94) rfl (fun h15 => ?_)
  refine hp_w hm (at1 15 rfl) (L' := [(0, (.ref 22)), (1, (.int x1)), (2, (.int x2)), (3, (.int x3))]) rfl (by exact og_22) (pc' := 99) rfl (fun h16 => ?_)
  refine hp_cVS (M2 := M_Ma_rounding) hm (at1 16 rfl) (as := [(.int (64 : Int32)), (.int (0 : Int32)), (.int (32 : Int32))]) (rest := []) (z := 22) rfl (by exact trivial) (pc' := 105) rfl 1 rfl (lw_g (lw_at lw_m5 135 rfl) rfl) y_Ma_rounding rfl (d2 := 1) ⟨le_b rfl, pd_Ma_rounding, le_b rfl⟩ (le_b rfl) og_22 (k_Ma_rounding (64 : Int32) (0 : Int32) (32 : Int32) h16) (fun _ h17 => ?_)
  refine hp_b hm (at1 17 rfl) (L' := [(4, (.int (1 : Int32))), (0, (.ref 22)), (1, (.int x1)), (2, (.int x2)), (3, (.int x3))]) (st' := []) rfl (by exact trivial) (pc' := 111) rfl ?_
  refine hp_JT 162 (fun (p4 : hH) => [(0, (.ref 22))]) (fun (p4 : hH) => []) (fun (p4 : hH) => p4) ?_ (fun p4 => ?_)
  · refine hp_s [1, 0] rfl (L' := [(0, (.ref 22)), (4, (.int (1 : Int32)))]) ?_
    refine hp_whT (fun (p3 : (Int32 × hH)) => [(0, (.ref 22)), (4, (.int p3.1))]) [] (fun (p3 : (Int32 × hH)) => p3.2) (fun p3 => ?_) ((1 : Int32), h17)
    refine hp_if_eq hm (at1 18 rfl) rfl (by exact trivial) (pc' := 113) rfl 9 rfl (tgt := 162) rfl (fun c9 => ?_) (fun c9 => ?_)
    · exact hp_lf [0] rfl (fun _ e => e)
    · refine hp_G hm (at1 19 rfl) (L' := [(0, (.ref 22)), (4, (.int p3.1))]) (st' := [(.int (rdI p3.2 42 (Int32.toNatClampNeg (rdI p3.2 22 7)))), (.int (rdI p3.2 22 11))]) rfl (fun hP => (by exact ⟨⟨⟨og_22, og_22⟩, og_22⟩, ⟨og_42, hP⟩⟩)) (pc' := 129) rfl (fun q5 => ?_)
      refine hp_ic_ne hm at0 rfl (by exact trivial) (pc' := 129) rfl 8 rfl (tgt := 155) rfl (fun c8 => ?_) (fun c8 => ?_)
      · refine hp_cVT (M2 := M_Ma_step) hm (at1 20 rfl) (as := []) (rest := []) (z := 22) rfl (by exact trivial) (pc' := 156) rfl 2 rfl (lw_g (lw_at lw_m5 204 rfl) rfl) y_Ma_step rfl (d2 := 13) ⟨le_b rfl, pd_Ma_step, le_b rfl⟩ (le_b rfl) og_22 rfl (k_Ma_step p3.2) (fun _ h18 => ?_)
        refine hp_goto hm 3 rfl (tgt := 111) rfl ?_
        exact hp_lf [0, 1] rfl (fun _ e => e)
      · refine hp_JZ 145 (fun (p6 : Int32) => [(0, (.ref 22))]) (fun (p6 : Int32) => [(.int p6), (.ref 22)]) (fun (p6 : Int32) => p3.2) ?_ (fun p6 => ?_)
        · refine hp_sv0 ?_
          refine hp_if_ne hm (at1 21 rfl) rfl (by exact og_22) (pc' := 137) rfl 5 rfl (tgt := 144) rfl (fun c7 => ?_) (fun c7 => ?_)
          · refine hp_b hm (at1 22 rfl) (L' := [(0, (.ref 22)), (4, (.int p3.1))]) (st' := [(.int (0 : Int32)), (.ref 22)]) rfl (by exact trivial) (pc' := 145) rfl ?_
            exact hp_lf [0] rfl (fun _ e => e)
          · refine hp_b hm (at1 23 rfl) (L' := [(0, (.ref 22)), (4, (.int p3.1))]) (st' := [(.int (1 : Int32)), (.ref 22)]) rfl (by exact trivial) (pc' := 141) rfl ?_
            refine hp_goto hm 4 rfl (tgt := 145) rfl ?_
            exact hp_lf [0] rfl (fun _ e => e)
        · refine hp_cVT (M2 := M_Ma_want) hm (at1 24 rfl) (as := [(.int p6), (.int (4 : Int32))]) (rest := []) (z := 22) rfl (by exact trivial) (pc' := 146) rfl 6 rfl (lw_g (lw_at lw_m5 139 rfl) rfl) y_Ma_want rfl (d2 := 6) ⟨le_b rfl, pd_Ma_want, le_b rfl⟩ (le_b rfl) og_22 rfl (k_Ma_want p6 (4 : Int32) p3.2) (fun _ h19 => ?_)
          refine hp_b hm (at1 25 rfl) (L' := [(4, (.int (0 : Int32))), (0, (.ref 22))]) (st' := []) rfl (by exact trivial) (pc' := 152) rfl ?_
          refine hp_goto hm 7 rfl (tgt := 111) rfl ?_
          exact hp_lf [1, 0] rfl (fun _ e => e)
  · refine hp_w hm (at1 26 rfl) (L' := [(0, (.ref 22))]) rfl (by exact og_22) (pc' := 167) rfl (fun h20 => ?_)
    exact hp_vr hm 10 rfl rfl (fun _ e => e)
/-! HintHouse$Zone.copy(LHintHouse$Zone;)V -/
def M_Zo_copy : hM := (6, ⟨"HintHouse$Zone", "copy", "(LHintHouse$Zone;)V"⟩, prog_11_method_3_code, 3, (Option.none : Option Jvm.ClassFile.FieldType), [], [(0, [(.aload_n 0, 1, 0, 0, 0, .null), (.aload_n 1, 1, 0, 0, 0, .null), (.getfield 29, 3, 6, 6, 0, .null), (.putfield 29, 3, 6, 6, 0, .null)]), (8, [(.iconst 0, 1, 0, 0, 0, (.int (0 : Int32))), (.istore_n 2, 1, 0, 0, 0, .null)]), (10, [(.iload_n 2, 1, 0, 0, 0, .null), (.aload_n 0, 1, 0, 0, 0, .null), (.getfield 29, 3, 6, 6, 0, .null)]), (18, [(.aload_n 0, 1, 0, 0, 0, .null), (.getfield 7, 3, 6, 0, 4, .null), (.iload_n 2, 1, 0, 0, 0, .null), (.aload_n 1, 1, 0, 0, 0, .null), (.getfield 7, 3, 6, 0, 4, .null), (.iload_n 2, 1, 0, 0, 0, .null), (.iaload, 1, 0, 0, 0, .null), (.iastore, 1, 0, 0, 0, .null)]), (30, [(.aload_n 0, 1, 0, 0, 0, .null), (.getfield 13, 3, 6, 1, 4, .null), (.iload_n 2, 1, 0, 0, 0, .null), (.aload_n 1, 1, 0, 0, 0, .null), (.getfield 13, 3, 6, 1, 4, .null), (.iload_n 2, 1, 0, 0, 0, .null), (.iaload, 1, 0, 0, 0, .null), (.iastore, 1, 0, 0, 0, .null)]), (42, [(.aload_n 0, 1, 0, 0, 0, .null), (.getfield 16, 3, 6, 2, 4, .null), (.iload_n 2, 1, 0, 0, 0, .null), (.aload_n 1, 1, 0, 0, 0, .null), (.getfield 16, 3, 6, 2, 4, .null), (.iload_n 2, 1, 0, 0, 0, .null), (.iaload, 1, 0, 0, 0, .null), (.iastore, 1, 0, 0, 0, .null)]), (54, [(.aload_n 0, 1, 0, 0, 0, .null), (.getfield 19, 3, 6, 3, 4, .null), (.iload_n 2, 1, 0, 0, 0, .null), (.aload_n 1, 1, 0, 0, 0, .null), (.getfield 19, 3, 6, 3, 4, .null), (.iload_n 2, 1, 0, 0, 0, .null), (.iaload, 1, 0, 0, 0, .null), (.iastore, 1, 0, 0, 0, .null)]), (66, [(.aload_n 0, 1, 0, 0, 0, .null), (.getfield 22, 3, 6, 4, 4, .null), (.iload_n 2, 1, 0, 0, 0, .null), (.aload_n 1, 1, 0, 0, 0, .null), (.getfield 22, 3, 6, 4, 4, .null), (.iload_n 2, 1, 0, 0, 0, .null), (.baload, 1, 101, 0, 0, .null), (.bastore, 1, 101, 0, 0, .null)]), (78, [(.aload_n 0, 1, 0, 0, 0, .null), (.getfield 26, 3, 6, 5, 4, .null), (.iload_n 2, 1, 0, 0, 0, .null), (.aload_n 1, 1, 0, 0, 0, .null), (.getfield 26, 3, 6, 5, 4, .null), (.iload_n 2, 1, 0, 0, 0, .null), (.baload, 1, 101, 0, 0, .null), (.bastore, 1, 101, 0, 0, .null)]), (90, [(.iinc 2 1, 3, 0, 0, 0, (.int (1 : Int32)))])], [(93, .goto (-83), 3), (15, .if_icmp .ge 81, 3), (96, .return_, 1)])
set_option maxRecDepth 100000 in
theorem m_Zo_copy : hx_mok M_Zo_copy = true := by decide +kernel
theorem pd_Zo_copy : (parseMethodDescriptor M_Zo_copy.2.1.desc).map (fun q => q.parameters.length) = some 1 := by decide +kernel
theorem y_Zo_copy : hx_okV M_Zo_copy := ⟨⟨lw_g (lw_at lw_m7 15 rfl) rfl, lw_g (lw_at lw_m7 13 rfl) rfl, lw_g (lw_at lw_m7 14 rfl) rfl, lw_g (lw_at lw_m1 7 rfl) rfl, rfl, by decide, by decide, by decide⟩, rfl, by decide, plainFor_of_name (by decide)⟩
noncomputable def f_Zo_copy (z : Nat) (x1 : Nat) (h : hH) : Option (Unit × hH) :=
  lz (wrI h z 6 (rdI h x1 6)) fun h1 =>
  bP (A := hH) (
    wh (A := (Int32 × hH)) (B := hH) (fun p1 =>
        if (rdI p1.2 z 6) ≤ p1.1 then (
          some (.inr p1.2)
        ) else (
          gd (vp_in p1.1 (zr x1) ∧ vp_in p1.1 (zr z)) <|
          lz (wrI p1.2 (rf z 0) (Int32.toNatClampNeg p1.1) (rdI p1.2 (rf x1 0) (Int32.toNatClampNeg p1.1))) fun h2 =>
          gd (vp_in p1.1 (zr x1) ∧ vp_in p1.1 (zr z)) <|
          lz (wrI h2 (rf z 1) (Int32.toNatClampNeg p1.1) (rdI h2 (rf x1 1) (Int32.toNatClampNeg p1.1))) fun h3 =>
          gd (vp_in p1.1 (zr x1) ∧ vp_in p1.1 (zr z)) <|
          lz (wrI h3 (rf z 2) (Int32.toNatClampNeg p1.1) (rdI h3 (rf x1 2) (Int32.toNatClampNeg p1.1))) fun h4 =>
          gd (vp_in p1.1 (zr x1) ∧ vp_in p1.1 (zr z)) <|
          lz (wrI h4 (rf z 3) (Int32.toNatClampNeg p1.1) (rdI h4 (rf x1 3) (Int32.toNatClampNeg p1.1))) fun h5 =>
          gd (vp_in p1.1 (zr x1) ∧ vp_in p1.1 (zr z)) <|
          lz (wrI h5 (rf z 4) (Int32.toNatClampNeg p1.1) ((rdI h5 (rf x1 4) (Int32.toNatClampNeg p1.1)) &&& 1)) fun h6 =>
          gd (vp_in p1.1 (zr x1) ∧ vp_in p1.1 (zr z)) <|
          lz (wrI h6 (rf z 5) (Int32.toNatClampNeg p1.1) ((rdI h6 (rf x1 5) (Int32.toNatClampNeg p1.1)) &&& 1)) fun h7 =>
          lz (A := Int32) (p1.1 + (1 : Int32)) fun v9 =>
          some (.inl (v9, h7))
        )
    ) ((0 : Int32), h1)
  ) fun p2 =>
  some ((), p2)
set_option maxRecDepth 20000 in
theorem k_Zo_copy (z : Nat) (x1 : Nat) (h : hH) (hz : isA 6 z) (hx1 : isA 6 x1) : hx_kS S0 M_Zo_copy 1 NT [(.ref z), (.ref x1)] h (f_Zo_copy z x1 h) cvU := by
  have hm := m_Zo_copy
  show hx_P S0 M_Zo_copy 1 0 [(0, (.ref z)), (1, (.ref x1))] [] NT h (f_Zo_copy z x1 h) (hx_Rc cvU NT)
  unfold f_Zo_copy
  refine hp_w hm (at1 0 rfl) (L' := [(0, (.ref z)), (1, (.ref x1))]) rfl (by exact ⟨hx1, hz⟩) (pc' := 8) rfl (fun h1 => ?_)
  refine hp_b hm (at1 1 rfl) (L' := [(2, (.int (0 : Int32))), (0, (.ref z)), (1, (.ref x1))]) (st' := []) rfl (by exact trivial) (pc' := 10) rfl ?_
  refine hp_J 96 (fun (p2 : hH) => []) (fun (p2 : hH) => []) (fun (p2 : hH) => p2) ?_ (fun p2 => ?_)
  · refine hp_s [1, 2, 0] rfl (L' := [(0, (.ref z)), (1, (.ref x1)), (2, (.int (0 : Int32)))]) ?_
    refine hp_wh (fun (p1 : (Int32 × hH)) => [(0, (.ref z)), (1, (.ref x1)), (2, (.int p1.1))]) [] (fun (p1 : (Int32 × hH)) => p1.2) (fun p1 => ?_) ((0 : Int32), h1)
    refine hp_ic_ge hm (at1 2 rfl) rfl (by exact hz) (pc' := 15) rfl 1 rfl (tgt := 96) rfl (fun c10 => ?_) (fun c10 => ?_)
    · exact hp_lf [] rfl (fun _ e => e)
    · refine hp_GW hm (at1 3 rfl) (L' := [(0, (.ref z)), (1, (.ref x1)), (2, (.int p1.1))]) rfl (fun hP => (by exact ⟨⟨⟨hz, hx1⟩, ⟨(rt_6_0 hx1), (vp_cst (rl_6_0 hx1) hP.1)⟩⟩, ⟨(rt_6_0 hz), (vp_cst (rl_6_0 hz) hP.2)⟩⟩)) (pc' := 30) rfl (fun q3 h2 => ?_)
      refine hp_GW hm (at1 4 rfl) (L' := [(0, (.ref z)), (1, (.ref x1)), (2, (.int p1.1))]) rfl (fun hP => (by exact ⟨⟨⟨hz, hx1⟩, ⟨(rt_6_1 hx1), (vp_cst (rl_6_1 hx1) hP.1)⟩⟩, ⟨(rt_6_1 hz), (vp_cst (rl_6_1 hz) hP.2)⟩⟩)) (pc' := 42) rfl (fun q4 h3 => ?_)
      refine hp_GW hm (at1 5 rfl) (L' := [(0, (.ref z)), (1, (.ref x1)), (2, (.int p1.1))]) rfl (fun hP => (by exact ⟨⟨⟨hz, hx1⟩, ⟨(rt_6_2 hx1), (vp_cst (rl_6_2 hx1) hP.1)⟩⟩, ⟨(rt_6_2 hz), (vp_cst (rl_6_2 hz) hP.2)⟩⟩)) (pc' := 54) rfl (fun q5 h4 => ?_)
      refine hp_GW hm (at1 6 rfl) (L' := [(0, (.ref z)), (1, (.ref x1)), (2, (.int p1.1))]) rfl (fun hP => (by exact ⟨⟨⟨hz, hx1⟩, ⟨(rt_6_3 hx1), (vp_cst (rl_6_3 hx1) hP.1)⟩⟩, ⟨(rt_6_3 hz), (vp_cst (rl_6_3 hz) hP.2)⟩⟩)) (pc' := 66) rfl (fun q6 h5 => ?_)
      refine hp_GW hm (at1 7 rfl) (L' := [(0, (.ref z)), (1, (.ref x1)), (2, (.int p1.1))]) rfl (fun hP => (by exact ⟨⟨⟨hz, hx1⟩, ⟨(rt_6_4 hx1), (vp_cst (rl_6_4 hx1) hP.1)⟩⟩, ⟨(rt_6_4 hz), (vp_cst (rl_6_4 hz) hP.2)⟩⟩)) (pc' := 78) rfl (fun q7 h6 => ?_)
      refine hp_GW hm (at1 8 rfl) (L' := [(0, (.ref z)), (1, (.ref x1)), (2, (.int p1.1))]) rfl (fun hP => (by exact ⟨⟨⟨hz, hx1⟩, ⟨(rt_6_5 hx1), (vp_cst (rl_6_5 hx1) hP.1)⟩⟩, ⟨(rt_6_5 hz), (vp_cst (rl_6_5 hz) hP.2)⟩⟩)) (pc' := 90) rfl (fun q8 h7 => ?_)
      refine hp_z hm (at1 9 rfl) (fun (v9 : Int32) => [(2, (.int v9)), (0, (.ref z)), (1, (.ref x1))]) (fun (v9 : Int32) => []) rfl (by exact trivial) (pc' := 93) rfl (fun v9 => ?_)
      refine hp_goto hm 0 rfl (tgt := 10) rfl ?_
      exact hp_lf [1, 2, 0] rfl (fun _ e => e)
  · exact hp_vr hm 2 rfl rfl (fun _ e => e)
/-! HintHouse$Settings.copy(LHintHouse$Settings;)V -/
def M_Se_copy : hM := (7, ⟨"HintHouse$Settings", "copy", "(LHintHouse$Settings;)V"⟩, prog_9_method_3_code, 2, (Option.none : Option Jvm.ClassFile.FieldType), [], [(0, [(.aload_n 0, 1, 0, 0, 0, .null), (.aload_n 1, 1, 0, 0, 0, .null), (.getfield 7, 3, 7, 0, 0, .null), (.putfield 7, 3, 7, 0, 0, .null)]), (8, [(.aload_n 0, 1, 0, 0, 0, .null), (.aload_n 1, 1, 0, 0, 0, .null), (.getfield 13, 3, 7, 1, 0, .null), (.putfield 13, 3, 7, 1, 0, .null)]), (16, [(.aload_n 0, 1, 0, 0, 0, .null), (.aload_n 1, 1, 0, 0, 0, .null), (.getfield 16, 3, 7, 2, 0, .null), (.putfield 16, 3, 7, 2, 0, .null)]), (24, [(.aload_n 0, 1, 0, 0, 0, .null), (.aload_n 1, 1, 0, 0, 0, .null), (.getfield 19, 3, 7, 3, 0, .null), (.putfield 19, 3, 7, 3, 0, .null)]), (32, [(.aload_n 0, 1, 0, 0, 0, .null), (.aload_n 1, 1, 0, 0, 0, .null), (.getfield 22, 3, 7, 4, 1, .null), (.putfield 22, 3, 7, 4, 1, .null)]), (40, [(.aload_n 0, 1, 0, 0, 0, .null), (.aload_n 1, 1, 0, 0, 0, .null), (.getfield 26, 3, 7, 5, 0, .null), (.putfield 26, 3, 7, 5, 0, .null)]), (48, [(.aload_n 0, 1, 0, 0, 0, .null), (.aload_n 1, 1, 0, 0, 0, .null), (.getfield 29, 3, 7, 6, 0, .null), (.putfield 29, 3, 7, 6, 0, .null)]), (56, [(.aload_n 0, 1, 0, 0, 0, .null), (.aload_n 1, 1, 0, 0, 0, .null), (.getfield 32, 3, 7, 7, 0, .null), (.putfield 32, 3, 7, 7, 0, .null)]), (64, [(.aload_n 0, 1, 0, 0, 0, .null), (.aload_n 1, 1, 0, 0, 0, .null), (.getfield 35, 3, 7, 8, 0, .null), (.putfield 35, 3, 7, 8, 0, .null)])], [(72, .return_, 1)])
set_option maxRecDepth 100000 in
theorem m_Se_copy : hx_mok M_Se_copy = true := by decide +kernel
theorem pd_Se_copy : (parseMethodDescriptor M_Se_copy.2.1.desc).map (fun q => q.parameters.length) = some 1 := by decide +kernel
theorem y_Se_copy : hx_okV M_Se_copy := ⟨⟨lw_g (lw_at lw_m7 19 rfl) rfl, lw_g (lw_at lw_m7 17 rfl) rfl, lw_g (lw_at lw_m7 18 rfl) rfl, lw_g (lw_at lw_m1 8 rfl) rfl, rfl, by decide, by decide, by decide⟩, rfl, by decide, plainFor_of_name (by decide)⟩
noncomputable def f_Se_copy (z : Nat) (x1 : Nat) (h : hH) : Option (Unit × hH) :=
  lz (wrI h z 0 (rdI h x1 0)) fun h1 =>
  lz (wrI h1 z 1 (rdI h1 x1 1)) fun h2 =>
  lz (wrI h2 z 2 (rdI h2 x1 2)) fun h3 =>
  lz (wrI h3 z 3 (rdI h3 x1 3)) fun h4 =>
  gd (((rdI h4 x1 4) = 0 ∨ (rdI h4 x1 4) = 1)) <|
  lz (wrI h4 z 4 (rdI h4 x1 4)) fun h5 =>
  lz (wrI h5 z 5 (rdI h5 x1 5)) fun h6 =>
  lz (wrI h6 z 6 (rdI h6 x1 6)) fun h7 =>
  lz (wrI h7 z 7 (rdI h7 x1 7)) fun h8 =>
  lz (wrI h8 z 8 (rdI h8 x1 8)) fun h9 =>
  some ((), h9)
set_option maxRecDepth 20000 in
theorem k_Se_copy (z : Nat) (x1 : Nat) (h : hH) (hz : isA 7 z) (hx1 : isA 7 x1) : hx_kS S0 M_Se_copy 1 NT [(.ref z), (.ref x1)] h (f_Se_copy z x1 h) cvU := by
  have hm := m_Se_copy
  show hx_P S0 M_Se_copy 1 0 [(0, (.ref z)), (1, (.ref x1))] [] NT h (f_Se_copy z x1 h) (hx_Rc cvU NT)
  unfold f_Se_copy
  refine hp_w hm (at1 0 rfl) (L' := [(0, (.ref z)), (1, (.ref x1))]) rfl (by exact ⟨hx1, hz⟩) (pc' := 8) rfl (fun h1 => ?_)
  refine hp_w hm (at1 1 rfl) (L' := [(0, (.ref z)), (1, (.ref x1))]) rfl (by exact ⟨hx1, hz⟩) (pc' := 16) rfl (fun h2 => ?_)
  refine hp_w hm (at1 2 rfl) (L' := [(0, (.ref z)), (1, (.ref x1))]) rfl (by exact ⟨hx1, hz⟩) (pc' := 24) rfl (fun h3 => ?_)
  refine hp_w hm (at1 3 rfl) (L' := [(0, (.ref z)), (1, (.ref x1))]) rfl (by exact ⟨hx1, hz⟩) (pc' := 32) rfl (fun h4 => ?_)
  refine hp_GW hm (at1 4 rfl) (L' := [(0, (.ref z)), (1, (.ref x1))]) rfl (fun hP => (by exact ⟨hx1, ⟨hz, hP⟩⟩)) (pc' := 40) rfl (fun q1 h5 => ?_)
  refine hp_w hm (at1 5 rfl) (L' := [(0, (.ref z)), (1, (.ref x1))]) rfl (by exact ⟨hx1, hz⟩) (pc' := 48) rfl (fun h6 => ?_)
  refine hp_w hm (at1 6 rfl) (L' := [(0, (.ref z)), (1, (.ref x1))]) rfl (by exact ⟨hx1, hz⟩) (pc' := 56) rfl (fun h7 => ?_)
  refine hp_w hm (at1 7 rfl) (L' := [(0, (.ref z)), (1, (.ref x1))]) rfl (by exact ⟨hx1, hz⟩) (pc' := 64) rfl (fun h8 => ?_)
  refine hp_w hm (at1 8 rfl) (L' := [(0, (.ref z)), (1, (.ref x1))]) rfl (by exact ⟨hx1, hz⟩) (pc' := 72) rfl (fun h9 => ?_)
  exact hp_vr hm 0 rfl rfl (fun _ e => e)
/-! HintHouse$Store.copy(LHintHouse$Store;)V -/
def M_St_copy : hM := (5, ⟨"HintHouse$Store", "copy", "(LHintHouse$Store;)V"⟩, prog_10_method_2_code, 3, (Option.none : Option Jvm.ClassFile.FieldType), [], [(0, [(.aload_n 0, 1, 0, 0, 0, .null), (.aload_n 1, 1, 0, 0, 0, .null), (.getfield 32, 3, 5, 1, 0, .null), (.putfield 32, 3, 5, 1, 0, .null)]), (8, [(.aload_n 0, 1, 0, 0, 0, .null), (.aload_n 1, 1, 0, 0, 0, .null), (.getfield 36, 3, 5, 3, 0, .null), (.putfield 36, 3, 5, 3, 0, .null)]), (16, [(.iconst 0, 1, 0, 0, 0, (.int (0 : Int32))), (.istore_n 2, 1, 0, 0, 0, .null)]), (18, [(.iload_n 2, 1, 0, 0, 0, .null), (.aload_n 0, 1, 0, 0, 0, .null), (.getfield 32, 3, 5, 1, 0, .null)]), (26, [(.aload_n 0, 1, 0, 0, 0, .null), (.getfield 7, 3, 5, 0, 4, .null), (.iload_n 2, 1, 0, 0, 0, .null), (.aload_n 1, 1, 0, 0, 0, .null), (.getfield 7, 3, 5, 0, 4, .null), (.iload_n 2, 1, 0, 0, 0, .null), (.iaload, 1, 0, 0, 0, .null), (.iastore, 1, 0, 0, 0, .null)]), (38, [(.iinc 2 1, 3, 0, 0, 0, (.int (1 : Int32)))]), (44, [(.iconst 0, 1, 0, 0, 0, (.int (0 : Int32))), (.istore_n 2, 1, 0, 0, 0, .null)]), (46, [(.iload_n 2, 1, 0, 0, 0, .null), (.aload_n 0, 1, 0, 0, 0, .null), (.getfield 36, 3, 5, 3, 0, .null)]), (54, [(.aload_n 0, 1, 0, 0, 0, .null), (.getfield 13, 3, 5, 2, 4, .null), (.iload_n 2, 1, 0, 0, 0, .null), (.aload_n 1, 1, 0, 0, 0, .null), (.getfield 13, 3, 5, 2, 4, .null), (.iload_n 2, 1, 0, 0, 0, .null), (.iaload, 1, 0, 0, 0, .null), (.iastore, 1, 0, 0, 0, .null)]), (66, [(.iinc 2 1, 3, 0, 0, 0, (.int (1 : Int32)))]), (72, [(.aload_n 0, 1, 0, 0, 0, .null), (.getfield 21, 3, 5, 4, 4, .null), (.aload_n 1, 1, 0, 0, 0, .null), (.getfield 21, 3, 5, 4, 4, .null)]), (83, [(.aload_n 0, 1, 0, 0, 0, .null), (.getfield 28, 3, 5, 5, 4, .null), (.aload_n 1, 1, 0, 0, 0, .null), (.getfield 28, 3, 5, 5, 4, .null)])], [(41, .goto (-23), 3), (23, .if_icmp .ge 21, 3), (69, .goto (-23), 3), (51, .if_icmp .ge 21, 3), (80, .invokevirtual 39, 3), (91, .invokevirtual 43, 3), (94, .return_, 1)])
set_option maxRecDepth 100000 in
theorem m_St_copy : hx_mok M_St_copy = true := by decide +kernel
theorem pd_St_copy : (parseMethodDescriptor M_St_copy.2.1.desc).map (fun q => q.parameters.length) = some 1 := by decide +kernel
theorem y_St_copy : hx_okV M_St_copy := ⟨⟨lw_g (lw_at lw_m7 11 rfl) rfl, lw_g (lw_at lw_m7 9 rfl) rfl, lw_g (lw_at lw_m7 10 rfl) rfl, lw_g (lw_at lw_m1 6 rfl) rfl, rfl, by decide, by decide, by decide⟩, rfl, by decide, plainFor_of_name (by decide)⟩
noncomputable def f_St_copy (z : Nat) (x1 : Nat) (h : hH) : Option (Unit × hH) :=
  lz (wrI h z 1 (rdI h x1 1)) fun h1 =>
  lz (wrI h1 z 3 (rdI h1 x1 3)) fun h2 =>
  bP (A := hH) (
    wh (A := (Int32 × hH)) (B := hH) (fun p1 =>
        if (rdI p1.2 z 1) ≤ p1.1 then (
          some (.inr p1.2)
        ) else (
          gd (vp_in p1.1 256) <|
          lz (wrI p1.2 (rf z 0) (Int32.toNatClampNeg p1.1) (rdI p1.2 (rf x1 0) (Int32.toNatClampNeg p1.1))) fun h3 =>
          lz (A := Int32) (p1.1 + (1 : Int32)) fun v4 =>
          some (.inl (v4, h3))
        )
    ) ((0 : Int32), h2)
  ) fun p2 =>
  bP (A := hH) (
    wh (A := (Int32 × hH)) (B := hH) (fun p6 =>
        if (rdI p6.2 z 3) ≤ p6.1 then (
          some (.inr p6.2)
        ) else (
          gd (vp_in p6.1 64) <|
          lz (wrI p6.2 (rf z 2) (Int32.toNatClampNeg p6.1) (rdI p6.2 (rf x1 2) (Int32.toNatClampNeg p6.1))) fun h4 =>
          lz (A := Int32) (p6.1 + (1 : Int32)) fun v9 =>
          some (.inl (v9, h4))
        )
    ) ((0 : Int32), p2)
  ) fun p7 =>
  bS (f_Zo_copy (rf z 4) (rf x1 4) p7) fun _ h5 =>
  bS (f_Se_copy (rf z 5) (rf x1 5) h5) fun _ h6 =>
  some ((), h6)
set_option maxRecDepth 20000 in
theorem k_St_copy (z : Nat) (x1 : Nat) (h : hH) (hz : isA 5 z) (hx1 : isA 5 x1) : hx_kS S0 M_St_copy 2 NT [(.ref z), (.ref x1)] h (f_St_copy z x1 h) cvU := by
  have hm := m_St_copy
  show hx_P S0 M_St_copy 2 0 [(0, (.ref z)), (1, (.ref x1))] [] NT h (f_St_copy z x1 h) (hx_Rc cvU NT)
  unfold f_St_copy
  refine hp_w hm (at1 0 rfl) (L' := [(0, (.ref z)), (1, (.ref x1))]) rfl (by exact ⟨hx1, hz⟩) (pc' := 8) rfl (fun h1 => ?_)
  refine hp_w hm (at1 1 rfl) (L' := [(0, (.ref z)), (1, (.ref x1))]) rfl (by exact ⟨hx1, hz⟩) (pc' := 16) rfl (fun h2 => ?_)
  refine hp_b hm (at1 2 rfl) (L' := [(2, (.int (0 : Int32))), (0, (.ref z)), (1, (.ref x1))]) (st' := []) rfl (by exact trivial) (pc' := 18) rfl ?_
  refine hp_J 44 (fun (p2 : hH) => [(0, (.ref z)), (1, (.ref x1))]) (fun (p2 : hH) => []) (fun (p2 : hH) => p2) ?_ (fun p2 => ?_)
  · refine hp_s [1, 2, 0] rfl (L' := [(0, (.ref z)), (1, (.ref x1)), (2, (.int (0 : Int32)))]) ?_
    refine hp_wh (fun (p1 : (Int32 × hH)) => [(0, (.ref z)), (1, (.ref x1)), (2, (.int p1.1))]) [] (fun (p1 : (Int32 × hH)) => p1.2) (fun p1 => ?_) ((0 : Int32), h2)
    refine hp_ic_ge hm (at1 3 rfl) rfl (by exact hz) (pc' := 23) rfl 1 rfl (tgt := 44) rfl (fun c5 => ?_) (fun c5 => ?_)
    · exact hp_lf [0, 1] rfl (fun _ e => e)
    · refine hp_GW hm (at1 4 rfl) (L' := [(0, (.ref z)), (1, (.ref x1)), (2, (.int p1.1))]) rfl (fun hP => (by exact ⟨⟨⟨hz, hx1⟩, ⟨(rt_5_0 hx1), (vp_cst (rl_5_0 hx1) hP)⟩⟩, ⟨(rt_5_0 hz), (vp_cst (rl_5_0 hz) hP)⟩⟩)) (pc' := 38) rfl (fun q3 h3 => ?_)
      refine hp_z hm (at1 5 rfl) (fun (v4 : Int32) => [(2, (.int v4)), (0, (.ref z)), (1, (.ref x1))]) (fun (v4 : Int32) => []) rfl (by exact trivial) (pc' := 41) rfl (fun v4 => ?_)
      refine hp_goto hm 0 rfl (tgt := 18) rfl ?_
      exact hp_lf [1, 2, 0] rfl (fun _ e => e)
  · refine hp_b hm (at1 6 rfl) (L' := [(2, (.int (0 : Int32))), (0, (.ref z)), (1, (.ref x1))]) (st' := []) rfl (by exact trivial) (pc' := 46) rfl ?_
    refine hp_J 72 (fun (p7 : hH) => [(0, (.ref z)), (1, (.ref x1))]) (fun (p7 : hH) => []) (fun (p7 : hH) => p7) ?_ (fun p7 => ?_)
    · refine hp_s [1, 2, 0] rfl (L' := [(0, (.ref z)), (1, (.ref x1)), (2, (.int (0 : Int32)))]) ?_
      refine hp_wh (fun (p6 : (Int32 × hH)) => [(0, (.ref z)), (1, (.ref x1)), (2, (.int p6.1))]) [] (fun (p6 : (Int32 × hH)) => p6.2) (fun p6 => ?_) ((0 : Int32), p2)
      refine hp_ic_ge hm (at1 7 rfl) rfl (by exact hz) (pc' := 51) rfl 3 rfl (tgt := 72) rfl (fun c10 => ?_) (fun c10 => ?_)
      · exact hp_lf [0, 1] rfl (fun _ e => e)
      · refine hp_GW hm (at1 8 rfl) (L' := [(0, (.ref z)), (1, (.ref x1)), (2, (.int p6.1))]) rfl (fun hP => (by exact ⟨⟨⟨hz, hx1⟩, ⟨(rt_5_2 hx1), (vp_cst (rl_5_2 hx1) hP)⟩⟩, ⟨(rt_5_2 hz), (vp_cst (rl_5_2 hz) hP)⟩⟩)) (pc' := 66) rfl (fun q8 h4 => ?_)
        refine hp_z hm (at1 9 rfl) (fun (v9 : Int32) => [(2, (.int v9)), (0, (.ref z)), (1, (.ref x1))]) (fun (v9 : Int32) => []) rfl (by exact trivial) (pc' := 69) rfl (fun v9 => ?_)
        refine hp_goto hm 2 rfl (tgt := 46) rfl ?_
        exact hp_lf [1, 2, 0] rfl (fun _ e => e)
    · refine hp_cVS (M2 := M_Zo_copy) hm (at1 10 rfl) (as := [(.ref (rf x1 4))]) (rest := []) (z := (rf z 4)) rfl (by exact ⟨hz, hx1⟩) (pc' := 80) rfl 4 rfl (lw_g (lw_at lw_m7 12 rfl) rfl) y_Zo_copy rfl (d2 := 1) ⟨le_b rfl, pd_Zo_copy, le_b rfl⟩ (le_b rfl) (rt_5_4 hz) (k_Zo_copy (rf z 4) (rf x1 4) p7 (rt_5_4 hz) (rt_5_4 hx1)) (fun _ h5 => ?_)
      refine hp_cVS (M2 := M_Se_copy) hm (at1 11 rfl) (as := [(.ref (rf x1 5))]) (rest := []) (z := (rf z 5)) rfl (by exact ⟨hz, hx1⟩) (pc' := 91) rfl 5 rfl (lw_g (lw_at lw_m7 16 rfl) rfl) y_Se_copy rfl (d2 := 1) ⟨le_b rfl, pd_Se_copy, le_b rfl⟩ (le_b rfl) (rt_5_5 hz) (k_Se_copy (rf z 5) (rf x1 5) h5 (rt_5_5 hz) (rt_5_5 hx1)) (fun _ h6 => ?_)
      exact hp_vr hm 6 rfl rfl (fun _ e => e)
/-! HintHouse$Maker.setSize(I)V -/
def M_Mk_setSize : hM := (8, ⟨"HintHouse$Maker", "setSize", "(I)V"⟩, prog_7_method_2_code, 2, (Option.none : Option Jvm.ClassFile.FieldType), [], [(0, [(.aload_n 0, 1, 0, 0, 0, .null), (.getfield 34, 3, 8, 1, 4, .null), (.iload_n 1, 1, 0, 0, 0, .null)]), (8, [(.aload_n 0, 1, 0, 0, 0, .null), (.getfield 30, 3, 8, 0, 4, .null), (.getfield 46, 3, 2, 28, 0, .null)]), (18, [(.aload_n 0, 1, 0, 0, 0, .null), (.getfield 34, 3, 8, 1, 4, .null), (.iconst 0, 1, 0, 0, 0, (.int (0 : Int32))), (.aload_n 0, 1, 0, 0, 0, .null), (.getfield 30, 3, 8, 0, 4, .null), (.getfield 52, 3, 2, 27, 0, .null), (.aload_n 0, 1, 0, 0, 0, .null), (.getfield 30, 3, 8, 0, 4, .null), (.getfield 46, 3, 2, 28, 0, .null)]), (40, [(.aload_n 0, 1, 0, 0, 0, .null), (.getfield 30, 3, 8, 0, 4, .null), (.getfield 59, 3, 2, 30, 0, .null)]), (50, [(.aload_n 0, 1, 0, 0, 0, .null), (.getfield 34, 3, 8, 1, 4, .null), (.iconst 1, 1, 0, 0, 0, (.int (1 : Int32))), (.aload_n 0, 1, 0, 0, 0, .null), (.getfield 30, 3, 8, 0, 4, .null), (.getfield 62, 3, 2, 29, 0, .null), (.aload_n 0, 1, 0, 0, 0, .null), (.getfield 30, 3, 8, 0, 4, .null), (.getfield 59, 3, 2, 30, 0, .null)]), (72, [(.aload_n 0, 1, 0, 0, 0, .null), (.getfield 12, 3, 8, 2, 4, .null), (.aload_n 0, 1, 0, 0, 0, .null), (.getfield 34, 3, 8, 1, 4, .null), (.getfield 65, 3, 4, 1, 4, .null)])], [(5, .invokevirtual 40, 3), (37, .invokevirtual 55, 3), (15, .ifCond .le 25, 3), (69, .invokevirtual 55, 3), (47, .ifCond .le 25, 3), (83, .invokevirtual 68, 3), (86, .return_, 1)])
set_option maxRecDepth 100000 in
theorem m_Mk_setSize : hx_mok M_Mk_setSize = true := by decide +kernel
theorem pd_Mk_setSize : (parseMethodDescriptor M_Mk_setSize.2.1.desc).map (fun q => q.parameters.length) = some 1 := by decide +kernel
theorem y_Mk_setSize : hx_okV M_Mk_setSize := ⟨⟨lw_g (lw_at lw_m5 97 rfl) rfl, lw_g (lw_at lw_m5 95 rfl) rfl, lw_g (lw_at lw_m5 96 rfl) rfl, lw_g (lw_at lw_m1 9 rfl) rfl, rfl, by decide, by decide, by decide⟩, rfl, by decide, plainFor_of_name (by decide)⟩
noncomputable def f_Mk_setSize (x1 : Int32) (h : hH) : Option (hH ⊕ (Unit × hH)) :=
  bS (f_Ma_begin x1 h) fun _ h1 =>
  bJT (P := hH) (
    if (rdI h1 4 28) ≤ 0 then (
      some (.inr h1)
    ) else (
      bT (f_Ma_run (0 : Int32) (rdI h1 4 27) (rdI h1 4 28) h1) fun _ h2 =>
      some (.inr h2)
    )
  ) fun p1 =>
  bJT (P := hH) (
    if (rdI p1 4 30) ≤ 0 then (
      some (.inr p1)
    ) else (
      bT (f_Ma_run (1 : Int32) (rdI p1 4 29) (rdI p1 4 30) p1) fun _ h3 =>
      some (.inr h3)
    )
  ) fun p3 =>
  bS (f_St_copy 57 23 p3) fun _ h4 =>
  some (.inr ((), h4))
set_option maxRecDepth 20000 in
theorem k_Mk_setSize (x1 : Int32) (h : hH) : hx_kT S0 M_Mk_setSize 15 NT [(.ref 56), (.int x1)] h (f_Mk_setSize x1 h) cvU := by
  have hm := m_Mk_setSize
  show hx_P S0 M_Mk_setSize 15 0 [(0, (.ref 56)), (1, (.int x1))] [] NT h (f_Mk_setSize x1 h) (hx_T NT (hx_Rc cvU NT))
  unfold f_Mk_setSize
  refine hp_cVS (M2 := M_Ma_begin) hm (at1 0 rfl) (as := [(.int x1)]) (rest := []) (z := 22) rfl (by exact og_56) (pc' := 5) rfl 0 rfl (lw_g (lw_at lw_m5 98 rfl) rfl) y_Ma_begin rfl (d2 := 4) ⟨le_b rfl, pd_Ma_begin, le_b rfl⟩ (le_b rfl) og_22 (k_Ma_begin x1 h) (fun _ h1 => ?_)
  refine hp_JT 40 (fun (p1 : hH) => [(0, (.ref 56))]) (fun (p1 : hH) => []) (fun (p1 : hH) => p1) ?_ (fun p1 => ?_)
  · refine hp_if_le hm (at1 1 rfl) rfl (by exact ⟨og_56, og_4⟩) (pc' := 15) rfl 2 rfl (tgt := 40) rfl (fun c2 => ?_) (fun c2 => ?_)
    · exact hp_lf [0] rfl (fun _ e => e)
    · refine hp_cVT (M2 := M_Ma_run) hm (at1 2 rfl) (as := [(.int (0 : Int32)), (.int (rdI h1 4 27)), (.int (rdI h1 4 28))]) (rest := []) (z := 22) rfl (by exact ⟨⟨⟨⟨og_56, og_56⟩, og_4⟩, og_56⟩, og_4⟩) (pc' := 37) rfl 1 rfl (lw_g (lw_at lw_m5 127 rfl) rfl) y_Ma_run rfl (d2 := 14) ⟨le_b rfl, pd_Ma_run, le_b rfl⟩ (le_b rfl) og_22 rfl (k_Ma_run (0 : Int32) (rdI h1 4 27) (rdI h1 4 28) h1) (fun _ h2 => ?_)
      exact hp_lf [0] rfl (fun _ e => e)
  · refine hp_JT 72 (fun (p3 : hH) => [(0, (.ref 56))]) (fun (p3 : hH) => []) (fun (p3 : hH) => p3) ?_ (fun p3 => ?_)
    · refine hp_if_le hm (at1 3 rfl) rfl (by exact ⟨og_56, og_4⟩) (pc' := 47) rfl 4 rfl (tgt := 72) rfl (fun c4 => ?_) (fun c4 => ?_)
      · exact hp_lf [0] rfl (fun _ e => e)
      · refine hp_cVT (M2 := M_Ma_run) hm (at1 4 rfl) (as := [(.int (1 : Int32)), (.int (rdI p1 4 29)), (.int (rdI p1 4 30))]) (rest := []) (z := 22) rfl (by exact ⟨⟨⟨⟨og_56, og_56⟩, og_4⟩, og_56⟩, og_4⟩) (pc' := 69) rfl 3 rfl (lw_g (lw_at lw_m5 127 rfl) rfl) y_Ma_run rfl (d2 := 14) ⟨le_b rfl, pd_Ma_run, le_b rfl⟩ (le_b rfl) og_22 rfl (k_Ma_run (1 : Int32) (rdI p1 4 29) (rdI p1 4 30) p1) (fun _ h3 => ?_)
        exact hp_lf [0] rfl (fun _ e => e)
    · refine hp_cVS (M2 := M_St_copy) hm (at1 5 rfl) (as := [(.ref 23)]) (rest := []) (z := 57) rfl (by exact ⟨⟨og_56, og_56⟩, og_22⟩) (pc' := 83) rfl 5 rfl (lw_g (lw_at lw_m7 8 rfl) rfl) y_St_copy rfl (d2 := 2) ⟨le_b rfl, pd_St_copy, le_b rfl⟩ (le_b rfl) og_57 (k_St_copy 57 23 p3 og_57 og_23) (fun _ h4 => ?_)
      exact hp_vr hm 6 rfl rfl (fun _ e => e)
/-! HintHouse.right()V -/
def M_HH_right : hM := (0, ⟨"HintHouse", "right", "()V"⟩, prog_1_method_16_code, 1, (Option.none : Option Jvm.ClassFile.FieldType), [], [(0, [(.aload_n 0, 1, 0, 0, 0, .null), (.iconst 0, 1, 0, 0, 0, (.int (0 : Int32))), (.putfield 193, 3, 0, 12, 0, .null)]), (5, [(.aload_n 0, 1, 0, 0, 0, .null), (.iconst (-1), 1, 0, 0, 0, (.int (-1 : Int32))), (.putfield 73, 3, 0, 13, 0, .null)])], [(10, .return_, 1)])
set_option maxRecDepth 100000 in
theorem m_HH_right : hx_mok M_HH_right = true := by decide +kernel
theorem pd_HH_right : (parseMethodDescriptor M_HH_right.2.1.desc).map (fun q => q.parameters.length) = some 0 := by decide +kernel
theorem y_HH_right : hx_okV M_HH_right := ⟨⟨lw_g (lw_at lw_m7 23 rfl) rfl, lw_g (lw_at lw_m7 22 rfl) rfl, qs102, lw_g (lw_at lw_m1 1 rfl) rfl, rfl, by decide, by decide, by decide⟩, rfl, by decide, plainFor_of_name (by decide)⟩
noncomputable def f_HH_right (h : hH) : Option (Unit × hH) :=
  lz (wrI h 1 12 (0 : Int32)) fun h1 =>
  lz (wrI h1 1 13 (-1 : Int32)) fun h2 =>
  some ((), h2)
set_option maxRecDepth 20000 in
theorem k_HH_right (h : hH) : hx_kS S0 M_HH_right 1 NT [(.ref 1)] h (f_HH_right h) cvU := by
  have hm := m_HH_right
  show hx_P S0 M_HH_right 1 0 [(0, (.ref 1))] [] NT h (f_HH_right h) (hx_Rc cvU NT)
  unfold f_HH_right
  refine hp_w hm (at1 0 rfl) (L' := [(0, (.ref 1))]) rfl (by exact og_1) (pc' := 5) rfl (fun h1 => ?_)
  refine hp_w hm (at1 1 rfl) (L' := [(0, (.ref 1))]) rfl (by exact og_1) (pc' := 10) rfl (fun h2 => ?_)
  exact hp_vr hm 0 rfl rfl (fun _ e => e)
/-! HintHouse.fails()I -/
def M_HH_fails : hM := (0, ⟨"HintHouse", "fails", "()I"⟩, prog_1_method_15_code, 1, (Option.some Jvm.ClassFile.FieldType.int), [], [(0, [(.aload_n 0, 1, 0, 0, 0, .null), (.dup, 1, 0, 0, 0, .null), (.getfield 187, 3, 0, 11, 0, .null), (.iconst 1, 1, 0, 0, 0, (.int (1 : Int32))), (.iadd, 1, 0, 0, 0, .null), (.putfield 187, 3, 0, 11, 0, .null)]), (10, [(.aload_n 0, 1, 0, 0, 0, .null), (.aload_n 0, 1, 0, 0, 0, .null), (.getfield 38, 3, 0, 3, 4, .null), (.getfield 190, 3, 4, 13, 0, .null), (.putfield 193, 3, 0, 12, 0, .null)]), (21, [(.aload_n 0, 1, 0, 0, 0, .null), (.aload_n 0, 1, 0, 0, 0, .null), (.getfield 38, 3, 0, 3, 4, .null), (.getfield 196, 3, 4, 12, 0, .null), (.putfield 73, 3, 0, 13, 0, .null)]), (32, [(.bipush (-100), 2, 0, 0, 0, (.int (-100 : Int32))), (.aload_n 0, 1, 0, 0, 0, .null), (.getfield 193, 3, 0, 12, 0, .null), (.isub, 1, 0, 0, 0, .null)])], [(39, .ireturn, 1)])
set_option maxRecDepth 100000 in
theorem m_HH_fails : hx_mok M_HH_fails = true := by decide +kernel
theorem pd_HH_fails : (parseMethodDescriptor M_HH_fails.2.1.desc).map (fun q => q.parameters.length) = some 0 := by decide +kernel
theorem y_HH_fails : hx_okV M_HH_fails := ⟨⟨lw_g (lw_at lw_m7 27 rfl) rfl, lw_g (lw_at lw_m7 26 rfl) rfl, qs103, lw_g (lw_at lw_m1 1 rfl) rfl, rfl, by decide, by decide, by decide⟩, rfl, by decide, plainFor_of_name (by decide)⟩
noncomputable def f_HH_fails (h : hH) : Option (Int32 × hH) :=
  lz (wrI h 1 11 ((rdI h 1 11) + (1 : Int32))) fun h1 =>
  lz (wrI h1 1 12 (rdI h1 22 13)) fun h2 =>
  lz (wrI h2 1 13 (rdI h2 22 12)) fun h3 =>
  some (((-100 : Int32) - (rdI h3 1 12)), h3)
set_option maxRecDepth 20000 in
theorem k_HH_fails (h : hH) : hx_kS S0 M_HH_fails 1 NT [(.ref 1)] h (f_HH_fails h) cvI := by
  have hm := m_HH_fails
  show hx_P S0 M_HH_fails 1 0 [(0, (.ref 1))] [] NT h (f_HH_fails h) (hx_Rc cvI NT)
  unfold f_HH_fails
  refine hp_w hm (at1 0 rfl) (L' := [(0, (.ref 1))]) rfl (by exact ⟨og_1, og_1⟩) (pc' := 10) rfl (fun h1 => ?_)
  refine hp_w hm (at1 1 rfl) (L' := [(0, (.ref 1))]) rfl (by exact ⟨⟨og_1, og_22⟩, og_1⟩) (pc' := 21) rfl (fun h2 => ?_)
  refine hp_w hm (at1 2 rfl) (L' := [(0, (.ref 1))]) rfl (by exact ⟨⟨og_1, og_22⟩, og_1⟩) (pc' := 32) rfl (fun h3 => ?_)
  exact hp_ir hm (at1 3 rfl) rfl (by exact og_1) (pc' := 39) rfl 0 rfl rfl (vp_nar_int _) (fun _ e => e)
/-! HintHouse$Maker.begin()V -/
def M_Mk_begin : hM := (8, ⟨"HintHouse$Maker", "begin", "()V"⟩, prog_7_method_3_code, 1, (Option.none : Option Jvm.ClassFile.FieldType), [], [(0, [(.aload_n 0, 1, 0, 0, 0, .null), (.iconst 0, 1, 0, 0, 0, (.int (0 : Int32))), (.putfield 72, 3, 8, 5, 0, .null)]), (5, [(.aload_n 0, 1, 0, 0, 0, .null), (.getfield 34, 3, 8, 1, 4, .null), (.iconst 0, 1, 0, 0, 0, (.int (0 : Int32))), (.putfield 75, 3, 4, 5, 0, .null)]), (13, [(.aload_n 0, 1, 0, 0, 0, .null), (.getfield 34, 3, 8, 1, 4, .null), (.iconst (-1), 1, 0, 0, 0, (.int (-1 : Int32))), (.putfield 78, 3, 4, 12, 0, .null)])], [(21, .return_, 1)])
set_option maxRecDepth 100000 in
theorem m_Mk_begin : hx_mok M_Mk_begin = true := by decide +kernel
theorem pd_Mk_begin : (parseMethodDescriptor M_Mk_begin.2.1.desc).map (fun q => q.parameters.length) = some 0 := by decide +kernel
theorem y_Mk_begin : hx_okV M_Mk_begin := ⟨⟨lw_g (lw_at lw_m7 39 rfl) rfl, lw_g (lw_at lw_m7 37 rfl) rfl, lw_g (lw_at lw_m7 38 rfl) rfl, lw_g (lw_at lw_m1 9 rfl) rfl, rfl, by decide, by decide, by decide⟩, rfl, by decide, plainFor_of_name (by decide)⟩
noncomputable def f_Mk_begin (h : hH) : Option (Unit × hH) :=
  lz (wrI h 56 5 (0 : Int32)) fun h1 =>
  lz (wrI h1 22 5 (0 : Int32)) fun h2 =>
  lz (wrI h2 22 12 (-1 : Int32)) fun h3 =>
  some ((), h3)
set_option maxRecDepth 20000 in
theorem k_Mk_begin (h : hH) : hx_kS S0 M_Mk_begin 1 NT [(.ref 56)] h (f_Mk_begin h) cvU := by
  have hm := m_Mk_begin
  show hx_P S0 M_Mk_begin 1 0 [(0, (.ref 56))] [] NT h (f_Mk_begin h) (hx_Rc cvU NT)
  unfold f_Mk_begin
  refine hp_w hm (at1 0 rfl) (L' := [(0, (.ref 56))]) rfl (by exact og_56) (pc' := 5) rfl (fun h1 => ?_)
  refine hp_w hm (at1 1 rfl) (L' := [(0, (.ref 56))]) rfl (by exact ⟨og_56, og_22⟩) (pc' := 13) rfl (fun h2 => ?_)
  refine hp_w hm (at1 2 rfl) (L' := [(0, (.ref 56))]) rfl (by exact ⟨og_56, og_22⟩) (pc' := 21) rfl (fun h3 => ?_)
  exact hp_vr hm 0 rfl rfl (fun _ e => e)
/-! HintHouse$Outline.clear()V -/
def M_Ou_clear : hM := (9, ⟨"HintHouse$Outline", "clear", "()V"⟩, prog_8_method_2_code, 1, (Option.none : Option Jvm.ClassFile.FieldType), [], [(0, [(.aload_n 0, 1, 0, 0, 0, .null), (.iconst 0, 1, 0, 0, 0, (.int (0 : Int32))), (.putfield 31, 3, 9, 3, 0, .null)]), (5, [(.aload_n 0, 1, 0, 0, 0, .null), (.iconst 0, 1, 0, 0, 0, (.int (0 : Int32))), (.putfield 35, 3, 9, 5, 0, .null)])], [(10, .return_, 1)])
set_option maxRecDepth 100000 in
theorem m_Ou_clear : hx_mok M_Ou_clear = true := by decide +kernel
theorem pd_Ou_clear : (parseMethodDescriptor M_Ou_clear.2.1.desc).map (fun q => q.parameters.length) = some 0 := by decide +kernel
theorem y_Ou_clear : hx_okV M_Ou_clear := ⟨⟨lw_g (lw_at lw_m7 49 rfl) rfl, lw_g (lw_at lw_m7 47 rfl) rfl, lw_g (lw_at lw_m7 48 rfl) rfl, lw_g (lw_at lw_m1 10 rfl) rfl, rfl, by decide, by decide, by decide⟩, rfl, by decide, plainFor_of_name (by decide)⟩
noncomputable def f_Ou_clear (z : Nat) (h : hH) : Option (Unit × hH) :=
  lz (wrI h z 3 (0 : Int32)) fun h1 =>
  lz (wrI h1 z 5 (0 : Int32)) fun h2 =>
  some ((), h2)
set_option maxRecDepth 20000 in
theorem k_Ou_clear (z : Nat) (h : hH) (hz : isA 9 z) : hx_kS S0 M_Ou_clear 1 NT [(.ref z)] h (f_Ou_clear z h) cvU := by
  have hm := m_Ou_clear
  show hx_P S0 M_Ou_clear 1 0 [(0, (.ref z))] [] NT h (f_Ou_clear z h) (hx_Rc cvU NT)
  unfold f_Ou_clear
  refine hp_w hm (at1 0 rfl) (L' := [(0, (.ref z))]) rfl (by exact hz) (pc' := 5) rfl (fun h1 => ?_)
  refine hp_w hm (at1 1 rfl) (L' := [(0, (.ref z))]) rfl (by exact hz) (pc' := 10) rfl (fun h2 => ?_)
  exact hp_vr hm 0 rfl rfl (fun _ e => e)
/-! HintHouse$Maker.simple(LHintHouse$Glyph;LHintHouse$Outline;)V -/
def M_Mk_simple : hM := (8, ⟨"HintHouse$Maker", "simple", "(LHintHouse$Glyph;LHintHouse$Outline;)V"⟩, prog_7_method_6_code, 4, (Option.none : Option Jvm.ClassFile.FieldType), [], [(0, [(.aload_n 2, 1, 0, 0, 0, .null), (.aload_n 1, 1, 0, 0, 0, .null), (.getfield 163, 3, 3, 2, 0, .null), (.putfield 166, 3, 9, 3, 0, .null)]), (8, [(.aload_n 2, 1, 0, 0, 0, .null), (.aload_n 1, 1, 0, 0, 0, .null), (.getfield 163, 3, 3, 2, 0, .null)]), (20, [(.aload_n 1, 1, 0, 0, 0, .null), (.getfield 167, 3, 3, 0, 0, .null)]), (16, [(.iconst 0, 1, 0, 0, 0, (.int (0 : Int32)))]), (24, [(.putfield 170, 3, 9, 5, 0, .null)]), (27, [(.iconst 0, 1, 0, 0, 0, (.int (0 : Int32))), (.istore_n 3, 1, 0, 0, 0, .null)]), (29, [(.iload_n 3, 1, 0, 0, 0, .null), (.aload_n 2, 1, 0, 0, 0, .null), (.getfield 166, 3, 9, 3, 0, .null)]), (37, [(.aload_n 2, 1, 0, 0, 0, .null), (.getfield 171, 3, 9, 0, 4, .null), (.iload_n 3, 1, 0, 0, 0, .null), (.aload_n 0, 1, 0, 0, 0, .null), (.getfield 34, 3, 8, 1, 4, .null), (.aload_n 1, 1, 0, 0, 0, .null), (.getfield 174, 3, 3, 4, 4, .null), (.iload_n 3, 1, 0, 0, 0, .null), (.iaload, 1, 0, 0, 0, .null), (.i2l, 1, 0, 0, 0, .null)]), (56, [(.iastore, 1, 0, 0, 0, .null)]), (57, [(.aload_n 2, 1, 0, 0, 0, .null), (.getfield 175, 3, 9, 1, 4, .null), (.iload_n 3, 1, 0, 0, 0, .null), (.aload_n 0, 1, 0, 0, 0, .null), (.getfield 34, 3, 8, 1, 4, .null), (.aload_n 1, 1, 0, 0, 0, .null), (.getfield 178, 3, 3, 5, 4, .null), (.iload_n 3, 1, 0, 0, 0, .null), (.iaload, 1, 0, 0, 0, .null), (.i2l, 1, 0, 0, 0, .null)]), (76, [(.iastore, 1, 0, 0, 0, .null)]), (77, [(.aload_n 2, 1, 0, 0, 0, .null), (.getfield 179, 3, 9, 2, 4, .null), (.iload_n 3, 1, 0, 0, 0, .null), (.aload_n 1, 1, 0, 0, 0, .null), (.getfield 183, 3, 3, 6, 4, .null), (.iload_n 3, 1, 0, 0, 0, .null), (.iaload, 1, 0, 0, 0, .null), (.iconst 1, 1, 0, 0, 0, (.int (1 : Int32))), (.iand, 1, 0, 0, 0, .null)]), (97, [(.iconst 0, 1, 0, 0, 0, (.int (0 : Int32)))]), (93, [(.iconst 1, 1, 0, 0, 0, (.int (1 : Int32)))]), (98, [(.bastore, 1, 101, 0, 0, .null)]), (99, [(.iinc 3 1, 3, 0, 0, 0, (.int (1 : Int32)))]), (105, [(.iconst 0, 1, 0, 0, 0, (.int (0 : Int32))), (.istore_n 3, 1, 0, 0, 0, .null)]), (107, [(.iload_n 3, 1, 0, 0, 0, .null), (.aload_n 2, 1, 0, 0, 0, .null), (.getfield 170, 3, 9, 5, 0, .null)]), (115, [(.aload_n 2, 1, 0, 0, 0, .null), (.getfield 186, 3, 9, 4, 4, .null), (.iload_n 3, 1, 0, 0, 0, .null), (.aload_n 1, 1, 0, 0, 0, .null), (.getfield 189, 3, 3, 3, 4, .null), (.iload_n 3, 1, 0, 0, 0, .null), (.iaload, 1, 0, 0, 0, .null), (.iastore, 1, 0, 0, 0, .null)]), (127, [(.iinc 3 1, 3, 0, 0, 0, (.int (1 : Int32)))])], [(17, .goto 7, 3), (13, .ifCond .ne 7, 3), (53, .invokevirtual 108, 3), (73, .invokevirtual 108, 3), (94, .goto 4, 3), (90, .ifCond .eq 7, 3), (102, .goto (-73), 3), (34, .if_icmp .ge 71, 3), (130, .goto (-23), 3), (112, .if_icmp .ge 21, 3), (133, .return_, 1)])
set_option maxRecDepth 100000 in
theorem m_Mk_simple : hx_mok M_Mk_simple = true := by decide +kernel
theorem pd_Mk_simple : (parseMethodDescriptor M_Mk_simple.2.1.desc).map (fun q => q.parameters.length) = some 2 := by decide +kernel
theorem y_Mk_simple : hx_okV M_Mk_simple := ⟨⟨lw_g (lw_at lw_m7 56 rfl) rfl, lw_g (lw_at lw_m7 55 rfl) rfl, qs105, lw_g (lw_at lw_m1 9 rfl) rfl, rfl, by decide, by decide, by decide⟩, rfl, by decide, plainFor_of_name (by decide)⟩
noncomputable def f_Mk_simple (x1 : Nat) (x2 : Nat) (h : hH) : Option (Unit × hH) :=
  lz (wrI h x2 3 (rdI h x1 2)) fun h1 =>
  lz (A := Int32) (if (rdI h1 x1 2) = 0 then (0 : Int32) else (rdI h1 x1 0)) fun p1 =>
  lz (wrI h1 x2 5 p1) fun h2 =>
  bP (A := hH) (
    wh (A := (Int32 × hH)) (B := hH) (fun p3 =>
        if (rdI p3.2 x2 3) ≤ p3.1 then (
          some (.inr p3.2)
        ) else (
          gd (vp_in p3.1 100) <|
          bP (f_Ma_scaled (Int32.toInt64 (rdI p3.2 (rf x1 4) (Int32.toNatClampNeg p3.1))) p3.2) fun a6 =>
          gd (vp_in p3.1 100) <|
          lz (wrI p3.2 (rf x2 0) (Int32.toNatClampNeg p3.1) a6) fun h3 =>
          gd (vp_in p3.1 100) <|
          bP (f_Ma_scaled (Int32.toInt64 (rdI h3 (rf x1 5) (Int32.toNatClampNeg p3.1))) h3) fun a9 =>
          gd (vp_in p3.1 100) <|
          lz (wrI h3 (rf x2 1) (Int32.toNatClampNeg p3.1) a9) fun h4 =>
          gd (vp_in p3.1 100) <|
          lz (A := Int32) (if ((rdI h4 (rf x1 6) (Int32.toNatClampNeg p3.1)) &&& (1 : Int32)) = 0 then (0 : Int32) else (1 : Int32)) fun p12 =>
          gd (vp_in p3.1 100) <|
          lz (wrI h4 (rf x2 2) (Int32.toNatClampNeg p3.1) (p12 &&& 1)) fun h5 =>
          lz (A := Int32) (p3.1 + (1 : Int32)) fun v15 =>
          some (.inl (v15, h5))
        )
    ) ((0 : Int32), h2)
  ) fun p4 =>
  bP (A := hH) (
    wh (A := (Int32 × hH)) (B := hH) (fun p17 =>
        if (rdI p17.2 x2 5) ≤ p17.1 then (
          some (.inr p17.2)
        ) else (
          gd (vp_in p17.1 12 ∧ vp_in p17.1 20) <|
          lz (wrI p17.2 (rf x2 4) (Int32.toNatClampNeg p17.1) (rdI p17.2 (rf x1 3) (Int32.toNatClampNeg p17.1))) fun h6 =>
          lz (A := Int32) (p17.1 + (1 : Int32)) fun v20 =>
          some (.inl (v20, h6))
        )
    ) ((0 : Int32), p4)
  ) fun p18 =>
  some ((), p18)
set_option maxRecDepth 20000 in
theorem k_Mk_simple (x1 : Nat) (x2 : Nat) (h : hH) (hx1 : isA 3 x1) (hx2 : isA 9 x2) : hx_kS S0 M_Mk_simple 4 NT [(.ref 56), (.ref x1), (.ref x2)] h (f_Mk_simple x1 x2 h) cvU := by
  have hm := m_Mk_simple
  show hx_P S0 M_Mk_simple 4 0 [(0, (.ref 56)), (1, (.ref x1)), (2, (.ref x2))] [] NT h (f_Mk_simple x1 x2 h) (hx_Rc cvU NT)
  unfold f_Mk_simple
  refine hp_w hm (at1 0 rfl) (L' := [(0, (.ref 56)), (1, (.ref x1)), (2, (.ref x2))]) rfl (by exact ⟨hx1, hx2⟩) (pc' := 8) rfl (fun h1 => ?_)
  refine hp_JZ 24 (fun (p1 : Int32) => [(0, (.ref 56)), (1, (.ref x1)), (2, (.ref x2))]) (fun (p1 : Int32) => [(.int p1), (.ref x2)]) (fun (p1 : Int32) => h1) ?_ (fun p1 => ?_)
  · refine hp_sv0 ?_
    refine hp_if_ne hm (at1 1 rfl) rfl (by exact hx1) (pc' := 13) rfl 1 rfl (tgt := 20) rfl (fun c2 => ?_) (fun c2 => ?_)
    · refine hp_b hm (at1 2 rfl) (L' := [(0, (.ref 56)), (1, (.ref x1)), (2, (.ref x2))]) (st' := [(.int (rdI h1 x1 0)), (.ref x2)]) rfl (by exact hx1) (pc' := 24) rfl ?_
      exact hp_lf [0, 1, 2] rfl (fun _ e => e)
    · refine hp_b hm (at1 3 rfl) (L' := [(0, (.ref 56)), (1, (.ref x1)), (2, (.ref x2))]) (st' := [(.int (0 : Int32)), (.ref x2)]) rfl (by exact trivial) (pc' := 17) rfl ?_
      refine hp_goto hm 0 rfl (tgt := 24) rfl ?_
      exact hp_lf [0, 1, 2] rfl (fun _ e => e)
  · refine hp_w hm (at1 4 rfl) (L' := [(0, (.ref 56)), (1, (.ref x1)), (2, (.ref x2))]) rfl (by exact hx2) (pc' := 27) rfl (fun h2 => ?_)
    refine hp_b hm (at1 5 rfl) (L' := [(3, (.int (0 : Int32))), (0, (.ref 56)), (1, (.ref x1)), (2, (.ref x2))]) (st' := []) rfl (by exact trivial) (pc' := 29) rfl ?_
    refine hp_J 105 (fun (p4 : hH) => [(1, (.ref x1)), (2, (.ref x2))]) (fun (p4 : hH) => []) (fun (p4 : hH) => p4) ?_ (fun p4 => ?_)
    · refine hp_s [1, 2, 3, 0] rfl (L' := [(0, (.ref 56)), (1, (.ref x1)), (2, (.ref x2)), (3, (.int (0 : Int32)))]) ?_
      refine hp_wh (fun (p3 : (Int32 × hH)) => [(0, (.ref 56)), (1, (.ref x1)), (2, (.ref x2)), (3, (.int p3.1))]) [] (fun (p3 : (Int32 × hH)) => p3.2) (fun p3 => ?_) ((0 : Int32), h2)
      refine hp_ic_ge hm (at1 6 rfl) rfl (by exact hx2) (pc' := 34) rfl 7 rfl (tgt := 105) rfl (fun c16 => ?_) (fun c16 => ?_)
      · exact hp_lf [1, 2] rfl (fun _ e => e)
      · refine hp_G hm (at1 7 rfl) (L' := [(0, (.ref 56)), (1, (.ref x1)), (2, (.ref x2)), (3, (.int p3.1))]) (st' := [(.long (Int32.toInt64 (rdI p3.2 (rf x1 4) (Int32.toNatClampNeg p3.1)))), (.ref 22), (.int p3.1), (.ref (rf x2 0))]) rfl (fun hP => (by exact ⟨⟨⟨hx2, og_56⟩, hx1⟩, ⟨(rt_3_4 hx1), (vp_cst (rl_3_4 hx1) hP)⟩⟩)) (pc' := 53) rfl (fun q5 => ?_)
        refine hp_cVP (M2 := M_Ma_scaled) hm at0 (as := [(.long (Int32.toInt64 (rdI p3.2 (rf x1 4) (Int32.toNatClampNeg p3.1))))]) (rest := [(.int p3.1), (.ref (rf x2 0))]) (z := 22) rfl (by exact trivial) (pc' := 53) rfl 2 rfl (lw_g (lw_at lw_m7 51 rfl) rfl) y_Ma_scaled rfl (d2 := 3) ⟨le_b rfl, pd_Ma_scaled, le_b rfl⟩ (le_b rfl) og_22 (k_Ma_scaled (Int32.toInt64 (rdI p3.2 (rf x1 4) (Int32.toNatClampNeg p3.1))) p3.2) (fun a6 => ?_)
        refine hp_GW hm (at1 8 rfl) (L' := [(0, (.ref 56)), (1, (.ref x1)), (2, (.ref x2)), (3, (.int p3.1))]) rfl (fun hP => (by exact ⟨(rt_9_0 hx2), (vp_cst (rl_9_0 hx2) hP)⟩)) (pc' := 57) rfl (fun q7 h3 => ?_)
        refine hp_G hm (at1 9 rfl) (L' := [(0, (.ref 56)), (1, (.ref x1)), (2, (.ref x2)), (3, (.int p3.1))]) (st' := [(.long (Int32.toInt64 (rdI h3 (rf x1 5) (Int32.toNatClampNeg p3.1)))), (.ref 22), (.int p3.1), (.ref (rf x2 1))]) rfl (fun hP => (by exact ⟨⟨⟨hx2, og_56⟩, hx1⟩, ⟨(rt_3_5 hx1), (vp_cst (rl_3_5 hx1) hP)⟩⟩)) (pc' := 73) rfl (fun q8 => ?_)
        refine hp_cVP (M2 := M_Ma_scaled) hm at0 (as := [(.long (Int32.toInt64 (rdI h3 (rf x1 5) (Int32.toNatClampNeg p3.1))))]) (rest := [(.int p3.1), (.ref (rf x2 1))]) (z := 22) rfl (by exact trivial) (pc' := 73) rfl 3 rfl (lw_g (lw_at lw_m7 51 rfl) rfl) y_Ma_scaled rfl (d2 := 3) ⟨le_b rfl, pd_Ma_scaled, le_b rfl⟩ (le_b rfl) og_22 (k_Ma_scaled (Int32.toInt64 (rdI h3 (rf x1 5) (Int32.toNatClampNeg p3.1))) h3) (fun a9 => ?_)
        refine hp_GW hm (at1 10 rfl) (L' := [(0, (.ref 56)), (1, (.ref x1)), (2, (.ref x2)), (3, (.int p3.1))]) rfl (fun hP => (by exact ⟨(rt_9_1 hx2), (vp_cst (rl_9_1 hx2) hP)⟩)) (pc' := 77) rfl (fun q10 h4 => ?_)
        refine hp_G hm (at1 11 rfl) (L' := [(0, (.ref 56)), (1, (.ref x1)), (2, (.ref x2)), (3, (.int p3.1))]) (st' := [(.int ((rdI h4 (rf x1 6) (Int32.toNatClampNeg p3.1)) &&& (1 : Int32))), (.int p3.1), (.ref (rf x2 2))]) rfl (fun hP => (by exact ⟨⟨hx2, hx1⟩, ⟨(rt_3_6 hx1), (vp_cst (rl_3_6 hx1) hP)⟩⟩)) (pc' := 90) rfl (fun q11 => ?_)
        refine hp_JZ 98 (fun (p12 : Int32) => [(0, (.ref 56)), (1, (.ref x1)), (2, (.ref x2)), (3, (.int p3.1))]) (fun (p12 : Int32) => [(.int p12), (.int p3.1), (.ref (rf x2 2))]) (fun (p12 : Int32) => h4) ?_ (fun p12 => ?_)
        · refine hp_sv0 ?_
          refine hp_if_eq hm at0 rfl (by exact trivial) (pc' := 90) rfl 5 rfl (tgt := 97) rfl (fun c13 => ?_) (fun c13 => ?_)
          · refine hp_b hm (at1 12 rfl) (L' := [(0, (.ref 56)), (1, (.ref x1)), (2, (.ref x2)), (3, (.int p3.1))]) (st' := [(.int (0 : Int32)), (.int p3.1), (.ref (rf x2 2))]) rfl (by exact trivial) (pc' := 98) rfl ?_
            exact hp_lf [0, 1, 2, 3] rfl (fun _ e => e)
          · refine hp_b hm (at1 13 rfl) (L' := [(0, (.ref 56)), (1, (.ref x1)), (2, (.ref x2)), (3, (.int p3.1))]) (st' := [(.int (1 : Int32)), (.int p3.1), (.ref (rf x2 2))]) rfl (by exact trivial) (pc' := 94) rfl ?_
            refine hp_goto hm 4 rfl (tgt := 98) rfl ?_
            exact hp_lf [0, 1, 2, 3] rfl (fun _ e => e)
        · refine hp_GW hm (at1 14 rfl) (L' := [(0, (.ref 56)), (1, (.ref x1)), (2, (.ref x2)), (3, (.int p3.1))]) rfl (fun hP => (by exact ⟨(rt_9_2 hx2), (vp_cst (rl_9_2 hx2) hP)⟩)) (pc' := 99) rfl (fun q14 h5 => ?_)
          refine hp_z hm (at1 15 rfl) (fun (v15 : Int32) => [(3, (.int v15)), (0, (.ref 56)), (1, (.ref x1)), (2, (.ref x2))]) (fun (v15 : Int32) => []) rfl (by exact trivial) (pc' := 102) rfl (fun v15 => ?_)
          refine hp_goto hm 6 rfl (tgt := 29) rfl ?_
          exact hp_lf [1, 2, 3, 0] rfl (fun _ e => e)
    · refine hp_b hm (at1 16 rfl) (L' := [(3, (.int (0 : Int32))), (1, (.ref x1)), (2, (.ref x2))]) (st' := []) rfl (by exact trivial) (pc' := 107) rfl ?_
      refine hp_J 133 (fun (p18 : hH) => []) (fun (p18 : hH) => []) (fun (p18 : hH) => p18) ?_ (fun p18 => ?_)
      · refine hp_s [1, 2, 0] rfl (L' := [(1, (.ref x1)), (2, (.ref x2)), (3, (.int (0 : Int32)))]) ?_
        refine hp_wh (fun (p17 : (Int32 × hH)) => [(1, (.ref x1)), (2, (.ref x2)), (3, (.int p17.1))]) [] (fun (p17 : (Int32 × hH)) => p17.2) (fun p17 => ?_) ((0 : Int32), p4)
        refine hp_ic_ge hm (at1 17 rfl) rfl (by exact hx2) (pc' := 112) rfl 9 rfl (tgt := 133) rfl (fun c21 => ?_) (fun c21 => ?_)
        · exact hp_lf [] rfl (fun _ e => e)
        · refine hp_GW hm (at1 18 rfl) (L' := [(1, (.ref x1)), (2, (.ref x2)), (3, (.int p17.1))]) rfl (fun hP => (by exact ⟨⟨⟨hx2, hx1⟩, ⟨(rt_3_3 hx1), (vp_cst (rl_3_3 hx1) hP.1)⟩⟩, ⟨(rt_9_4 hx2), (vp_cst (rl_9_4 hx2) hP.2)⟩⟩)) (pc' := 127) rfl (fun q19 h6 => ?_)
          refine hp_z hm (at1 19 rfl) (fun (v20 : Int32) => [(3, (.int v20)), (1, (.ref x1)), (2, (.ref x2))]) (fun (v20 : Int32) => []) rfl (by exact trivial) (pc' := 130) rfl (fun v20 => ?_)
          refine hp_goto hm 8 rfl (tgt := 107) rfl ?_
          exact hp_lf [1, 2, 0] rfl (fun _ e => e)
      · exact hp_vr hm 10 rfl rfl (fun _ e => e)
/-! HintHouse$Maker.want(ZI)V -/
def M_Mk_want : hM := (8, ⟨"HintHouse$Maker", "want", "(ZI)V"⟩, prog_7_method_4_code, 3, (Option.none : Option Jvm.ClassFile.FieldType), [], [(0, [(.iload_n 1, 1, 0, 0, 0, .null)]), (4, [(.aload_n 0, 1, 0, 0, 0, .null), (.getfield 34, 3, 8, 1, 4, .null), (.iconst (-1), 1, 0, 0, 0, (.int (-1 : Int32))), (.putfield 78, 3, 4, 12, 0, .null)]), (12, [(.aload_n 0, 1, 0, 0, 0, .null), (.getfield 34, 3, 8, 1, 4, .null), (.iload_n 2, 1, 0, 0, 0, .null), (.putfield 81, 3, 4, 13, 0, .null)])], [(28, .return_, 1), (20, .new 84, 3), (23, .dup, 1), (24, .invokespecial 86, 3), (27, .athrow, 1), (1, .ifCond .ne 27, 3)])
set_option maxRecDepth 100000 in
theorem m_Mk_want : hx_mok M_Mk_want = true := by decide +kernel
theorem pd_Mk_want : (parseMethodDescriptor M_Mk_want.2.1.desc).map (fun q => q.parameters.length) = some 2 := by decide +kernel
theorem y_Mk_want : hx_okV M_Mk_want := ⟨⟨lw_g (lw_at lw_m7 60 rfl) rfl, lw_g (lw_at lw_m7 59 rfl) rfl, qs106, lw_g (lw_at lw_m1 9 rfl) rfl, rfl, by decide, by decide, by decide⟩, rfl, by decide, plainFor_of_name (by decide)⟩
noncomputable def f_Mk_want (x1 : Int32) (x2 : Int32) (h : hH) : Option (hH ⊕ (Unit × hH)) :=
  if x1 = 0 then (
    lz (wrI h 22 12 (-1 : Int32)) fun h1 =>
    lz (wrI h1 22 13 x2) fun h2 =>
    some (.inl h2)
  ) else (
    some (.inr ((), h))
  )
set_option maxRecDepth 20000 in
theorem k_Mk_want (x1 : Int32) (x2 : Int32) (h : hH) : hx_kT S0 M_Mk_want 6 NT [(.ref 56), (.int x1), (.int x2)] h (f_Mk_want x1 x2 h) cvU := by
  have hm := m_Mk_want
  show hx_P S0 M_Mk_want 6 0 [(0, (.ref 56)), (1, (.int x1)), (2, (.int x2))] [] NT h (f_Mk_want x1 x2 h) (hx_T NT (hx_Rc cvU NT))
  unfold f_Mk_want
  refine hp_if_ne hm (at1 0 rfl) rfl (by exact trivial) (pc' := 1) rfl 5 rfl (tgt := 28) rfl (fun c1 => ?_) (fun c1 => ?_)
  · exact hp_vr hm 0 rfl rfl (fun _ e => e)
  · refine hp_w hm (at1 1 rfl) (L' := [(0, (.ref 56)), (1, (.int x1)), (2, (.int x2))]) rfl (by exact ⟨og_56, og_22⟩) (pc' := 12) rfl (fun h1 => ?_)
    refine hp_w hm (at1 2 rfl) (L' := [(0, (.ref 56)), (1, (.int x1)), (2, (.int x2))]) rfl (by exact ⟨og_56, og_22⟩) (pc' := 20) rfl (fun h2 => ?_)
    exact hp_thr hm 1 2 3 4 rfl rfl rfl rfl hx_oa8 (lw_g (lw_at lw_m7 61 rfl) rfl) (lw_g (lw_at lw_m5 144 rfl) rfl) (lw_g (lw_at lw_m1 17 rfl) rfl) (le_b rfl) rfl
/-! HintHouse.snapped(I)I -/
def M_HH_snapped : hM := (0, ⟨"HintHouse", "snapped", "(I)I"⟩, prog_1_method_3_code, 1, (Option.some Jvm.ClassFile.FieldType.int), [], [(0, [(.iload_n 0, 1, 0, 0, 0, .null), (.i2l, 1, 0, 0, 0, .null), (.ldc2_w 9, 3, 0, 0, 0, (.long (32 : Int64))), (.ladd, 1, 0, 0, 0, .null), (.bipush 6, 2, 0, 0, 0, (.int (6 : Int32))), (.lshr, 1, 0, 0, 0, .null), (.bipush 6, 2, 0, 0, 0, (.int (6 : Int32))), (.lshl, 1, 0, 0, 0, .null), (.l2i, 1, 0, 0, 0, .null)])], [(13, .ireturn, 1)])
set_option maxRecDepth 100000 in
theorem m_HH_snapped : hx_mok M_HH_snapped = true := by decide +kernel
theorem pd_HH_snapped : (parseMethodDescriptor M_HH_snapped.2.1.desc).map (fun q => q.parameters.length) = some 1 := by decide +kernel
theorem y_HH_snapped : hx_okS M_HH_snapped := ⟨⟨lw_g (lw_at lw_m7 72 rfl) rfl, lw_g (lw_at lw_m7 71 rfl) rfl, lw_g (lw_at lw_m1 1 rfl) rfl, by decide, by decide⟩, rfl, by decide, plainFor_of_name (by decide), rfl⟩
noncomputable def f_HH_snapped (x1 : Int32) : Option Int32 :=
  some (Int64.toInt32 ((((Int32.toInt64 x1) + (32 : Int64)) >>> ((Int32.toInt64 (6 : Int32)) &&& 63)) <<< ((Int32.toInt64 (6 : Int32)) &&& 63)))
set_option maxRecDepth 20000 in
theorem k_HH_snapped (x1 : Int32) (h : hH) : hx_kP S0 M_HH_snapped 1 NT [(.int x1)] h (f_HH_snapped x1) cvI := by
  have hm := m_HH_snapped
  show hx_P S0 M_HH_snapped 1 0 [(0, (.int x1))] [] NT h (f_HH_snapped x1) (hx_Rp cvI NT h)
  unfold f_HH_snapped
  exact hp_ir hm (at1 0 rfl) rfl (by exact trivial) (pc' := 13) rfl 0 rfl rfl (vp_nar_int _) (fun _ e => e)
/-! HintHouse$Outline.copyPhantoms(LHintHouse$Outline;)V -/
def M_Ou_copyPhantoms : hM := (9, ⟨"HintHouse$Outline", "copyPhantoms", "(LHintHouse$Outline;)V"⟩, prog_8_method_3_code, 3, (Option.none : Option Jvm.ClassFile.FieldType), [], [(0, [(.iconst 0, 1, 0, 0, 0, (.int (0 : Int32))), (.istore_n 2, 1, 0, 0, 0, .null)]), (2, [(.iload_n 2, 1, 0, 0, 0, .null), (.iconst 2, 1, 0, 0, 0, (.int (2 : Int32)))]), (7, [(.aload_n 0, 1, 0, 0, 0, .null), (.getfield 25, 3, 9, 6, 4, .null), (.iload_n 2, 1, 0, 0, 0, .null), (.aload_n 1, 1, 0, 0, 0, .null), (.getfield 25, 3, 9, 6, 4, .null), (.iload_n 2, 1, 0, 0, 0, .null), (.iaload, 1, 0, 0, 0, .null), (.iastore, 1, 0, 0, 0, .null)]), (19, [(.aload_n 0, 1, 0, 0, 0, .null), (.getfield 28, 3, 9, 7, 4, .null), (.iload_n 2, 1, 0, 0, 0, .null), (.aload_n 1, 1, 0, 0, 0, .null), (.getfield 28, 3, 9, 7, 4, .null), (.iload_n 2, 1, 0, 0, 0, .null), (.iaload, 1, 0, 0, 0, .null), (.iastore, 1, 0, 0, 0, .null)]), (31, [(.iinc 2 1, 3, 0, 0, 0, (.int (1 : Int32)))])], [(34, .goto (-32), 3), (4, .if_icmp .ge 33, 3), (37, .return_, 1)])
set_option maxRecDepth 100000 in
theorem m_Ou_copyPhantoms : hx_mok M_Ou_copyPhantoms = true := by decide +kernel
theorem pd_Ou_copyPhantoms : (parseMethodDescriptor M_Ou_copyPhantoms.2.1.desc).map (fun q => q.parameters.length) = some 1 := by decide +kernel
theorem y_Ou_copyPhantoms : hx_okV M_Ou_copyPhantoms := ⟨⟨lw_g (lw_at lw_m7 77 rfl) rfl, lw_g (lw_at lw_m7 75 rfl) rfl, lw_g (lw_at lw_m7 76 rfl) rfl, lw_g (lw_at lw_m1 10 rfl) rfl, rfl, by decide, by decide, by decide⟩, rfl, by decide, plainFor_of_name (by decide)⟩
noncomputable def f_Ou_copyPhantoms (z : Nat) (x1 : Nat) (h : hH) : Option (Unit × hH) :=
  bP (A := hH) (
    wh (A := (Int32 × hH)) (B := hH) (fun p1 =>
        if (2 : Int32) ≤ p1.1 then (
          some (.inr p1.2)
        ) else (
          gd (vp_in p1.1 2) <|
          lz (wrI p1.2 (rf z 6) (Int32.toNatClampNeg p1.1) (rdI p1.2 (rf x1 6) (Int32.toNatClampNeg p1.1))) fun h1 =>
          gd (vp_in p1.1 2) <|
          lz (wrI h1 (rf z 7) (Int32.toNatClampNeg p1.1) (rdI h1 (rf x1 7) (Int32.toNatClampNeg p1.1))) fun h2 =>
          lz (A := Int32) (p1.1 + (1 : Int32)) fun v5 =>
          some (.inl (v5, h2))
        )
    ) ((0 : Int32), h)
  ) fun p2 =>
  some ((), p2)
set_option maxRecDepth 20000 in
theorem k_Ou_copyPhantoms (z : Nat) (x1 : Nat) (h : hH) (hz : isA 9 z) (hx1 : isA 9 x1) : hx_kS S0 M_Ou_copyPhantoms 1 NT [(.ref z), (.ref x1)] h (f_Ou_copyPhantoms z x1 h) cvU := by
  have hm := m_Ou_copyPhantoms
  show hx_P S0 M_Ou_copyPhantoms 1 0 [(0, (.ref z)), (1, (.ref x1))] [] NT h (f_Ou_copyPhantoms z x1 h) (hx_Rc cvU NT)
  unfold f_Ou_copyPhantoms
  refine hp_b hm (at1 0 rfl) (L' := [(2, (.int (0 : Int32))), (0, (.ref z)), (1, (.ref x1))]) (st' := []) rfl (by exact trivial) (pc' := 2) rfl ?_
  refine hp_J 37 (fun (p2 : hH) => []) (fun (p2 : hH) => []) (fun (p2 : hH) => p2) ?_ (fun p2 => ?_)
  · refine hp_s [1, 2, 0] rfl (L' := [(0, (.ref z)), (1, (.ref x1)), (2, (.int (0 : Int32)))]) ?_
    refine hp_wh (fun (p1 : (Int32 × hH)) => [(0, (.ref z)), (1, (.ref x1)), (2, (.int p1.1))]) [] (fun (p1 : (Int32 × hH)) => p1.2) (fun p1 => ?_) ((0 : Int32), h)
    refine hp_ic_ge hm (at1 1 rfl) rfl (by exact trivial) (pc' := 4) rfl 1 rfl (tgt := 37) rfl (fun c6 => ?_) (fun c6 => ?_)
    · exact hp_lf [] rfl (fun _ e => e)
    · refine hp_GW hm (at1 2 rfl) (L' := [(0, (.ref z)), (1, (.ref x1)), (2, (.int p1.1))]) rfl (fun hP => (by exact ⟨⟨⟨hz, hx1⟩, ⟨(rt_9_6 hx1), (vp_cst (rl_9_6 hx1) hP)⟩⟩, ⟨(rt_9_6 hz), (vp_cst (rl_9_6 hz) hP)⟩⟩)) (pc' := 19) rfl (fun q3 h1 => ?_)
      refine hp_GW hm (at1 3 rfl) (L' := [(0, (.ref z)), (1, (.ref x1)), (2, (.int p1.1))]) rfl (fun hP => (by exact ⟨⟨⟨hz, hx1⟩, ⟨(rt_9_7 hx1), (vp_cst (rl_9_7 hx1) hP)⟩⟩, ⟨(rt_9_7 hz), (vp_cst (rl_9_7 hz) hP)⟩⟩)) (pc' := 31) rfl (fun q4 h2 => ?_)
      refine hp_z hm (at1 4 rfl) (fun (v5 : Int32) => [(2, (.int v5)), (0, (.ref z)), (1, (.ref x1))]) (fun (v5 : Int32) => []) rfl (by exact trivial) (pc' := 34) rfl (fun v5 => ?_)
      refine hp_goto hm 0 rfl (tgt := 2) rfl ?_
      exact hp_lf [1, 2, 0] rfl (fun _ e => e)
  · exact hp_vr hm 2 rfl rfl (fun _ e => e)
/-! HintHouse$Maker.join(LHintHouse$Glyph;ILHintHouse$Outline;LHintHouse$Outline;)V -/
def M_Mk_join : hM := (8, ⟨"HintHouse$Maker", "join", "(LHintHouse$Glyph;ILHintHouse$Outline;LHintHouse$Outline;)V"⟩, prog_7_method_7_code, 12, (Option.none : Option Jvm.ClassFile.FieldType), [], [(0, [(.aload_n 0, 1, 0, 0, 0, .null), (.aload_n 3, 1, 0, 0, 0, .null), (.getfield 166, 3, 9, 3, 0, .null), (.aload 4, 2, 0, 0, 0, .null), (.getfield 166, 3, 9, 3, 0, .null), (.iadd, 1, 0, 0, 0, .null), (.bipush 100, 2, 0, 0, 0, (.int (100 : Int32)))]), (35, [(.iconst 0, 1, 0, 0, 0, (.int (0 : Int32)))]), (16, [(.aload_n 3, 1, 0, 0, 0, .null), (.getfield 170, 3, 9, 5, 0, .null), (.aload 4, 2, 0, 0, 0, .null), (.getfield 170, 3, 9, 5, 0, .null), (.iadd, 1, 0, 0, 0, .null), (.bipush 20, 2, 0, 0, 0, (.int (20 : Int32)))]), (31, [(.iconst 1, 1, 0, 0, 0, (.int (1 : Int32)))]), (36, [(.bipush 12, 2, 0, 0, 0, (.int (12 : Int32)))]), (41, [(.aload_n 1, 1, 0, 0, 0, .null), (.getfield 190, 3, 3, 10, 4, .null), (.iload_n 2, 1, 0, 0, 0, .null), (.iaload, 1, 0, 0, 0, .null), (.istore 5, 2, 0, 0, 0, .null)]), (49, [(.iconst 4, 1, 0, 0, 0, (.int (4 : Int32))), (.iload_n 2, 1, 0, 0, 0, .null), (.imul, 1, 0, 0, 0, .null), (.istore 6, 2, 0, 0, 0, .null)]), (54, [(.iconst 0, 1, 0, 0, 0, (.int (0 : Int32))), (.istore 7, 2, 0, 0, 0, .null)]), (57, [(.iload 7, 2, 0, 0, 0, .null), (.aload 4, 2, 0, 0, 0, .null), (.getfield 166, 3, 9, 3, 0, .null)]), (67, [(.aload 4, 2, 0, 0, 0, .null), (.getfield 171, 3, 9, 0, 4, .null), (.iload 7, 2, 0, 0, 0, .null), (.iaload, 1, 0, 0, 0, .null), (.i2l, 1, 0, 0, 0, .null), (.lstore 8, 2, 0, 0, 0, .null)]), (78, [(.aload 4, 2, 0, 0, 0, .null), (.getfield 175, 3, 9, 1, 4, .null), (.iload 7, 2, 0, 0, 0, .null), (.iaload, 1, 0, 0, 0, .null), (.i2l, 1, 0, 0, 0, .null), (.lstore 10, 2, 0, 0, 0, .null)]), (89, [(.aload 4, 2, 0, 0, 0, .null), (.getfield 171, 3, 9, 0, 4, .null), (.iload 7, 2, 0, 0, 0, .null), (.lload 8, 2, 0, 0, 0, .null), (.aload_n 1, 1, 0, 0, 0, .null), (.getfield 193, 3, 3, 14, 4, .null), (.iload 6, 2, 0, 0, 0, .null), (.iaload, 1, 0, 0, 0, .null), (.i2l, 1, 0, 0, 0, .null), (.lmul, 1, 0, 0, 0, .null), (.lload 10, 2, 0, 0, 0, .null), (.aload_n 1, 1, 0, 0, 0, .null), (.getfield 193, 3, 3, 14, 4, .null), (.iload 6, 2, 0, 0, 0, .null), (.iconst 2, 1, 0, 0, 0, (.int (2 : Int32))), (.iadd, 1, 0, 0, 0, .null), (.iaload, 1, 0, 0, 0, .null), (.i2l, 1, 0, 0, 0, .null), (.lmul, 1, 0, 0, 0, .null), (.ladd, 1, 0, 0, 0, .null), (.ldc2_w 196, 3, 0, 0, 0, (.long (16384 : Int64)))]), (127, [(.l2i, 1, 0, 0, 0, .null), (.iastore, 1, 0, 0, 0, .null)]), (129, [(.aload 4, 2, 0, 0, 0, .null), (.getfield 175, 3, 9, 1, 4, .null), (.iload 7, 2, 0, 0, 0, .null), (.lload 8, 2, 0, 0, 0, .null), (.aload_n 1, 1, 0, 0, 0, .null), (.getfield 193, 3, 3, 14, 4, .null), (.iload 6, 2, 0, 0, 0, .null), (.iconst 1, 1, 0, 0, 0, (.int (1 : Int32))), (.iadd, 1, 0, 0, 0, .null), (.iaload, 1, 0, 0, 0, .null), (.i2l, 1, 0, 0, 0, .null), (.lmul, 1, 0, 0, 0, .null), (.lload 10, 2, 0, 0, 0, .null), (.aload_n 1, 1, 0, 0, 0, .null), (.getfield 193, 3, 3, 14, 4, .null), (.iload 6, 2, 0, 0, 0, .null), (.iconst 3, 1, 0, 0, 0, (.int (3 : Int32))), (.iadd, 1, 0, 0, 0, .null), (.iaload, 1, 0, 0, 0, .null), (.i2l, 1, 0, 0, 0, .null), (.lmul, 1, 0, 0, 0, .null), (.ladd, 1, 0, 0, 0, .null), (.ldc2_w 196, 3, 0, 0, 0, (.long (16384 : Int64)))]), (169, [(.l2i, 1, 0, 0, 0, .null), (.iastore, 1, 0, 0, 0, .null)]), (171, [(.iinc 7 1, 3, 0, 0, 0, (.int (1 : Int32)))]), (177, [(.iload 5, 2, 0, 0, 0, .null), (.iconst 2, 1, 0, 0, 0, (.int (2 : Int32))), (.iand, 1, 0, 0, 0, .null)]), (257, [(.aload_n 1, 1, 0, 0, 0, .null), (.getfield 202, 3, 3, 12, 4, .null), (.iload_n 2, 1, 0, 0, 0, .null), (.iaload, 1, 0, 0, 0, .null), (.istore 9, 2, 0, 0, 0, .null)]), (265, [(.aload_n 1, 1, 0, 0, 0, .null), (.getfield 205, 3, 3, 13, 4, .null), (.iload_n 2, 1, 0, 0, 0, .null), (.iaload, 1, 0, 0, 0, .null), (.istore 10, 2, 0, 0, 0, .null)]), (273, [(.aload_n 0, 1, 0, 0, 0, .null), (.iload 9, 2, 0, 0, 0, .null), (.aload_n 3, 1, 0, 0, 0, .null), (.getfield 166, 3, 9, 3, 0, .null)]), (297, [(.iconst 0, 1, 0, 0, 0, (.int (0 : Int32)))]), (283, [(.iload 10, 2, 0, 0, 0, .null), (.aload 4, 2, 0, 0, 0, .null), (.getfield 166, 3, 9, 3, 0, .null)]), (293, [(.iconst 1, 1, 0, 0, 0, (.int (1 : Int32)))]), (298, [(.iconst 5, 1, 0, 0, 0, (.int (5 : Int32)))]), (302, [(.aload_n 3, 1, 0, 0, 0, .null), (.getfield 171, 3, 9, 0, 4, .null), (.iload 9, 2, 0, 0, 0, .null), (.iaload, 1, 0, 0, 0, .null), (.aload 4, 2, 0, 0, 0, .null), (.getfield 171, 3, 9, 0, 4, .null), (.iload 10, 2, 0, 0, 0, .null), (.iaload, 1, 0, 0, 0, .null), (.isub, 1, 0, 0, 0, .null), (.istore 7, 2, 0, 0, 0, .null)]), (320, [(.aload_n 3, 1, 0, 0, 0, .null), (.getfield 175, 3, 9, 1, 4, .null), (.iload 9, 2, 0, 0, 0, .null), (.iaload, 1, 0, 0, 0, .null), (.aload 4, 2, 0, 0, 0, .null), (.getfield 175, 3, 9, 1, 4, .null), (.iload 10, 2, 0, 0, 0, .null), (.iaload, 1, 0, 0, 0, .null), (.isub, 1, 0, 0, 0, .null), (.istore 8, 2, 0, 0, 0, .null)]), (184, [(.aload_n 0, 1, 0, 0, 0, .null), (.getfield 34, 3, 8, 1, 4, .null), (.aload_n 1, 1, 0, 0, 0, .null), (.getfield 202, 3, 3, 12, 4, .null), (.iload_n 2, 1, 0, 0, 0, .null), (.iaload, 1, 0, 0, 0, .null), (.i2l, 1, 0, 0, 0, .null)]), (198, [(.istore 7, 2, 0, 0, 0, .null), (.aload_n 0, 1, 0, 0, 0, .null), (.getfield 34, 3, 8, 1, 4, .null), (.aload_n 1, 1, 0, 0, 0, .null), (.getfield 205, 3, 3, 13, 4, .null), (.iload_n 2, 1, 0, 0, 0, .null), (.iaload, 1, 0, 0, 0, .null), (.i2l, 1, 0, 0, 0, .null)]), (214, [(.istore 8, 2, 0, 0, 0, .null), (.iload 5, 2, 0, 0, 0, .null), (.iconst 4, 1, 0, 0, 0, (.int (4 : Int32))), (.iand, 1, 0, 0, 0, .null)]), (231, [(.iload 7, 2, 0, 0, 0, .null)]), (223, [(.iload 7, 2, 0, 0, 0, .null)]), (233, [(.istore 7, 2, 0, 0, 0, .null), (.iload 5, 2, 0, 0, 0, .null), (.iconst 4, 1, 0, 0, 0, (.int (4 : Int32))), (.iand, 1, 0, 0, 0, .null)]), (250, [(.iload 8, 2, 0, 0, 0, .null)]), (242, [(.iload 8, 2, 0, 0, 0, .null)]), (252, [(.istore 8, 2, 0, 0, 0, .null)]), (338, [(.iconst 0, 1, 0, 0, 0, (.int (0 : Int32))), (.istore 9, 2, 0, 0, 0, .null)]), (341, [(.iload 9, 2, 0, 0, 0, .null), (.aload 4, 2, 0, 0, 0, .null), (.getfield 166, 3, 9, 3, 0, .null)]), (351, [(.aload_n 3, 1, 0, 0, 0, .null), (.getfield 171, 3, 9, 0, 4, .null), (.aload_n 3, 1, 0, 0, 0, .null), (.getfield 166, 3, 9, 3, 0, .null), (.iload 9, 2, 0, 0, 0, .null), (.iadd, 1, 0, 0, 0, .null), (.aload 4, 2, 0, 0, 0, .null), (.getfield 171, 3, 9, 0, 4, .null), (.iload 9, 2, 0, 0, 0, .null), (.iaload, 1, 0, 0, 0, .null), (.iload 7, 2, 0, 0, 0, .null), (.iadd, 1, 0, 0, 0, .null), (.iastore, 1, 0, 0, 0, .null)]), (374, [(.aload_n 3, 1, 0, 0, 0, .null), (.getfield 175, 3, 9, 1, 4, .null), (.aload_n 3, 1, 0, 0, 0, .null), (.getfield 166, 3, 9, 3, 0, .null), (.iload 9, 2, 0, 0, 0, .null), (.iadd, 1, 0, 0, 0, .null), (.aload 4, 2, 0, 0, 0, .null), (.getfield 175, 3, 9, 1, 4, .null), (.iload 9, 2, 0, 0, 0, .null), (.iaload, 1, 0, 0, 0, .null), (.iload 8, 2, 0, 0, 0, .null), (.iadd, 1, 0, 0, 0, .null), (.iastore, 1, 0, 0, 0, .null)]), (397, [(.aload_n 3, 1, 0, 0, 0, .null), (.getfield 179, 3, 9, 2, 4, .null), (.aload_n 3, 1, 0, 0, 0, .null), (.getfield 166, 3, 9, 3, 0, .null), (.iload 9, 2, 0, 0, 0, .null), (.iadd, 1, 0, 0, 0, .null), (.aload 4, 2, 0, 0, 0, .null), (.getfield 179, 3, 9, 2, 4, .null), (.iload 9, 2, 0, 0, 0, .null), (.baload, 1, 101, 0, 0, .null), (.bastore, 1, 101, 0, 0, .null)]), (417, [(.iinc 9 1, 3, 0, 0, 0, (.int (1 : Int32)))]), (423, [(.iconst 0, 1, 0, 0, 0, (.int (0 : Int32))), (.istore 9, 2, 0, 0, 0, .null)]), (426, [(.iload 9, 2, 0, 0, 0, .null), (.aload 4, 2, 0, 0, 0, .null), (.getfield 170, 3, 9, 5, 0, .null)]), (436, [(.aload_n 3, 1, 0, 0, 0, .null), (.getfield 186, 3, 9, 4, 4, .null), (.aload_n 3, 1, 0, 0, 0, .null), (.getfield 170, 3, 9, 5, 0, .null), (.iload 9, 2, 0, 0, 0, .null), (.iadd, 1, 0, 0, 0, .null), (.aload_n 3, 1, 0, 0, 0, .null), (.getfield 166, 3, 9, 3, 0, .null), (.aload 4, 2, 0, 0, 0, .null), (.getfield 186, 3, 9, 4, 4, .null), (.iload 9, 2, 0, 0, 0, .null), (.iaload, 1, 0, 0, 0, .null), (.iadd, 1, 0, 0, 0, .null), (.iastore, 1, 0, 0, 0, .null)]), (461, [(.iinc 9 1, 3, 0, 0, 0, (.int (1 : Int32)))]), (467, [(.aload_n 3, 1, 0, 0, 0, .null), (.dup, 1, 0, 0, 0, .null), (.getfield 166, 3, 9, 3, 0, .null), (.aload 4, 2, 0, 0, 0, .null), (.getfield 166, 3, 9, 3, 0, .null), (.iadd, 1, 0, 0, 0, .null), (.putfield 166, 3, 9, 3, 0, .null)]), (481, [(.aload_n 3, 1, 0, 0, 0, .null), (.dup, 1, 0, 0, 0, .null), (.getfield 170, 3, 9, 5, 0, .null), (.aload 4, 2, 0, 0, 0, .null), (.getfield 170, 3, 9, 5, 0, .null), (.iadd, 1, 0, 0, 0, .null), (.putfield 170, 3, 9, 5, 0, .null)]), (495, [(.iload 5, 2, 0, 0, 0, .null), (.sipush 512, 3, 0, 0, 0, (.int (512 : Int32))), (.iand, 1, 0, 0, 0, .null)]), (504, [(.aload_n 3, 1, 0, 0, 0, .null), (.aload 4, 2, 0, 0, 0, .null)])], [(32, .goto 4, 3), (28, .if_icmp .gt 7, 3), (13, .if_icmp .gt 22, 3), (38, .invokevirtual 123, 3), (124, .invokestatic 198, 3), (166, .invokestatic 198, 3), (174, .goto (-117), 3), (64, .if_icmp .ge 113, 3), (294, .goto 4, 3), (290, .if_icmp .ge 7, 3), (280, .if_icmp .ge 17, 3), (299, .invokevirtual 123, 3), (195, .invokevirtual 108, 3), (211, .invokevirtual 108, 3), (225, .invokestatic 208, 3), (228, .goto 5, 3), (220, .ifCond .eq 11, 3), (244, .invokestatic 208, 3), (247, .goto 5, 3), (239, .ifCond .eq 11, 3), (254, .goto 84, 3), (181, .ifCond .eq 76, 3), (420, .goto (-79), 3), (348, .if_icmp .ge 75, 3), (464, .goto (-38), 3), (433, .if_icmp .ge 34, 3), (510, .return_, 1), (507, .invokevirtual 211, 3), (501, .ifCond .eq 9, 3)])
set_option maxRecDepth 100000 in
theorem m_Mk_join : hx_mok M_Mk_join = true := by decide +kernel
theorem pd_Mk_join : (parseMethodDescriptor M_Mk_join.2.1.desc).map (fun q => q.parameters.length) = some 4 := by decide +kernel
theorem y_Mk_join : hx_okV M_Mk_join := ⟨⟨lw_g (lw_at lw_m7 67 rfl) rfl, lw_g (lw_at lw_m7 66 rfl) rfl, qs107, lw_g (lw_at lw_m1 9 rfl) rfl, rfl, by decide, by decide, by decide⟩, rfl, by decide, plainFor_of_name (by decide)⟩
noncomputable def f_Mk_join (x1 : Nat) (x2 : Int32) (x3 : Nat) (x4 : Nat) (h : hH) : Option (hH ⊕ (Unit × hH)) :=
  lz (A := Int32) (if (100 : Int32) < ((rdI h x3 3) + (rdI h x4 3)) then (0 : Int32) else (if (20 : Int32) < ((rdI h x3 5) + (rdI h x4 5)) then (0 : Int32) else (1 : Int32))) fun p1 =>
  bT (f_Mk_want p1 (12 : Int32) h) fun _ h1 =>
  gd (vp_in x2 8) <|
  lz (A := Int32) (rdI h1 (rf x1 10) (Int32.toNatClampNeg x2)) fun v4 =>
  lz (A := Int32) ((4 : Int32) * x2) fun v6 =>
  bJT (P := hH) (
    whT (A := (Int32 × hH)) (B := hH) (fun p7 =>
        if (rdI p7.2 x4 3) ≤ p7.1 then (
          some (.inr (.inr p7.2))
        ) else (
          gd (vp_in p7.1 100) <|
          lz (A := Int64) (Int32.toInt64 (rdI p7.2 (rf x4 0) (Int32.toNatClampNeg p7.1))) fun v9 =>
          gd (vp_in p7.1 100) <|
          lz (A := Int64) (Int32.toInt64 (rdI p7.2 (rf x4 1) (Int32.toNatClampNeg p7.1))) fun v11 =>
          gd (vp_in v6 32 ∧ vp_in (v6 + (2 : Int32)) 32) <|
          bP (f_HH_over ((v9 * (Int32.toInt64 (rdI p7.2 (rf x1 14) (Int32.toNatClampNeg v6)))) + (v11 * (Int32.toInt64 (rdI p7.2 (rf x1 14) (Int32.toNatClampNeg (v6 + (2 : Int32))))))) (16384 : Int64)) fun a14 =>
          gd (vp_in p7.1 100) <|
          lz (wrI p7.2 (rf x4 0) (Int32.toNatClampNeg p7.1) (Int64.toInt32 a14)) fun h2 =>
          gd (vp_in (v6 + (1 : Int32)) 32 ∧ vp_in (v6 + (3 : Int32)) 32) <|
          bP (f_HH_over ((v9 * (Int32.toInt64 (rdI h2 (rf x1 14) (Int32.toNatClampNeg (v6 + (1 : Int32)))))) + (v11 * (Int32.toInt64 (rdI h2 (rf x1 14) (Int32.toNatClampNeg (v6 + (3 : Int32))))))) (16384 : Int64)) fun a17 =>
          gd (vp_in p7.1 100) <|
          lz (wrI h2 (rf x4 1) (Int32.toNatClampNeg p7.1) (Int64.toInt32 a17)) fun h3 =>
          lz (A := Int32) (p7.1 + (1 : Int32)) fun v19 =>
          some (.inr (.inl (v19, h3)))
        )
    ) ((0 : Int32), h1)
  ) fun p8 =>
  bJT (P := (Int32 × Int32 × hH)) (
    if (v4 &&& (2 : Int32)) = 0 then (
      gd (vp_in x2 8) <|
      lz (A := Int32) (rdI p8 (rf x1 12) (Int32.toNatClampNeg x2)) fun v22 =>
      gd (vp_in x2 8) <|
      lz (A := Int32) (rdI p8 (rf x1 13) (Int32.toNatClampNeg x2)) fun v24 =>
      lz (A := Int32) (if (rdI p8 x3 3) ≤ v22 then (0 : Int32) else (if (rdI p8 x4 3) ≤ v24 then (0 : Int32) else (1 : Int32))) fun p26 =>
      bT (f_Mk_want p26 (5 : Int32) p8) fun _ h4 =>
      gd (vp_in v22 100 ∧ vp_in v24 100) <|
      lz (A := Int32) ((rdI h4 (rf x3 0) (Int32.toNatClampNeg v22)) - (rdI h4 (rf x4 0) (Int32.toNatClampNeg v24))) fun v29 =>
      gd (vp_in v22 100 ∧ vp_in v24 100) <|
      lz (A := Int32) ((rdI h4 (rf x3 1) (Int32.toNatClampNeg v22)) - (rdI h4 (rf x4 1) (Int32.toNatClampNeg v24))) fun v31 =>
      some (.inr (v29, v31, h4))
    ) else (
      gd (vp_in x2 8) <|
      bP (f_Ma_scaled (Int32.toInt64 (rdI p8 (rf x1 12) (Int32.toNatClampNeg x2))) p8) fun a34 =>
      gd (vp_in x2 8) <|
      bP (f_Ma_scaled (Int32.toInt64 (rdI p8 (rf x1 13) (Int32.toNatClampNeg x2))) p8) fun a36 =>
      bJT (P := Int32) (
        if (v4 &&& (4 : Int32)) = 0 then (
          some (.inr a34)
        ) else (
          bP (f_HH_snapped a34) fun a38 =>
          some (.inr a38)
        )
      ) fun p37 =>
      bJT (P := Int32) (
        if (v4 &&& (4 : Int32)) = 0 then (
          some (.inr a36)
        ) else (
          bP (f_HH_snapped a36) fun a41 =>
          some (.inr a41)
        )
      ) fun p40 =>
      some (.inr (p37, p40, p8))
    )
  ) fun p21 =>
  bJT (P := hH) (
    whT (A := (Int32 × hH)) (B := hH) (fun p44 =>
        if (rdI p44.2 x4 3) ≤ p44.1 then (
          some (.inr (.inr p44.2))
        ) else (
          gd (vp_in p44.1 100 ∧ vp_in ((rdI p44.2 x3 3) + p44.1) 100) <|
          lz (wrI p44.2 (rf x3 0) (Int32.toNatClampNeg ((rdI p44.2 x3 3) + p44.1)) ((rdI p44.2 (rf x4 0) (Int32.toNatClampNeg p44.1)) + p21.1)) fun h5 =>
          gd (vp_in p44.1 100 ∧ vp_in ((rdI h5 x3 3) + p44.1) 100) <|
          lz (wrI h5 (rf x3 1) (Int32.toNatClampNeg ((rdI h5 x3 3) + p44.1)) ((rdI h5 (rf x4 1) (Int32.toNatClampNeg p44.1)) + p21.2.1)) fun h6 =>
          gd (vp_in p44.1 100 ∧ vp_in ((rdI h6 x3 3) + p44.1) 100) <|
          lz (wrI h6 (rf x3 2) (Int32.toNatClampNeg ((rdI h6 x3 3) + p44.1)) ((rdI h6 (rf x4 2) (Int32.toNatClampNeg p44.1)) &&& 1)) fun h7 =>
          lz (A := Int32) (p44.1 + (1 : Int32)) fun v49 =>
          some (.inr (.inl (v49, h7)))
        )
    ) ((0 : Int32), p21.2.2)
  ) fun p45 =>
  bJT (P := hH) (
    whT (A := (Int32 × hH)) (B := hH) (fun p51 =>
        if (rdI p51.2 x4 5) ≤ p51.1 then (
          some (.inr (.inr p51.2))
        ) else (
          gd (vp_in p51.1 20 ∧ vp_in ((rdI p51.2 x3 5) + p51.1) 20) <|
          lz (wrI p51.2 (rf x3 4) (Int32.toNatClampNeg ((rdI p51.2 x3 5) + p51.1)) ((rdI p51.2 x3 3) + (rdI p51.2 (rf x4 4) (Int32.toNatClampNeg p51.1)))) fun h8 =>
          lz (A := Int32) (p51.1 + (1 : Int32)) fun v54 =>
          some (.inr (.inl (v54, h8)))
        )
    ) ((0 : Int32), p45)
  ) fun p52 =>
  lz (wrI p52 x3 3 ((rdI p52 x3 3) + (rdI p52 x4 3))) fun h9 =>
  lz (wrI h9 x3 5 ((rdI h9 x3 5) + (rdI h9 x4 5))) fun h10 =>
  if (v4 &&& (512 : Int32)) = 0 then (
    some (.inr ((), h10))
  ) else (
    bS (f_Ou_copyPhantoms x3 x4 h10) fun _ h11 =>
    some (.inr ((), h11))
  )
set_option maxRecDepth 20000 in
theorem k_Mk_join (x1 : Nat) (x2 : Int32) (x3 : Nat) (x4 : Nat) (h : hH) (hx1 : isA 3 x1) (hx3 : isA 9 x3) (hx4 : isA 9 x4) : hx_kT S0 M_Mk_join 7 NT [(.ref 56), (.ref x1), (.int x2), (.ref x3), (.ref x4)] h (f_Mk_join x1 x2 x3 x4 h) cvU := by
  have hm := m_Mk_join
  show hx_P S0 M_Mk_join 7 0 [(0, (.ref 56)), (1, (.ref x1)), (2, (.int x2)), (3, (.ref x3)), (4, (.ref x4))] [] NT h (f_Mk_join x1 x2 x3 x4 h) (hx_T NT (hx_Rc cvU NT))
  unfold f_Mk_join
  refine hp_JZ 36 (fun (p1 : Int32) => [(0, (.ref 56)), (1, (.ref x1)), (2, (.int x2)), (3, (.ref x3)), (4, (.ref x4))]) (fun (p1 : Int32) => [(.int p1), (.ref 56)]) (fun (p1 : Int32) => h) ?_ (fun p1 => ?_)
  · refine hp_sv0 ?_
    refine hp_ic_gt hm (at1 0 rfl) rfl (by exact ⟨hx3, hx4⟩) (pc' := 13) rfl 2 rfl (tgt := 35) rfl (fun c3 => ?_) (fun c3 => ?_)
    · refine hp_b hm (at1 1 rfl) (L' := [(0, (.ref 56)), (1, (.ref x1)), (2, (.int x2)), (3, (.ref x3)), (4, (.ref x4))]) (st' := [(.int (0 : Int32)), (.ref 56)]) rfl (by exact trivial) (pc' := 36) rfl ?_
      exact hp_lf [0, 1, 2, 3, 4] rfl (fun _ e => e)
    · refine hp_sv0 ?_
      refine hp_ic_gt hm (at1 2 rfl) rfl (by exact ⟨hx3, hx4⟩) (pc' := 28) rfl 1 rfl (tgt := 35) rfl (fun c2 => ?_) (fun c2 => ?_)
      · refine hp_b hm (at1 1 rfl) (L' := [(0, (.ref 56)), (1, (.ref x1)), (2, (.int x2)), (3, (.ref x3)), (4, (.ref x4))]) (st' := [(.int (0 : Int32)), (.ref 56)]) rfl (by exact trivial) (pc' := 36) rfl ?_
        exact hp_lf [0, 1, 2, 3, 4] rfl (fun _ e => e)
      · refine hp_b hm (at1 3 rfl) (L' := [(0, (.ref 56)), (1, (.ref x1)), (2, (.int x2)), (3, (.ref x3)), (4, (.ref x4))]) (st' := [(.int (1 : Int32)), (.ref 56)]) rfl (by exact trivial) (pc' := 32) rfl ?_
        refine hp_goto hm 0 rfl (tgt := 36) rfl ?_
        exact hp_lf [0, 1, 2, 3, 4] rfl (fun _ e => e)
  · refine hp_cVT (M2 := M_Mk_want) hm (at1 4 rfl) (as := [(.int p1), (.int (12 : Int32))]) (rest := []) (z := 56) rfl (by exact trivial) (pc' := 38) rfl 3 rfl (lw_g (lw_at lw_m7 57 rfl) rfl) y_Mk_want rfl (d2 := 6) ⟨le_b rfl, pd_Mk_want, le_b rfl⟩ (le_b rfl) og_56 rfl (k_Mk_want p1 (12 : Int32) h) (fun _ h1 => ?_)
    refine hp_GZ hm (at1 5 rfl) (fun (v4 : Int32) => [(5, (.int v4)), (0, (.ref 56)), (1, (.ref x1)), (2, (.int x2)), (3, (.ref x3)), (4, (.ref x4))]) (fun (v4 : Int32) => []) rfl (fun hP => (by exact ⟨hx1, ⟨(rt_3_10 hx1), (vp_cst (rl_3_10 hx1) hP)⟩⟩)) (pc' := 49) rfl (fun q5 v4 => ?_)
    refine hp_z hm (at1 6 rfl) (fun (v6 : Int32) => [(6, (.int v6)), (5, (.int v4)), (0, (.ref 56)), (1, (.ref x1)), (2, (.int x2)), (3, (.ref x3)), (4, (.ref x4))]) (fun (v6 : Int32) => []) rfl (by exact trivial) (pc' := 54) rfl (fun v6 => ?_)
    refine hp_b hm (at1 7 rfl) (L' := [(7, (.int (0 : Int32))), (6, (.int v6)), (5, (.int v4)), (0, (.ref 56)), (1, (.ref x1)), (2, (.int x2)), (3, (.ref x3)), (4, (.ref x4))]) (st' := []) rfl (by exact trivial) (pc' := 57) rfl ?_
    refine hp_JT 177 (fun (p8 : hH) => [(0, (.ref 56)), (1, (.ref x1)), (2, (.int x2)), (3, (.ref x3)), (4, (.ref x4)), (5, (.int v4))]) (fun (p8 : hH) => []) (fun (p8 : hH) => p8) ?_ (fun p8 => ?_)
    · refine hp_s [3, 4, 5, 6, 7, 2, 1, 0] rfl (L' := [(0, (.ref 56)), (1, (.ref x1)), (2, (.int x2)), (3, (.ref x3)), (4, (.ref x4)), (5, (.int v4)), (6, (.int v6)), (7, (.int (0 : Int32)))]) ?_
      refine hp_whT (fun (p7 : (Int32 × hH)) => [(0, (.ref 56)), (1, (.ref x1)), (2, (.int x2)), (3, (.ref x3)), (4, (.ref x4)), (5, (.int v4)), (6, (.int v6)), (7, (.int p7.1))]) [] (fun (p7 : (Int32 × hH)) => p7.2) (fun p7 => ?_) ((0 : Int32), h1)
      refine hp_ic_ge hm (at1 8 rfl) rfl (by exact hx4) (pc' := 64) rfl 7 rfl (tgt := 177) rfl (fun c20 => ?_) (fun c20 => ?_)
      · exact hp_lf [0, 1, 2, 3, 4, 5] rfl (fun _ e => e)
      · refine hp_GZ hm (at1 9 rfl) (fun (v9 : Int64) => [(8, (.long v9)), (0, (.ref 56)), (1, (.ref x1)), (2, (.int x2)), (3, (.ref x3)), (4, (.ref x4)), (5, (.int v4)), (6, (.int v6)), (7, (.int p7.1))]) (fun (v9 : Int64) => []) rfl (fun hP => (by exact ⟨hx4, ⟨(rt_9_0 hx4), (vp_cst (rl_9_0 hx4) hP)⟩⟩)) (pc' := 78) rfl (fun q10 v9 => ?_)
        refine hp_GZ hm (at1 10 rfl) (fun (v11 : Int64) => [(10, (.long v11)), (8, (.long v9)), (0, (.ref 56)), (1, (.ref x1)), (2, (.int x2)), (3, (.ref x3)), (4, (.ref x4)), (5, (.int v4)), (6, (.int v6)), (7, (.int p7.1))]) (fun (v11 : Int64) => []) rfl (fun hP => (by exact ⟨hx4, ⟨(rt_9_1 hx4), (vp_cst (rl_9_1 hx4) hP)⟩⟩)) (pc' := 89) rfl (fun q12 v11 => ?_)
        refine hp_G hm (at1 11 rfl) (L' := [(10, (.long v11)), (8, (.long v9)), (0, (.ref 56)), (1, (.ref x1)), (2, (.int x2)), (3, (.ref x3)), (4, (.ref x4)), (5, (.int v4)), (6, (.int v6)), (7, (.int p7.1))]) (st' := [(.long (16384 : Int64)), (.long ((v9 * (Int32.toInt64 (rdI p7.2 (rf x1 14) (Int32.toNatClampNeg v6)))) + (v11 * (Int32.toInt64 (rdI p7.2 (rf x1 14) (Int32.toNatClampNeg (v6 + (2 : Int32)))))))), (.int p7.1), (.ref (rf x4 0))]) rfl (fun hP => (by exact ⟨⟨⟨⟨hx4, hx1⟩, ⟨(rt_3_14 hx1), (vp_cst (rl_3_14 hx1) hP.1)⟩⟩, hx1⟩, ⟨(rt_3_14 hx1), (vp_cst (rl_3_14 hx1) hP.2)⟩⟩)) (pc' := 124) rfl (fun q13 => ?_)
        refine hp_cNP (M2 := M_HH_over) hm at0 (as := [(.long ((v9 * (Int32.toInt64 (rdI p7.2 (rf x1 14) (Int32.toNatClampNeg v6)))) + (v11 * (Int32.toInt64 (rdI p7.2 (rf x1 14) (Int32.toNatClampNeg (v6 + (2 : Int32)))))))), (.long (16384 : Int64))]) (rest := [(.int p7.1), (.ref (rf x4 0))]) rfl (by exact trivial) (pc' := 124) rfl 4 rfl (hmn_8_198) y_HH_over rfl (d2 := 2) ⟨le_b rfl, pd_HH_over, le_b rfl⟩ (le_b rfl) (k_HH_over ((v9 * (Int32.toInt64 (rdI p7.2 (rf x1 14) (Int32.toNatClampNeg v6)))) + (v11 * (Int32.toInt64 (rdI p7.2 (rf x1 14) (Int32.toNatClampNeg (v6 + (2 : Int32))))))) (16384 : Int64) p7.2) (fun a14 => ?_)
        refine hp_GW hm (at1 12 rfl) (L' := [(10, (.long v11)), (8, (.long v9)), (0, (.ref 56)), (1, (.ref x1)), (2, (.int x2)), (3, (.ref x3)), (4, (.ref x4)), (5, (.int v4)), (6, (.int v6)), (7, (.int p7.1))]) rfl (fun hP => (by exact ⟨(rt_9_0 hx4), (vp_cst (rl_9_0 hx4) hP)⟩)) (pc' := 129) rfl (fun q15 h2 => ?_)
        refine hp_G hm (at1 13 rfl) (L' := [(10, (.long v11)), (8, (.long v9)), (0, (.ref 56)), (1, (.ref x1)), (2, (.int x2)), (3, (.ref x3)), (4, (.ref x4)), (5, (.int v4)), (6, (.int v6)), (7, (.int p7.1))]) (st' := [(.long (16384 : Int64)), (.long ((v9 * (Int32.toInt64 (rdI h2 (rf x1 14) (Int32.toNatClampNeg (v6 + (1 : Int32)))))) + (v11 * (Int32.toInt64 (rdI h2 (rf x1 14) (Int32.toNatClampNeg (v6 + (3 : Int32)))))))), (.int p7.1), (.ref (rf x4 1))]) rfl (fun hP => (by exact ⟨⟨⟨⟨hx4, hx1⟩, ⟨(rt_3_14 hx1), (vp_cst (rl_3_14 hx1) hP.1)⟩⟩, hx1⟩, ⟨(rt_3_14 hx1), (vp_cst (rl_3_14 hx1) hP.2)⟩⟩)) (pc' := 166) rfl (fun q16 => ?_)
        refine hp_cNP (M2 := M_HH_over) hm at0 (as := [(.long ((v9 * (Int32.toInt64 (rdI h2 (rf x1 14) (Int32.toNatClampNeg (v6 + (1 : Int32)))))) + (v11 * (Int32.toInt64 (rdI h2 (rf x1 14) (Int32.toNatClampNeg (v6 + (3 : Int32)))))))), (.long (16384 : Int64))]) (rest := [(.int p7.1), (.ref (rf x4 1))]) rfl (by exact trivial) (pc' := 166) rfl 5 rfl (hmn_8_198) y_HH_over rfl (d2 := 2) ⟨le_b rfl, pd_HH_over, le_b rfl⟩ (le_b rfl) (k_HH_over ((v9 * (Int32.toInt64 (rdI h2 (rf x1 14) (Int32.toNatClampNeg (v6 + (1 : Int32)))))) + (v11 * (Int32.toInt64 (rdI h2 (rf x1 14) (Int32.toNatClampNeg (v6 + (3 : Int32))))))) (16384 : Int64) h2) (fun a17 => ?_)
        refine hp_GW hm (at1 14 rfl) (L' := [(10, (.long v11)), (8, (.long v9)), (0, (.ref 56)), (1, (.ref x1)), (2, (.int x2)), (3, (.ref x3)), (4, (.ref x4)), (5, (.int v4)), (6, (.int v6)), (7, (.int p7.1))]) rfl (fun hP => (by exact ⟨(rt_9_1 hx4), (vp_cst (rl_9_1 hx4) hP)⟩)) (pc' := 171) rfl (fun q18 h3 => ?_)
        refine hp_z hm (at1 15 rfl) (fun (v19 : Int32) => [(7, (.int v19)), (10, (.long v11)), (8, (.long v9)), (0, (.ref 56)), (1, (.ref x1)), (2, (.int x2)), (3, (.ref x3)), (4, (.ref x4)), (5, (.int v4)), (6, (.int v6))]) (fun (v19 : Int32) => []) rfl (by exact trivial) (pc' := 174) rfl (fun v19 => ?_)
        refine hp_goto hm 6 rfl (tgt := 57) rfl ?_
        exact hp_lf [3, 4, 5, 6, 7, 8, 9, 0] rfl (fun _ e => e)
    · refine hp_JT 338 (fun (p21 : (Int32 × Int32 × hH)) => [(3, (.ref x3)), (4, (.ref x4)), (5, (.int v4)), (7, (.int p21.1)), (8, (.int p21.2.1))]) (fun (p21 : (Int32 × Int32 × hH)) => []) (fun (p21 : (Int32 × Int32 × hH)) => p21.2.2) ?_ (fun p21 => ?_)
      · refine hp_if_eq hm (at1 16 rfl) rfl (by exact trivial) (pc' := 181) rfl 21 rfl (tgt := 257) rfl (fun c43 => ?_) (fun c43 => ?_)
        · refine hp_GZ hm (at1 17 rfl) (fun (v22 : Int32) => [(9, (.int v22)), (0, (.ref 56)), (1, (.ref x1)), (2, (.int x2)), (3, (.ref x3)), (4, (.ref x4)), (5, (.int v4))]) (fun (v22 : Int32) => []) rfl (fun hP => (by exact ⟨hx1, ⟨(rt_3_12 hx1), (vp_cst (rl_3_12 hx1) hP)⟩⟩)) (pc' := 265) rfl (fun q23 v22 => ?_)
          refine hp_GZ hm (at1 18 rfl) (fun (v24 : Int32) => [(10, (.int v24)), (9, (.int v22)), (0, (.ref 56)), (1, (.ref x1)), (2, (.int x2)), (3, (.ref x3)), (4, (.ref x4)), (5, (.int v4))]) (fun (v24 : Int32) => []) rfl (fun hP => (by exact ⟨hx1, ⟨(rt_3_13 hx1), (vp_cst (rl_3_13 hx1) hP)⟩⟩)) (pc' := 273) rfl (fun q25 v24 => ?_)
          refine hp_JZ 298 (fun (p26 : Int32) => [(3, (.ref x3)), (4, (.ref x4)), (5, (.int v4)), (9, (.int v22)), (10, (.int v24))]) (fun (p26 : Int32) => [(.int p26), (.ref 56)]) (fun (p26 : Int32) => p8) ?_ (fun p26 => ?_)
          · refine hp_sv0 ?_
            refine hp_ic_ge hm (at1 19 rfl) rfl (by exact hx3) (pc' := 280) rfl 10 rfl (tgt := 297) rfl (fun c28 => ?_) (fun c28 => ?_)
            · refine hp_b hm (at1 20 rfl) (L' := [(10, (.int v24)), (9, (.int v22)), (0, (.ref 56)), (1, (.ref x1)), (2, (.int x2)), (3, (.ref x3)), (4, (.ref x4)), (5, (.int v4))]) (st' := [(.int (0 : Int32)), (.ref 56)]) rfl (by exact trivial) (pc' := 298) rfl ?_
              exact hp_lf [5, 6, 7, 1, 0] rfl (fun _ e => e)
            · refine hp_sv0 ?_
              refine hp_ic_ge hm (at1 21 rfl) rfl (by exact hx4) (pc' := 290) rfl 9 rfl (tgt := 297) rfl (fun c27 => ?_) (fun c27 => ?_)
              · refine hp_b hm (at1 20 rfl) (L' := [(10, (.int v24)), (9, (.int v22)), (0, (.ref 56)), (1, (.ref x1)), (2, (.int x2)), (3, (.ref x3)), (4, (.ref x4)), (5, (.int v4))]) (st' := [(.int (0 : Int32)), (.ref 56)]) rfl (by exact trivial) (pc' := 298) rfl ?_
                exact hp_lf [5, 6, 7, 1, 0] rfl (fun _ e => e)
              · refine hp_b hm (at1 22 rfl) (L' := [(10, (.int v24)), (9, (.int v22)), (0, (.ref 56)), (1, (.ref x1)), (2, (.int x2)), (3, (.ref x3)), (4, (.ref x4)), (5, (.int v4))]) (st' := [(.int (1 : Int32)), (.ref 56)]) rfl (by exact trivial) (pc' := 294) rfl ?_
                refine hp_goto hm 8 rfl (tgt := 298) rfl ?_
                exact hp_lf [5, 6, 7, 1, 0] rfl (fun _ e => e)
          · refine hp_cVT (M2 := M_Mk_want) hm (at1 23 rfl) (as := [(.int p26), (.int (5 : Int32))]) (rest := []) (z := 56) rfl (by exact trivial) (pc' := 299) rfl 11 rfl (lw_g (lw_at lw_m7 57 rfl) rfl) y_Mk_want rfl (d2 := 6) ⟨le_b rfl, pd_Mk_want, le_b rfl⟩ (le_b rfl) og_56 rfl (k_Mk_want p26 (5 : Int32) p8) (fun _ h4 => ?_)
            refine hp_GZ hm (at1 24 rfl) (fun (v29 : Int32) => [(7, (.int v29)), (3, (.ref x3)), (4, (.ref x4)), (5, (.int v4)), (9, (.int v22)), (10, (.int v24))]) (fun (v29 : Int32) => []) rfl (fun hP => (by exact ⟨⟨⟨hx3, ⟨(rt_9_0 hx3), (vp_cst (rl_9_0 hx3) hP.1)⟩⟩, hx4⟩, ⟨(rt_9_0 hx4), (vp_cst (rl_9_0 hx4) hP.2)⟩⟩)) (pc' := 320) rfl (fun q30 v29 => ?_)
            refine hp_GZ hm (at1 25 rfl) (fun (v31 : Int32) => [(8, (.int v31)), (7, (.int v29)), (3, (.ref x3)), (4, (.ref x4)), (5, (.int v4)), (9, (.int v22)), (10, (.int v24))]) (fun (v31 : Int32) => []) rfl (fun hP => (by exact ⟨⟨⟨hx3, ⟨(rt_9_1 hx3), (vp_cst (rl_9_1 hx3) hP.1)⟩⟩, hx4⟩, ⟨(rt_9_1 hx4), (vp_cst (rl_9_1 hx4) hP.2)⟩⟩)) (pc' := 338) rfl (fun q32 v31 => ?_)
            exact hp_lf [2, 3, 4, 1, 0] rfl (fun _ e => e)
        · refine hp_G hm (at1 26 rfl) (L' := [(0, (.ref 56)), (1, (.ref x1)), (2, (.int x2)), (3, (.ref x3)), (4, (.ref x4)), (5, (.int v4))]) (st' := [(.long (Int32.toInt64 (rdI p8 (rf x1 12) (Int32.toNatClampNeg x2)))), (.ref 22)]) rfl (fun hP => (by exact ⟨⟨og_56, hx1⟩, ⟨(rt_3_12 hx1), (vp_cst (rl_3_12 hx1) hP)⟩⟩)) (pc' := 195) rfl (fun q33 => ?_)
          refine hp_cVP (M2 := M_Ma_scaled) hm at0 (as := [(.long (Int32.toInt64 (rdI p8 (rf x1 12) (Int32.toNatClampNeg x2))))]) (rest := []) (z := 22) rfl (by exact trivial) (pc' := 195) rfl 12 rfl (lw_g (lw_at lw_m7 51 rfl) rfl) y_Ma_scaled rfl (d2 := 3) ⟨le_b rfl, pd_Ma_scaled, le_b rfl⟩ (le_b rfl) og_22 (k_Ma_scaled (Int32.toInt64 (rdI p8 (rf x1 12) (Int32.toNatClampNeg x2))) p8) (fun a34 => ?_)
          refine hp_G hm (at1 27 rfl) (L' := [(7, (.int a34)), (0, (.ref 56)), (1, (.ref x1)), (2, (.int x2)), (3, (.ref x3)), (4, (.ref x4)), (5, (.int v4))]) (st' := [(.long (Int32.toInt64 (rdI p8 (rf x1 13) (Int32.toNatClampNeg x2)))), (.ref 22)]) rfl (fun hP => (by exact ⟨⟨og_56, hx1⟩, ⟨(rt_3_13 hx1), (vp_cst (rl_3_13 hx1) hP)⟩⟩)) (pc' := 211) rfl (fun q35 => ?_)
          refine hp_cVP (M2 := M_Ma_scaled) hm at0 (as := [(.long (Int32.toInt64 (rdI p8 (rf x1 13) (Int32.toNatClampNeg x2))))]) (rest := []) (z := 22) rfl (by exact trivial) (pc' := 211) rfl 13 rfl (lw_g (lw_at lw_m7 51 rfl) rfl) y_Ma_scaled rfl (d2 := 3) ⟨le_b rfl, pd_Ma_scaled, le_b rfl⟩ (le_b rfl) og_22 (k_Ma_scaled (Int32.toInt64 (rdI p8 (rf x1 13) (Int32.toNatClampNeg x2))) p8) (fun a36 => ?_)
          refine hp_b hm (at1 28 rfl) (L' := [(8, (.int a36)), (7, (.int a34)), (0, (.ref 56)), (1, (.ref x1)), (2, (.int x2)), (3, (.ref x3)), (4, (.ref x4)), (5, (.int v4))]) (st' := [(.int (v4 &&& (4 : Int32)))]) rfl (by exact trivial) (pc' := 220) rfl ?_
          refine hp_JT 233 (fun (p37 : Int32) => [(3, (.ref x3)), (4, (.ref x4)), (5, (.int v4)), (8, (.int a36))]) (fun (p37 : Int32) => [(.int p37)]) (fun (p37 : Int32) => p8) ?_ (fun p37 => ?_)
          · refine hp_if_eq hm at0 rfl (by exact trivial) (pc' := 220) rfl 16 rfl (tgt := 231) rfl (fun c39 => ?_) (fun c39 => ?_)
            · refine hp_b hm (at1 29 rfl) (L' := [(8, (.int a36)), (7, (.int a34)), (0, (.ref 56)), (1, (.ref x1)), (2, (.int x2)), (3, (.ref x3)), (4, (.ref x4)), (5, (.int v4))]) (st' := [(.int a34)]) rfl (by exact trivial) (pc' := 233) rfl ?_
              exact hp_lf [5, 6, 7, 0] rfl (fun _ e => e)
            · refine hp_cNP (M2 := M_HH_snapped) hm (at1 30 rfl) (as := [(.int a34)]) (rest := []) rfl (by exact trivial) (pc' := 225) rfl 14 rfl (hmn_8_208) y_HH_snapped rfl (d2 := 1) ⟨le_b rfl, pd_HH_snapped, le_b rfl⟩ (le_b rfl) (k_HH_snapped a34 p8) (fun a38 => ?_)
              refine hp_goto hm 15 rfl (tgt := 233) rfl ?_
              exact hp_lf [5, 6, 7, 0] rfl (fun _ e => e)
          · refine hp_b hm (at1 31 rfl) (L' := [(7, (.int p37)), (3, (.ref x3)), (4, (.ref x4)), (5, (.int v4)), (8, (.int a36))]) (st' := [(.int (v4 &&& (4 : Int32)))]) rfl (by exact trivial) (pc' := 239) rfl ?_
            refine hp_JT 252 (fun (p40 : Int32) => [(3, (.ref x3)), (4, (.ref x4)), (5, (.int v4)), (7, (.int p37))]) (fun (p40 : Int32) => [(.int p40)]) (fun (p40 : Int32) => p8) ?_ (fun p40 => ?_)
            · refine hp_if_eq hm at0 rfl (by exact trivial) (pc' := 239) rfl 19 rfl (tgt := 250) rfl (fun c42 => ?_) (fun c42 => ?_)
              · refine hp_b hm (at1 32 rfl) (L' := [(7, (.int p37)), (3, (.ref x3)), (4, (.ref x4)), (5, (.int v4)), (8, (.int a36))]) (st' := [(.int a36)]) rfl (by exact trivial) (pc' := 252) rfl ?_
                exact hp_lf [1, 2, 3, 0] rfl (fun _ e => e)
              · refine hp_cNP (M2 := M_HH_snapped) hm (at1 33 rfl) (as := [(.int a36)]) (rest := []) rfl (by exact trivial) (pc' := 244) rfl 17 rfl (hmn_8_208) y_HH_snapped rfl (d2 := 1) ⟨le_b rfl, pd_HH_snapped, le_b rfl⟩ (le_b rfl) (k_HH_snapped a36 p8) (fun a41 => ?_)
                refine hp_goto hm 18 rfl (tgt := 252) rfl ?_
                exact hp_lf [1, 2, 3, 0] rfl (fun _ e => e)
            · refine hp_b hm (at1 34 rfl) (L' := [(8, (.int p40)), (3, (.ref x3)), (4, (.ref x4)), (5, (.int v4)), (7, (.int p37))]) (st' := []) rfl (by exact trivial) (pc' := 254) rfl ?_
              refine hp_goto hm 20 rfl (tgt := 338) rfl ?_
              exact hp_lf [1, 2, 3, 4, 0] rfl (fun _ e => e)
      · refine hp_b hm (at1 35 rfl) (L' := [(9, (.int (0 : Int32))), (3, (.ref x3)), (4, (.ref x4)), (5, (.int v4)), (7, (.int p21.1)), (8, (.int p21.2.1))]) (st' := []) rfl (by exact trivial) (pc' := 341) rfl ?_
        refine hp_JT 423 (fun (p45 : hH) => [(3, (.ref x3)), (4, (.ref x4)), (5, (.int v4))]) (fun (p45 : hH) => []) (fun (p45 : hH) => p45) ?_ (fun p45 => ?_)
        · refine hp_s [1, 2, 3, 4, 5, 0] rfl (L' := [(3, (.ref x3)), (4, (.ref x4)), (5, (.int v4)), (7, (.int p21.1)), (8, (.int p21.2.1)), (9, (.int (0 : Int32)))]) ?_
          refine hp_whT (fun (p44 : (Int32 × hH)) => [(3, (.ref x3)), (4, (.ref x4)), (5, (.int v4)), (7, (.int p21.1)), (8, (.int p21.2.1)), (9, (.int p44.1))]) [] (fun (p44 : (Int32 × hH)) => p44.2) (fun p44 => ?_) ((0 : Int32), p21.2.2)
          refine hp_ic_ge hm (at1 36 rfl) rfl (by exact hx4) (pc' := 348) rfl 23 rfl (tgt := 423) rfl (fun c50 => ?_) (fun c50 => ?_)
          · exact hp_lf [0, 1, 2] rfl (fun _ e => e)
          · refine hp_GW hm (at1 37 rfl) (L' := [(3, (.ref x3)), (4, (.ref x4)), (5, (.int v4)), (7, (.int p21.1)), (8, (.int p21.2.1)), (9, (.int p44.1))]) rfl (fun hP => (by exact ⟨⟨⟨⟨hx3, hx3⟩, hx4⟩, ⟨(rt_9_0 hx4), (vp_cst (rl_9_0 hx4) hP.1)⟩⟩, ⟨(rt_9_0 hx3), (vp_cst (rl_9_0 hx3) hP.2)⟩⟩)) (pc' := 374) rfl (fun q46 h5 => ?_)
            refine hp_GW hm (at1 38 rfl) (L' := [(3, (.ref x3)), (4, (.ref x4)), (5, (.int v4)), (7, (.int p21.1)), (8, (.int p21.2.1)), (9, (.int p44.1))]) rfl (fun hP => (by exact ⟨⟨⟨⟨hx3, hx3⟩, hx4⟩, ⟨(rt_9_1 hx4), (vp_cst (rl_9_1 hx4) hP.1)⟩⟩, ⟨(rt_9_1 hx3), (vp_cst (rl_9_1 hx3) hP.2)⟩⟩)) (pc' := 397) rfl (fun q47 h6 => ?_)
            refine hp_GW hm (at1 39 rfl) (L' := [(3, (.ref x3)), (4, (.ref x4)), (5, (.int v4)), (7, (.int p21.1)), (8, (.int p21.2.1)), (9, (.int p44.1))]) rfl (fun hP => (by exact ⟨⟨⟨⟨hx3, hx3⟩, hx4⟩, ⟨(rt_9_2 hx4), (vp_cst (rl_9_2 hx4) hP.1)⟩⟩, ⟨(rt_9_2 hx3), (vp_cst (rl_9_2 hx3) hP.2)⟩⟩)) (pc' := 417) rfl (fun q48 h7 => ?_)
            refine hp_z hm (at1 40 rfl) (fun (v49 : Int32) => [(9, (.int v49)), (3, (.ref x3)), (4, (.ref x4)), (5, (.int v4)), (7, (.int p21.1)), (8, (.int p21.2.1))]) (fun (v49 : Int32) => []) rfl (by exact trivial) (pc' := 420) rfl (fun v49 => ?_)
            refine hp_goto hm 22 rfl (tgt := 341) rfl ?_
            exact hp_lf [1, 2, 3, 4, 5, 0] rfl (fun _ e => e)
        · refine hp_b hm (at1 41 rfl) (L' := [(9, (.int (0 : Int32))), (3, (.ref x3)), (4, (.ref x4)), (5, (.int v4))]) (st' := []) rfl (by exact trivial) (pc' := 426) rfl ?_
          refine hp_JT 467 (fun (p52 : hH) => [(3, (.ref x3)), (4, (.ref x4)), (5, (.int v4))]) (fun (p52 : hH) => []) (fun (p52 : hH) => p52) ?_ (fun p52 => ?_)
          · refine hp_s [1, 2, 3, 0] rfl (L' := [(3, (.ref x3)), (4, (.ref x4)), (5, (.int v4)), (9, (.int (0 : Int32)))]) ?_
            refine hp_whT (fun (p51 : (Int32 × hH)) => [(3, (.ref x3)), (4, (.ref x4)), (5, (.int v4)), (9, (.int p51.1))]) [] (fun (p51 : (Int32 × hH)) => p51.2) (fun p51 => ?_) ((0 : Int32), p45)
            refine hp_ic_ge hm (at1 42 rfl) rfl (by exact hx4) (pc' := 433) rfl 25 rfl (tgt := 467) rfl (fun c55 => ?_) (fun c55 => ?_)
            · exact hp_lf [0, 1, 2] rfl (fun _ e => e)
            · refine hp_GW hm (at1 43 rfl) (L' := [(3, (.ref x3)), (4, (.ref x4)), (5, (.int v4)), (9, (.int p51.1))]) rfl (fun hP => (by exact ⟨⟨⟨⟨⟨hx3, hx3⟩, hx3⟩, hx4⟩, ⟨(rt_9_4 hx4), (vp_cst (rl_9_4 hx4) hP.1)⟩⟩, ⟨(rt_9_4 hx3), (vp_cst (rl_9_4 hx3) hP.2)⟩⟩)) (pc' := 461) rfl (fun q53 h8 => ?_)
              refine hp_z hm (at1 44 rfl) (fun (v54 : Int32) => [(9, (.int v54)), (3, (.ref x3)), (4, (.ref x4)), (5, (.int v4))]) (fun (v54 : Int32) => []) rfl (by exact trivial) (pc' := 464) rfl (fun v54 => ?_)
              refine hp_goto hm 24 rfl (tgt := 426) rfl ?_
              exact hp_lf [1, 2, 3, 0] rfl (fun _ e => e)
          · refine hp_w hm (at1 45 rfl) (L' := [(3, (.ref x3)), (4, (.ref x4)), (5, (.int v4))]) rfl (by exact ⟨⟨hx3, hx4⟩, hx3⟩) (pc' := 481) rfl (fun h9 => ?_)
            refine hp_w hm (at1 46 rfl) (L' := [(3, (.ref x3)), (4, (.ref x4)), (5, (.int v4))]) rfl (by exact ⟨⟨hx3, hx4⟩, hx3⟩) (pc' := 495) rfl (fun h10 => ?_)
            refine hp_if_eq hm (at1 47 rfl) rfl (by exact trivial) (pc' := 501) rfl 28 rfl (tgt := 510) rfl (fun c56 => ?_) (fun c56 => ?_)
            · exact hp_vr hm 26 rfl rfl (fun _ e => e)
            · refine hp_cVS (M2 := M_Ou_copyPhantoms) hm (at1 48 rfl) (as := [(.ref x4)]) (rest := []) (z := x3) rfl (by exact trivial) (pc' := 507) rfl 27 rfl (lw_g (lw_at lw_m7 74 rfl) rfl) y_Ou_copyPhantoms rfl (d2 := 1) ⟨le_b rfl, pd_Ou_copyPhantoms, le_b rfl⟩ (le_b rfl) hx3 (k_Ou_copyPhantoms x3 x4 h10 hx3 hx4) (fun _ h11 => ?_)
              exact hp_vr hm 26 rfl rfl (fun _ e => e)
/-! HintHouse$Outline.isWithin(I)Z -/
def M_Ou_isWithin : hM := (9, ⟨"HintHouse$Outline", "isWithin", "(I)Z"⟩, prog_8_method_6_code, 4, (Option.some Jvm.ClassFile.FieldType.boolean), [], [(0, [(.iconst 1, 1, 0, 0, 0, (.int (1 : Int32))), (.istore_n 2, 1, 0, 0, 0, .null), (.iconst 0, 1, 0, 0, 0, (.int (0 : Int32))), (.istore_n 3, 1, 0, 0, 0, .null)]), (4, [(.iload_n 3, 1, 0, 0, 0, .null), (.aload_n 0, 1, 0, 0, 0, .null), (.getfield 31, 3, 9, 3, 0, .null)]), (12, [(.iload_n 2, 1, 0, 0, 0, .null)]), (56, [(.iconst 0, 1, 0, 0, 0, (.int (0 : Int32)))]), (16, [(.aload_n 0, 1, 0, 0, 0, .null), (.getfield 9, 3, 9, 0, 4, .null), (.iload_n 3, 1, 0, 0, 0, .null), (.iaload, 1, 0, 0, 0, .null), (.i2l, 1, 0, 0, 0, .null), (.iload_n 1, 1, 0, 0, 0, .null), (.ineg, 1, 0, 0, 0, .null), (.i2l, 1, 0, 0, 0, .null), (.iload_n 1, 1, 0, 0, 0, .null), (.i2l, 1, 0, 0, 0, .null)]), (34, [(.aload_n 0, 1, 0, 0, 0, .null), (.getfield 15, 3, 9, 1, 4, .null), (.iload_n 3, 1, 0, 0, 0, .null), (.iaload, 1, 0, 0, 0, .null), (.i2l, 1, 0, 0, 0, .null), (.iload_n 1, 1, 0, 0, 0, .null), (.ineg, 1, 0, 0, 0, .null), (.i2l, 1, 0, 0, 0, .null), (.iload_n 1, 1, 0, 0, 0, .null), (.i2l, 1, 0, 0, 0, .null)]), (52, [(.iconst 1, 1, 0, 0, 0, (.int (1 : Int32)))]), (57, [(.istore_n 2, 1, 0, 0, 0, .null), (.iinc 3 1, 3, 0, 0, 0, (.int (1 : Int32)))]), (64, [(.iload_n 2, 1, 0, 0, 0, .null)])], [(28, .invokestatic 38, 3), (46, .invokestatic 38, 3), (53, .goto 4, 3), (49, .ifCond .eq 7, 3), (31, .ifCond .eq 25, 3), (13, .ifCond .eq 43, 3), (61, .goto (-57), 3), (9, .if_icmp .ge 55, 3), (65, .ireturn, 1)])
set_option maxRecDepth 100000 in
theorem m_Ou_isWithin : hx_mok M_Ou_isWithin = true := by decide +kernel
theorem pd_Ou_isWithin : (parseMethodDescriptor M_Ou_isWithin.2.1.desc).map (fun q => q.parameters.length) = some 1 := by decide +kernel
theorem y_Ou_isWithin : hx_okV M_Ou_isWithin := ⟨⟨lw_g (lw_at lw_m7 82 rfl) rfl, lw_g (lw_at lw_m7 80 rfl) rfl, lw_g (lw_at lw_m7 81 rfl) rfl, lw_g (lw_at lw_m1 10 rfl) rfl, rfl, by decide, by decide, by decide⟩, rfl, by decide, plainFor_of_name (by decide)⟩
noncomputable def f_Ou_isWithin (z : Nat) (x1 : Int32) (h : hH) : Option Int32 :=
  bP (A := Int32) (
    wh (A := (Int32 × Int32)) (B := Int32) (fun p1 =>
        if (rdI h z 3) ≤ p1.2 then (
          some (.inr p1.1)
        ) else (
          bP (A := Int32) (
            if p1.1 = 0 then (
              some (0 : Int32)
            ) else (
              gd (vp_in p1.2 100) <|
              bP (f_HH_within (Int32.toInt64 (rdI h (rf z 0) (Int32.toNatClampNeg p1.2))) (Int32.toInt64 (-x1)) (Int32.toInt64 x1)) fun a5 =>
              if a5 = 0 then (
                some (0 : Int32)
              ) else (
                gd (vp_in p1.2 100) <|
                bP (f_HH_within (Int32.toInt64 (rdI h (rf z 1) (Int32.toNatClampNeg p1.2))) (Int32.toInt64 (-x1)) (Int32.toInt64 x1)) fun a7 =>
                if a7 = 0 then (
                  some (0 : Int32)
                ) else (
                  some (1 : Int32)
                )
              )
            )
          ) fun p3 =>
          lz (A := Int32) (p1.2 + (1 : Int32)) fun v11 =>
          some (.inl (p3, v11))
        )
    ) ((1 : Int32), (0 : Int32))
  ) fun p2 =>
  gd ((p2 = 0 ∨ p2 = 1)) <|
  some p2
set_option maxRecDepth 20000 in
theorem k_Ou_isWithin (z : Nat) (x1 : Int32) (h : hH) (hz : isA 9 z) : hx_kP S0 M_Ou_isWithin 2 NT [(.ref z), (.int x1)] h (f_Ou_isWithin z x1 h) cvI := by
  have hm := m_Ou_isWithin
  show hx_P S0 M_Ou_isWithin 2 0 [(0, (.ref z)), (1, (.int x1))] [] NT h (f_Ou_isWithin z x1 h) (hx_Rp cvI NT h)
  unfold f_Ou_isWithin
  refine hp_b hm (at1 0 rfl) (L' := [(3, (.int (0 : Int32))), (2, (.int (1 : Int32))), (0, (.ref z)), (1, (.int x1))]) (st' := []) rfl (by exact trivial) (pc' := 4) rfl ?_
  refine hp_J 64 (fun (p2 : Int32) => [(2, (.int p2))]) (fun (p2 : Int32) => []) (fun (p2 : Int32) => h) ?_ (fun p2 => ?_)
  · refine hp_s [2, 3, 1, 0] rfl (L' := [(0, (.ref z)), (1, (.int x1)), (2, (.int (1 : Int32))), (3, (.int (0 : Int32)))]) ?_
    refine hp_wh (fun (p1 : (Int32 × Int32)) => [(0, (.ref z)), (1, (.int x1)), (2, (.int p1.1)), (3, (.int p1.2))]) [] (fun (p1 : (Int32 × Int32)) => h) (fun p1 => ?_) ((1 : Int32), (0 : Int32))
    refine hp_ic_ge hm (at1 1 rfl) rfl (by exact hz) (pc' := 9) rfl 7 rfl (tgt := 64) rfl (fun c12 => ?_) (fun c12 => ?_)
    · exact hp_lf [2] rfl (fun _ e => e)
    · refine hp_J 57 (fun (p3 : Int32) => [(0, (.ref z)), (1, (.int x1)), (3, (.int p1.2))]) (fun (p3 : Int32) => [(.int p3)]) (fun (p3 : Int32) => h) ?_ (fun p3 => ?_)
      · refine hp_if_eq hm (at1 2 rfl) rfl (by exact trivial) (pc' := 13) rfl 5 rfl (tgt := 56) rfl (fun c10 => ?_) (fun c10 => ?_)
        · refine hp_b hm (at1 3 rfl) (L' := [(0, (.ref z)), (1, (.int x1)), (2, (.int p1.1)), (3, (.int p1.2))]) (st' := [(.int (0 : Int32))]) rfl (by exact trivial) (pc' := 57) rfl ?_
          exact hp_lf [0, 1, 3] rfl (fun _ e => e)
        · refine hp_G hm (at1 4 rfl) (L' := [(0, (.ref z)), (1, (.int x1)), (2, (.int p1.1)), (3, (.int p1.2))]) (st' := [(.long (Int32.toInt64 x1)), (.long (Int32.toInt64 (-x1))), (.long (Int32.toInt64 (rdI h (rf z 0) (Int32.toNatClampNeg p1.2))))]) rfl (fun hP => (by exact ⟨hz, ⟨(rt_9_0 hz), (vp_cst (rl_9_0 hz) hP)⟩⟩)) (pc' := 28) rfl (fun q4 => ?_)
          refine hp_cNP (M2 := M_HH_within) hm at0 (as := [(.long (Int32.toInt64 (rdI h (rf z 0) (Int32.toNatClampNeg p1.2)))), (.long (Int32.toInt64 (-x1))), (.long (Int32.toInt64 x1))]) (rest := []) rfl (by exact trivial) (pc' := 28) rfl 0 rfl (hmn_9_38) y_HH_within rfl (d2 := 1) ⟨le_b rfl, pd_HH_within, le_b rfl⟩ (le_b rfl) (k_HH_within (Int32.toInt64 (rdI h (rf z 0) (Int32.toNatClampNeg p1.2))) (Int32.toInt64 (-x1)) (Int32.toInt64 x1) h) (fun a5 => ?_)
          refine hp_if_eq hm at0 rfl (by exact trivial) (pc' := 31) rfl 4 rfl (tgt := 56) rfl (fun c9 => ?_) (fun c9 => ?_)
          · refine hp_b hm (at1 3 rfl) (L' := [(0, (.ref z)), (1, (.int x1)), (2, (.int p1.1)), (3, (.int p1.2))]) (st' := [(.int (0 : Int32))]) rfl (by exact trivial) (pc' := 57) rfl ?_
            exact hp_lf [0, 1, 3] rfl (fun _ e => e)
          · refine hp_G hm (at1 5 rfl) (L' := [(0, (.ref z)), (1, (.int x1)), (2, (.int p1.1)), (3, (.int p1.2))]) (st' := [(.long (Int32.toInt64 x1)), (.long (Int32.toInt64 (-x1))), (.long (Int32.toInt64 (rdI h (rf z 1) (Int32.toNatClampNeg p1.2))))]) rfl (fun hP => (by exact ⟨hz, ⟨(rt_9_1 hz), (vp_cst (rl_9_1 hz) hP)⟩⟩)) (pc' := 46) rfl (fun q6 => ?_)
            refine hp_cNP (M2 := M_HH_within) hm at0 (as := [(.long (Int32.toInt64 (rdI h (rf z 1) (Int32.toNatClampNeg p1.2)))), (.long (Int32.toInt64 (-x1))), (.long (Int32.toInt64 x1))]) (rest := []) rfl (by exact trivial) (pc' := 46) rfl 1 rfl (hmn_9_38) y_HH_within rfl (d2 := 1) ⟨le_b rfl, pd_HH_within, le_b rfl⟩ (le_b rfl) (k_HH_within (Int32.toInt64 (rdI h (rf z 1) (Int32.toNatClampNeg p1.2))) (Int32.toInt64 (-x1)) (Int32.toInt64 x1) h) (fun a7 => ?_)
            refine hp_if_eq hm at0 rfl (by exact trivial) (pc' := 49) rfl 3 rfl (tgt := 56) rfl (fun c8 => ?_) (fun c8 => ?_)
            · refine hp_b hm (at1 3 rfl) (L' := [(0, (.ref z)), (1, (.int x1)), (2, (.int p1.1)), (3, (.int p1.2))]) (st' := [(.int (0 : Int32))]) rfl (by exact trivial) (pc' := 57) rfl ?_
              exact hp_lf [0, 1, 3] rfl (fun _ e => e)
            · refine hp_b hm (at1 6 rfl) (L' := [(0, (.ref z)), (1, (.int x1)), (2, (.int p1.1)), (3, (.int p1.2))]) (st' := [(.int (1 : Int32))]) rfl (by exact trivial) (pc' := 53) rfl ?_
              refine hp_goto hm 2 rfl (tgt := 57) rfl ?_
              exact hp_lf [0, 1, 3] rfl (fun _ e => e)
      · refine hp_z hm (at1 7 rfl) (fun (v11 : Int32) => [(3, (.int v11)), (2, (.int p3)), (0, (.ref z)), (1, (.int x1))]) (fun (v11 : Int32) => []) rfl (by exact trivial) (pc' := 61) rfl (fun v11 => ?_)
        refine hp_goto hm 6 rfl (tgt := 4) rfl ?_
        exact hp_lf [2, 3, 1, 0] rfl (fun _ e => e)
  · refine hp_G hm (at1 8 rfl) (L' := [(2, (.int p2))]) (st' := [(.int p2)]) rfl (fun hP => (by exact trivial)) (pc' := 65) rfl (fun q13 => ?_)
    exact hp_ir hm at0 rfl (by exact trivial) (pc' := 65) rfl 8 rfl rfl (nar01 q13) (fun _ e => e)
/-! HintHouse$Maker.work(LHintHouse$Glyph;LHintHouse$Outline;)V -/
def M_Mk_work : hM := (8, ⟨"HintHouse$Maker", "work", "(LHintHouse$Glyph;LHintHouse$Outline;)V"⟩, prog_7_method_8_code, 5, (Option.none : Option Jvm.ClassFile.FieldType), [], [(0, [(.aload_n 0, 1, 0, 0, 0, .null), (.getfield 34, 3, 8, 1, 4, .null), (.getfield 65, 3, 4, 1, 4, .null), (.aload_n 0, 1, 0, 0, 0, .null), (.getfield 12, 3, 8, 2, 4, .null)]), (14, [(.aload_n 0, 1, 0, 0, 0, .null), (.getfield 34, 3, 8, 1, 4, .null), (.getfield 215, 3, 4, 2, 4, .null), (.astore_n 3, 1, 0, 0, 0, .null), (.aload_n 3, 1, 0, 0, 0, .null), (.aload_n 2, 1, 0, 0, 0, .null), (.getfield 166, 3, 9, 3, 0, .null), (.iconst 2, 1, 0, 0, 0, (.int (2 : Int32))), (.iadd, 1, 0, 0, 0, .null)]), (32, [(.iconst 0, 1, 0, 0, 0, (.int (0 : Int32))), (.istore 4, 2, 0, 0, 0, .null)]), (35, [(.iload 4, 2, 0, 0, 0, .null), (.aload_n 2, 1, 0, 0, 0, .null), (.getfield 166, 3, 9, 3, 0, .null)]), (44, [(.aload_n 3, 1, 0, 0, 0, .null), (.iload 4, 2, 0, 0, 0, .null), (.aload_n 2, 1, 0, 0, 0, .null), (.getfield 171, 3, 9, 0, 4, .null), (.iload 4, 2, 0, 0, 0, .null), (.iaload, 1, 0, 0, 0, .null), (.aload_n 2, 1, 0, 0, 0, .null), (.getfield 175, 3, 9, 1, 4, .null), (.iload 4, 2, 0, 0, 0, .null), (.iaload, 1, 0, 0, 0, .null)]), (64, [(.iinc 4 1, 3, 0, 0, 0, (.int (1 : Int32)))]), (70, [(.iconst 0, 1, 0, 0, 0, (.int (0 : Int32))), (.istore 4, 2, 0, 0, 0, .null)]), (73, [(.iload 4, 2, 0, 0, 0, .null), (.iconst 2, 1, 0, 0, 0, (.int (2 : Int32)))]), (79, [(.aload_n 3, 1, 0, 0, 0, .null), (.aload_n 2, 1, 0, 0, 0, .null), (.getfield 166, 3, 9, 3, 0, .null), (.iload 4, 2, 0, 0, 0, .null), (.iadd, 1, 0, 0, 0, .null), (.aload_n 2, 1, 0, 0, 0, .null), (.getfield 104, 3, 9, 6, 4, .null), (.iload 4, 2, 0, 0, 0, .null), (.iaload, 1, 0, 0, 0, .null), (.aload_n 2, 1, 0, 0, 0, .null), (.getfield 115, 3, 9, 7, 4, .null), (.iload 4, 2, 0, 0, 0, .null), (.iaload, 1, 0, 0, 0, .null)]), (104, [(.aload_n 3, 1, 0, 0, 0, .null), (.getfield 226, 3, 6, 2, 4, .null), (.aload_n 2, 1, 0, 0, 0, .null), (.getfield 166, 3, 9, 3, 0, .null), (.iload 4, 2, 0, 0, 0, .null), (.iadd, 1, 0, 0, 0, .null), (.aload_n 2, 1, 0, 0, 0, .null), (.getfield 104, 3, 9, 6, 4, .null), (.iload 4, 2, 0, 0, 0, .null), (.iaload, 1, 0, 0, 0, .null)]), (125, [(.iastore, 1, 0, 0, 0, .null)]), (126, [(.iinc 4 1, 3, 0, 0, 0, (.int (1 : Int32)))]), (132, [(.aload_n 0, 1, 0, 0, 0, .null), (.getfield 34, 3, 8, 1, 4, .null), (.aload_n 2, 1, 0, 0, 0, .null), (.putfield 227, 3, 4, 3, 3, .null)]), (140, [(.aload_n 0, 1, 0, 0, 0, .null), (.getfield 34, 3, 8, 1, 4, .null), (.iconst 2, 1, 0, 0, 0, (.int (2 : Int32))), (.aload_n 1, 1, 0, 0, 0, .null), (.getfield 231, 3, 3, 7, 0, .null), (.aload_n 1, 1, 0, 0, 0, .null), (.getfield 157, 3, 3, 8, 0, .null)]), (156, [(.iconst 0, 1, 0, 0, 0, (.int (0 : Int32))), (.istore 4, 2, 0, 0, 0, .null)]), (159, [(.iload 4, 2, 0, 0, 0, .null), (.aload_n 2, 1, 0, 0, 0, .null), (.getfield 166, 3, 9, 3, 0, .null)]), (168, [(.aload_n 2, 1, 0, 0, 0, .null), (.getfield 171, 3, 9, 0, 4, .null), (.iload 4, 2, 0, 0, 0, .null), (.aload_n 3, 1, 0, 0, 0, .null), (.getfield 226, 3, 6, 2, 4, .null), (.iload 4, 2, 0, 0, 0, .null), (.iaload, 1, 0, 0, 0, .null), (.iastore, 1, 0, 0, 0, .null)]), (182, [(.aload_n 2, 1, 0, 0, 0, .null), (.getfield 175, 3, 9, 1, 4, .null), (.iload 4, 2, 0, 0, 0, .null), (.aload_n 3, 1, 0, 0, 0, .null), (.getfield 234, 3, 6, 3, 4, .null), (.iload 4, 2, 0, 0, 0, .null), (.iaload, 1, 0, 0, 0, .null), (.iastore, 1, 0, 0, 0, .null)]), (196, [(.iinc 4 1, 3, 0, 0, 0, (.int (1 : Int32)))]), (202, [(.iconst 0, 1, 0, 0, 0, (.int (0 : Int32))), (.istore 4, 2, 0, 0, 0, .null)]), (205, [(.iload 4, 2, 0, 0, 0, .null), (.iconst 2, 1, 0, 0, 0, (.int (2 : Int32)))]), (211, [(.aload_n 2, 1, 0, 0, 0, .null), (.getfield 104, 3, 9, 6, 4, .null), (.iload 4, 2, 0, 0, 0, .null), (.aload_n 3, 1, 0, 0, 0, .null), (.getfield 226, 3, 6, 2, 4, .null), (.aload_n 2, 1, 0, 0, 0, .null), (.getfield 166, 3, 9, 3, 0, .null), (.iload 4, 2, 0, 0, 0, .null), (.iadd, 1, 0, 0, 0, .null), (.iaload, 1, 0, 0, 0, .null), (.iastore, 1, 0, 0, 0, .null)]), (230, [(.aload_n 2, 1, 0, 0, 0, .null), (.getfield 115, 3, 9, 7, 4, .null), (.iload 4, 2, 0, 0, 0, .null), (.aload_n 3, 1, 0, 0, 0, .null), (.getfield 234, 3, 6, 3, 4, .null), (.aload_n 2, 1, 0, 0, 0, .null), (.getfield 166, 3, 9, 3, 0, .null), (.iload 4, 2, 0, 0, 0, .null), (.iadd, 1, 0, 0, 0, .null), (.iaload, 1, 0, 0, 0, .null), (.iastore, 1, 0, 0, 0, .null)]), (249, [(.iinc 4 1, 3, 0, 0, 0, (.int (1 : Int32)))])], [(11, .invokevirtual 68, 3), (29, .invokevirtual 219, 3), (61, .invokevirtual 223, 3), (67, .goto (-32), 3), (41, .if_icmp .ge 29, 3), (101, .invokevirtual 223, 3), (122, .invokestatic 208, 3), (129, .goto (-56), 3), (76, .if_icmp .ge 56, 3), (153, .invokevirtual 55, 3), (199, .goto (-40), 3), (165, .if_icmp .ge 37, 3), (252, .goto (-47), 3), (208, .if_icmp .ge 47, 3), (255, .return_, 1)])
set_option maxRecDepth 100000 in
theorem m_Mk_work : hx_mok M_Mk_work = true := by decide +kernel
theorem pd_Mk_work : (parseMethodDescriptor M_Mk_work.2.1.desc).map (fun q => q.parameters.length) = some 2 := by decide +kernel
theorem y_Mk_work : hx_okV M_Mk_work := ⟨⟨lw_g (lw_at lw_m7 87 rfl) rfl, lw_g (lw_at lw_m7 86 rfl) rfl, qs108, lw_g (lw_at lw_m1 9 rfl) rfl, rfl, by decide, by decide, by decide⟩, rfl, by decide, plainFor_of_name (by decide)⟩
noncomputable def f_Mk_work (x1 : Nat) (x2 : Nat) (h : hH) : Option (hH ⊕ (Unit × hH)) :=
  bS (f_St_copy 23 57 h) fun _ h1 =>
  bS (f_Zo_clear 34 ((rdI h1 x2 3) + (2 : Int32)) h1) fun _ h2 =>
  bJT (P := hH) (
    whT (A := (Int32 × hH)) (B := hH) (fun p1 =>
        if (rdI p1.2 x2 3) ≤ p1.1 then (
          some (.inr (.inr p1.2))
        ) else (
          gd (vp_in p1.1 100) <|
          bS (f_Zo_place 34 p1.1 (rdI p1.2 (rf x2 0) (Int32.toNatClampNeg p1.1)) (rdI p1.2 (rf x2 1) (Int32.toNatClampNeg p1.1)) p1.2) fun _ h3 =>
          lz (A := Int32) (p1.1 + (1 : Int32)) fun v4 =>
          some (.inr (.inl (v4, h3)))
        )
    ) ((0 : Int32), h2)
  ) fun p2 =>
  bJT (P := hH) (
    whT (A := (Int32 × hH)) (B := hH) (fun p6 =>
        if (2 : Int32) ≤ p6.1 then (
          some (.inr (.inr p6.2))
        ) else (
          gd (vp_in p6.1 2) <|
          bS (f_Zo_place 34 ((rdI p6.2 x2 3) + p6.1) (rdI p6.2 (rf x2 6) (Int32.toNatClampNeg p6.1)) (rdI p6.2 (rf x2 7) (Int32.toNatClampNeg p6.1)) p6.2) fun _ h4 =>
          gd (vp_in p6.1 2) <|
          bP (f_HH_snapped (rdI h4 (rf x2 6) (Int32.toNatClampNeg p6.1))) fun a10 =>
          gd (vp_in ((rdI h4 x2 3) + p6.1) 102) <|
          lz (wrI h4 37 (Int32.toNatClampNeg ((rdI h4 x2 3) + p6.1)) a10) fun h5 =>
          lz (A := Int32) (p6.1 + (1 : Int32)) fun v12 =>
          some (.inr (.inl (v12, h5)))
        )
    ) ((0 : Int32), p2)
  ) fun p7 =>
  lz (wrP p7 22 3 x2) fun h6 =>
  bT (f_Ma_run (2 : Int32) (rdI h6 x1 7) (rdI h6 x1 8) h6) fun _ h7 =>
  bJT (P := hH) (
    whT (A := (Int32 × hH)) (B := hH) (fun p14 =>
        if (rdI p14.2 x2 3) ≤ p14.1 then (
          some (.inr (.inr p14.2))
        ) else (
          gd (vp_in p14.1 102 ∧ vp_in p14.1 100) <|
          lz (wrI p14.2 (rf x2 0) (Int32.toNatClampNeg p14.1) (rdI p14.2 37 (Int32.toNatClampNeg p14.1))) fun h8 =>
          gd (vp_in p14.1 102 ∧ vp_in p14.1 100) <|
          lz (wrI h8 (rf x2 1) (Int32.toNatClampNeg p14.1) (rdI h8 38 (Int32.toNatClampNeg p14.1))) fun h9 =>
          lz (A := Int32) (p14.1 + (1 : Int32)) fun v18 =>
          some (.inr (.inl (v18, h9)))
        )
    ) ((0 : Int32), h7)
  ) fun p15 =>
  bJT (P := hH) (
    whT (A := (Int32 × hH)) (B := hH) (fun p20 =>
        if (2 : Int32) ≤ p20.1 then (
          some (.inr (.inr p20.2))
        ) else (
          gd (vp_in ((rdI p20.2 x2 3) + p20.1) 102 ∧ vp_in p20.1 2) <|
          lz (wrI p20.2 (rf x2 6) (Int32.toNatClampNeg p20.1) (rdI p20.2 37 (Int32.toNatClampNeg ((rdI p20.2 x2 3) + p20.1)))) fun h10 =>
          gd (vp_in ((rdI h10 x2 3) + p20.1) 102 ∧ vp_in p20.1 2) <|
          lz (wrI h10 (rf x2 7) (Int32.toNatClampNeg p20.1) (rdI h10 38 (Int32.toNatClampNeg ((rdI h10 x2 3) + p20.1)))) fun h11 =>
          lz (A := Int32) (p20.1 + (1 : Int32)) fun v24 =>
          some (.inr (.inl (v24, h11)))
        )
    ) ((0 : Int32), p15)
  ) fun p21 =>
  some (.inr ((), p21))
set_option maxRecDepth 20000 in
theorem k_Mk_work (x1 : Nat) (x2 : Nat) (h : hH) (hx1 : isA 3 x1) (hx2 : isA 9 x2) : hx_kT S0 M_Mk_work 15 NT [(.ref 56), (.ref x1), (.ref x2)] h (f_Mk_work x1 x2 h) cvU := by
  have hm := m_Mk_work
  show hx_P S0 M_Mk_work 15 0 [(0, (.ref 56)), (1, (.ref x1)), (2, (.ref x2))] [] NT h (f_Mk_work x1 x2 h) (hx_T NT (hx_Rc cvU NT))
  unfold f_Mk_work
  refine hp_cVS (M2 := M_St_copy) hm (at1 0 rfl) (as := [(.ref 57)]) (rest := []) (z := 23) rfl (by exact ⟨⟨og_56, og_22⟩, og_56⟩) (pc' := 11) rfl 0 rfl (lw_g (lw_at lw_m7 8 rfl) rfl) y_St_copy rfl (d2 := 2) ⟨le_b rfl, pd_St_copy, le_b rfl⟩ (le_b rfl) og_23 (k_St_copy 23 57 h og_23 og_57) (fun _ h1 => ?_)
  refine hp_b hm (at1 1 rfl) (L' := [(3, (.ref 34)), (0, (.ref 56)), (1, (.ref x1)), (2, (.ref x2))]) (st' := [(.int ((rdI h1 x2 3) + (2 : Int32))), (.ref 34)]) rfl (by exact ⟨⟨og_56, og_22⟩, hx2⟩) (pc' := 29) rfl ?_
  refine hp_cVS (M2 := M_Zo_clear) hm at0 (as := [(.int ((rdI h1 x2 3) + (2 : Int32)))]) (rest := []) (z := 34) rfl (by exact trivial) (pc' := 29) rfl 1 rfl (lw_g (lw_at lw_m7 88 rfl) rfl) y_Zo_clear rfl (d2 := 2) ⟨le_b rfl, pd_Zo_clear, le_b rfl⟩ (le_b rfl) og_34 (k_Zo_clear 34 ((rdI h1 x2 3) + (2 : Int32)) h1 og_34) (fun _ h2 => ?_)
  refine hp_b hm (at1 2 rfl) (L' := [(4, (.int (0 : Int32))), (3, (.ref 34)), (0, (.ref 56)), (1, (.ref x1)), (2, (.ref x2))]) (st' := []) rfl (by exact trivial) (pc' := 35) rfl ?_
  refine hp_JT 70 (fun (p2 : hH) => [(0, (.ref 56)), (1, (.ref x1)), (2, (.ref x2)), (3, (.ref 34))]) (fun (p2 : hH) => []) (fun (p2 : hH) => p2) ?_ (fun p2 => ?_)
  · refine hp_s [2, 3, 4, 1, 0] rfl (L' := [(0, (.ref 56)), (1, (.ref x1)), (2, (.ref x2)), (3, (.ref 34)), (4, (.int (0 : Int32)))]) ?_
    refine hp_whT (fun (p1 : (Int32 × hH)) => [(0, (.ref 56)), (1, (.ref x1)), (2, (.ref x2)), (3, (.ref 34)), (4, (.int p1.1))]) [] (fun (p1 : (Int32 × hH)) => p1.2) (fun p1 => ?_) ((0 : Int32), h2)
    refine hp_ic_ge hm (at1 3 rfl) rfl (by exact hx2) (pc' := 41) rfl 4 rfl (tgt := 70) rfl (fun c5 => ?_) (fun c5 => ?_)
    · exact hp_lf [0, 1, 2, 3] rfl (fun _ e => e)
    · refine hp_G hm (at1 4 rfl) (L' := [(0, (.ref 56)), (1, (.ref x1)), (2, (.ref x2)), (3, (.ref 34)), (4, (.int p1.1))]) (st' := [(.int (rdI p1.2 (rf x2 1) (Int32.toNatClampNeg p1.1))), (.int (rdI p1.2 (rf x2 0) (Int32.toNatClampNeg p1.1))), (.int p1.1), (.ref 34)]) rfl (fun hP => (by exact ⟨⟨⟨hx2, ⟨(rt_9_0 hx2), (vp_cst (rl_9_0 hx2) hP)⟩⟩, hx2⟩, ⟨(rt_9_1 hx2), (vp_cst (rl_9_1 hx2) hP)⟩⟩)) (pc' := 61) rfl (fun q3 => ?_)
      refine hp_cVS (M2 := M_Zo_place) hm at0 (as := [(.int p1.1), (.int (rdI p1.2 (rf x2 0) (Int32.toNatClampNeg p1.1))), (.int (rdI p1.2 (rf x2 1) (Int32.toNatClampNeg p1.1)))]) (rest := []) (z := 34) rfl (by exact trivial) (pc' := 61) rfl 2 rfl (lw_g (lw_at lw_m7 89 rfl) rfl) y_Zo_place rfl (d2 := 1) ⟨le_b rfl, pd_Zo_place, le_b rfl⟩ (le_b rfl) og_34 (k_Zo_place 34 p1.1 (rdI p1.2 (rf x2 0) (Int32.toNatClampNeg p1.1)) (rdI p1.2 (rf x2 1) (Int32.toNatClampNeg p1.1)) p1.2 og_34) (fun _ h3 => ?_)
      refine hp_z hm (at1 5 rfl) (fun (v4 : Int32) => [(4, (.int v4)), (0, (.ref 56)), (1, (.ref x1)), (2, (.ref x2)), (3, (.ref 34))]) (fun (v4 : Int32) => []) rfl (by exact trivial) (pc' := 67) rfl (fun v4 => ?_)
      refine hp_goto hm 3 rfl (tgt := 35) rfl ?_
      exact hp_lf [1, 2, 3, 4, 0] rfl (fun _ e => e)
  · refine hp_b hm (at1 6 rfl) (L' := [(4, (.int (0 : Int32))), (0, (.ref 56)), (1, (.ref x1)), (2, (.ref x2)), (3, (.ref 34))]) (st' := []) rfl (by exact trivial) (pc' := 73) rfl ?_
    refine hp_JT 132 (fun (p7 : hH) => [(0, (.ref 56)), (1, (.ref x1)), (2, (.ref x2)), (3, (.ref 34))]) (fun (p7 : hH) => []) (fun (p7 : hH) => p7) ?_ (fun p7 => ?_)
    · refine hp_s [1, 2, 3, 4, 0] rfl (L' := [(0, (.ref 56)), (1, (.ref x1)), (2, (.ref x2)), (3, (.ref 34)), (4, (.int (0 : Int32)))]) ?_
      refine hp_whT (fun (p6 : (Int32 × hH)) => [(0, (.ref 56)), (1, (.ref x1)), (2, (.ref x2)), (3, (.ref 34)), (4, (.int p6.1))]) [] (fun (p6 : (Int32 × hH)) => p6.2) (fun p6 => ?_) ((0 : Int32), p2)
      refine hp_ic_ge hm (at1 7 rfl) rfl (by exact trivial) (pc' := 76) rfl 8 rfl (tgt := 132) rfl (fun c13 => ?_) (fun c13 => ?_)
      · exact hp_lf [0, 1, 2, 3] rfl (fun _ e => e)
      · refine hp_G hm (at1 8 rfl) (L' := [(0, (.ref 56)), (1, (.ref x1)), (2, (.ref x2)), (3, (.ref 34)), (4, (.int p6.1))]) (st' := [(.int (rdI p6.2 (rf x2 7) (Int32.toNatClampNeg p6.1))), (.int (rdI p6.2 (rf x2 6) (Int32.toNatClampNeg p6.1))), (.int ((rdI p6.2 x2 3) + p6.1)), (.ref 34)]) rfl (fun hP => (by exact ⟨⟨⟨⟨hx2, hx2⟩, ⟨(rt_9_6 hx2), (vp_cst (rl_9_6 hx2) hP)⟩⟩, hx2⟩, ⟨(rt_9_7 hx2), (vp_cst (rl_9_7 hx2) hP)⟩⟩)) (pc' := 101) rfl (fun q8 => ?_)
        refine hp_cVS (M2 := M_Zo_place) hm at0 (as := [(.int ((rdI p6.2 x2 3) + p6.1)), (.int (rdI p6.2 (rf x2 6) (Int32.toNatClampNeg p6.1))), (.int (rdI p6.2 (rf x2 7) (Int32.toNatClampNeg p6.1)))]) (rest := []) (z := 34) rfl (by exact trivial) (pc' := 101) rfl 5 rfl (lw_g (lw_at lw_m7 89 rfl) rfl) y_Zo_place rfl (d2 := 1) ⟨le_b rfl, pd_Zo_place, le_b rfl⟩ (le_b rfl) og_34 (k_Zo_place 34 ((rdI p6.2 x2 3) + p6.1) (rdI p6.2 (rf x2 6) (Int32.toNatClampNeg p6.1)) (rdI p6.2 (rf x2 7) (Int32.toNatClampNeg p6.1)) p6.2 og_34) (fun _ h4 => ?_)
        refine hp_G hm (at1 9 rfl) (L' := [(0, (.ref 56)), (1, (.ref x1)), (2, (.ref x2)), (3, (.ref 34)), (4, (.int p6.1))]) (st' := [(.int (rdI h4 (rf x2 6) (Int32.toNatClampNeg p6.1))), (.int ((rdI h4 x2 3) + p6.1)), (.ref 37)]) rfl (fun hP => (by exact ⟨⟨⟨og_34, hx2⟩, hx2⟩, ⟨(rt_9_6 hx2), (vp_cst (rl_9_6 hx2) hP)⟩⟩)) (pc' := 122) rfl (fun q9 => ?_)
        refine hp_cNP (M2 := M_HH_snapped) hm at0 (as := [(.int (rdI h4 (rf x2 6) (Int32.toNatClampNeg p6.1)))]) (rest := [(.int ((rdI h4 x2 3) + p6.1)), (.ref 37)]) rfl (by exact trivial) (pc' := 122) rfl 6 rfl (hmn_8_208) y_HH_snapped rfl (d2 := 1) ⟨le_b rfl, pd_HH_snapped, le_b rfl⟩ (le_b rfl) (k_HH_snapped (rdI h4 (rf x2 6) (Int32.toNatClampNeg p6.1)) h4) (fun a10 => ?_)
        refine hp_GW hm (at1 10 rfl) (L' := [(0, (.ref 56)), (1, (.ref x1)), (2, (.ref x2)), (3, (.ref 34)), (4, (.int p6.1))]) rfl (fun hP => (by exact ⟨og_37, hP⟩)) (pc' := 126) rfl (fun q11 h5 => ?_)
        refine hp_z hm (at1 11 rfl) (fun (v12 : Int32) => [(4, (.int v12)), (0, (.ref 56)), (1, (.ref x1)), (2, (.ref x2)), (3, (.ref 34))]) (fun (v12 : Int32) => []) rfl (by exact trivial) (pc' := 129) rfl (fun v12 => ?_)
        refine hp_goto hm 7 rfl (tgt := 73) rfl ?_
        exact hp_lf [1, 2, 3, 4, 0] rfl (fun _ e => e)
    · refine hp_w hm (at1 12 rfl) (L' := [(0, (.ref 56)), (1, (.ref x1)), (2, (.ref x2)), (3, (.ref 34))]) rfl (by exact ⟨og_56, og_22⟩) (pc' := 140) rfl (fun h6 => ?_)
      refine hp_cVT (M2 := M_Ma_run) hm (at1 13 rfl) (as := [(.int (2 : Int32)), (.int (rdI h6 x1 7)), (.int (rdI h6 x1 8))]) (rest := []) (z := 22) rfl (by exact ⟨⟨og_56, hx1⟩, hx1⟩) (pc' := 153) rfl 9 rfl (lw_g (lw_at lw_m5 127 rfl) rfl) y_Ma_run rfl (d2 := 14) ⟨le_b rfl, pd_Ma_run, le_b rfl⟩ (le_b rfl) og_22 rfl (k_Ma_run (2 : Int32) (rdI h6 x1 7) (rdI h6 x1 8) h6) (fun _ h7 => ?_)
      refine hp_b hm (at1 14 rfl) (L' := [(4, (.int (0 : Int32))), (0, (.ref 56)), (1, (.ref x1)), (2, (.ref x2)), (3, (.ref 34))]) (st' := []) rfl (by exact trivial) (pc' := 159) rfl ?_
      refine hp_JT 202 (fun (p15 : hH) => [(2, (.ref x2)), (3, (.ref 34))]) (fun (p15 : hH) => []) (fun (p15 : hH) => p15) ?_ (fun p15 => ?_)
      · refine hp_s [3, 4, 0] rfl (L' := [(2, (.ref x2)), (3, (.ref 34)), (4, (.int (0 : Int32)))]) ?_
        refine hp_whT (fun (p14 : (Int32 × hH)) => [(2, (.ref x2)), (3, (.ref 34)), (4, (.int p14.1))]) [] (fun (p14 : (Int32 × hH)) => p14.2) (fun p14 => ?_) ((0 : Int32), h7)
        refine hp_ic_ge hm (at1 15 rfl) rfl (by exact hx2) (pc' := 165) rfl 11 rfl (tgt := 202) rfl (fun c19 => ?_) (fun c19 => ?_)
        · exact hp_lf [0, 1] rfl (fun _ e => e)
        · refine hp_GW hm (at1 16 rfl) (L' := [(2, (.ref x2)), (3, (.ref 34)), (4, (.int p14.1))]) rfl (fun hP => (by exact ⟨⟨⟨hx2, og_34⟩, ⟨og_37, hP.1⟩⟩, ⟨(rt_9_0 hx2), (vp_cst (rl_9_0 hx2) hP.2)⟩⟩)) (pc' := 182) rfl (fun q16 h8 => ?_)
          refine hp_GW hm (at1 17 rfl) (L' := [(2, (.ref x2)), (3, (.ref 34)), (4, (.int p14.1))]) rfl (fun hP => (by exact ⟨⟨⟨hx2, og_34⟩, ⟨og_38, hP.1⟩⟩, ⟨(rt_9_1 hx2), (vp_cst (rl_9_1 hx2) hP.2)⟩⟩)) (pc' := 196) rfl (fun q17 h9 => ?_)
          refine hp_z hm (at1 18 rfl) (fun (v18 : Int32) => [(4, (.int v18)), (2, (.ref x2)), (3, (.ref 34))]) (fun (v18 : Int32) => []) rfl (by exact trivial) (pc' := 199) rfl (fun v18 => ?_)
          refine hp_goto hm 10 rfl (tgt := 159) rfl ?_
          exact hp_lf [1, 2, 0] rfl (fun _ e => e)
      · refine hp_b hm (at1 19 rfl) (L' := [(4, (.int (0 : Int32))), (2, (.ref x2)), (3, (.ref 34))]) (st' := []) rfl (by exact trivial) (pc' := 205) rfl ?_
        refine hp_JT 255 (fun (p21 : hH) => []) (fun (p21 : hH) => []) (fun (p21 : hH) => p21) ?_ (fun p21 => ?_)
        · refine hp_s [1, 2, 0] rfl (L' := [(2, (.ref x2)), (3, (.ref 34)), (4, (.int (0 : Int32)))]) ?_
          refine hp_whT (fun (p20 : (Int32 × hH)) => [(2, (.ref x2)), (3, (.ref 34)), (4, (.int p20.1))]) [] (fun (p20 : (Int32 × hH)) => p20.2) (fun p20 => ?_) ((0 : Int32), p15)
          refine hp_ic_ge hm (at1 20 rfl) rfl (by exact trivial) (pc' := 208) rfl 13 rfl (tgt := 255) rfl (fun c25 => ?_) (fun c25 => ?_)
          · exact hp_lf [] rfl (fun _ e => e)
          · refine hp_GW hm (at1 21 rfl) (L' := [(2, (.ref x2)), (3, (.ref 34)), (4, (.int p20.1))]) rfl (fun hP => (by exact ⟨⟨⟨⟨hx2, og_34⟩, hx2⟩, ⟨og_37, hP.1⟩⟩, ⟨(rt_9_6 hx2), (vp_cst (rl_9_6 hx2) hP.2)⟩⟩)) (pc' := 230) rfl (fun q22 h10 => ?_)
            refine hp_GW hm (at1 22 rfl) (L' := [(2, (.ref x2)), (3, (.ref 34)), (4, (.int p20.1))]) rfl (fun hP => (by exact ⟨⟨⟨⟨hx2, og_34⟩, hx2⟩, ⟨og_38, hP.1⟩⟩, ⟨(rt_9_7 hx2), (vp_cst (rl_9_7 hx2) hP.2)⟩⟩)) (pc' := 249) rfl (fun q23 h11 => ?_)
            refine hp_z hm (at1 23 rfl) (fun (v24 : Int32) => [(4, (.int v24)), (2, (.ref x2)), (3, (.ref 34))]) (fun (v24 : Int32) => []) rfl (by exact trivial) (pc' := 252) rfl (fun v24 => ?_)
            refine hp_goto hm 12 rfl (tgt := 205) rfl ?_
            exact hp_lf [1, 2, 0] rfl (fun _ e => e)
        · exact hp_vr hm 14 rfl rfl (fun _ e => e)
/-! HintHouse$Maker.build(II)LHintHouse$Outline; -/
def M_Mk_build : hM := (8, ⟨"HintHouse$Maker", "build", "(II)LHintHouse$Outline;"⟩, prog_7_method_5_code, 11, (Option.some (Jvm.ClassFile.FieldType.object "HintHouse$Outline")), [], [(0, [(.aload_n 0, 1, 0, 0, 0, .null), (.getfield 26, 3, 8, 4, 4, .null), (.iload_n 2, 1, 0, 0, 0, .null), (.aaload, 1, 105, 0, 0, .null), (.astore_n 3, 1, 0, 0, 0, .null), (.aload_n 0, 1, 0, 0, 0, .null), (.getfield 20, 3, 8, 3, 4, .null), (.iload_n 2, 1, 0, 0, 0, .null), (.aaload, 1, 104, 0, 0, .null), (.astore 4, 2, 0, 0, 0, .null), (.aload_n 0, 1, 0, 0, 0, .null), (.getfield 30, 3, 8, 0, 4, .null), (.iload_n 1, 1, 0, 0, 0, .null), (.aload_n 3, 1, 0, 0, 0, .null)]), (24, [(.istore 5, 2, 0, 0, 0, .null), (.aload_n 0, 1, 0, 0, 0, .null), (.getfield 30, 3, 8, 0, 4, .null), (.iload_n 1, 1, 0, 0, 0, .null)]), (46, [(.iconst 0, 1, 0, 0, 0, (.int (0 : Int32)))]), (37, [(.iload 5, 2, 0, 0, 0, .null)]), (42, [(.iconst 1, 1, 0, 0, 0, (.int (1 : Int32)))]), (47, [(.istore 6, 2, 0, 0, 0, .null), (.aload 4, 2, 0, 0, 0, .null)]), (54, [(.iload 6, 2, 0, 0, 0, .null)]), (77, [(.aload_n 0, 1, 0, 0, 0, .null), (.getfield 30, 3, 8, 0, 4, .null), (.iload_n 1, 1, 0, 0, 0, .null)]), (85, [(.i2l, 1, 0, 0, 0, .null), (.lneg, 1, 0, 0, 0, .null)]), (59, [(.aload_n 3, 1, 0, 0, 0, .null), (.getfield 98, 3, 3, 1, 0, .null), (.i2l, 1, 0, 0, 0, .null), (.aload_n 0, 1, 0, 0, 0, .null), (.getfield 30, 3, 8, 0, 4, .null), (.iload_n 1, 1, 0, 0, 0, .null)]), (72, [(.i2l, 1, 0, 0, 0, .null), (.lsub, 1, 0, 0, 0, .null)]), (87, [(.lstore 7, 2, 0, 0, 0, .null), (.aload 4, 2, 0, 0, 0, .null), (.getfield 104, 3, 9, 6, 4, .null), (.iconst 0, 1, 0, 0, 0, (.int (0 : Int32))), (.aload_n 0, 1, 0, 0, 0, .null), (.getfield 34, 3, 8, 1, 4, .null), (.lload 7, 2, 0, 0, 0, .null)]), (104, [(.iastore, 1, 0, 0, 0, .null)]), (105, [(.aload 4, 2, 0, 0, 0, .null), (.getfield 104, 3, 9, 6, 4, .null), (.iconst 1, 1, 0, 0, 0, (.int (1 : Int32))), (.aload_n 0, 1, 0, 0, 0, .null), (.getfield 34, 3, 8, 1, 4, .null), (.lload 7, 2, 0, 0, 0, .null), (.aload_n 0, 1, 0, 0, 0, .null), (.getfield 30, 3, 8, 0, 4, .null), (.iload_n 1, 1, 0, 0, 0, .null)]), (125, [(.i2l, 1, 0, 0, 0, .null), (.ladd, 1, 0, 0, 0, .null)]), (130, [(.iastore, 1, 0, 0, 0, .null)]), (131, [(.aload 4, 2, 0, 0, 0, .null), (.getfield 115, 3, 9, 7, 4, .null), (.iconst 0, 1, 0, 0, 0, (.int (0 : Int32))), (.iconst 0, 1, 0, 0, 0, (.int (0 : Int32))), (.iastore, 1, 0, 0, 0, .null)]), (139, [(.aload 4, 2, 0, 0, 0, .null), (.getfield 115, 3, 9, 7, 4, .null), (.iconst 1, 1, 0, 0, 0, (.int (1 : Int32))), (.iconst 0, 1, 0, 0, 0, (.int (0 : Int32))), (.iastore, 1, 0, 0, 0, .null)]), (147, [(.aload_n 3, 1, 0, 0, 0, .null), (.getfield 118, 3, 3, 9, 0, .null)]), (154, [(.aload_n 0, 1, 0, 0, 0, .null), (.aload_n 3, 1, 0, 0, 0, .null), (.aload 4, 2, 0, 0, 0, .null)]), (161, [(.iconst 0, 1, 0, 0, 0, (.int (0 : Int32))), (.istore 9, 2, 0, 0, 0, .null)]), (164, [(.iload 9, 2, 0, 0, 0, .null), (.aload_n 3, 1, 0, 0, 0, .null), (.getfield 118, 3, 3, 9, 0, .null)]), (173, [(.aload_n 0, 1, 0, 0, 0, .null), (.aload_n 0, 1, 0, 0, 0, .null), (.getfield 72, 3, 8, 5, 0, .null), (.bipush 60, 2, 0, 0, 0, (.int (60 : Int32)))]), (187, [(.iconst 0, 1, 0, 0, 0, (.int (0 : Int32)))]), (183, [(.iconst 1, 1, 0, 0, 0, (.int (1 : Int32)))]), (188, [(.bipush 12, 2, 0, 0, 0, (.int (12 : Int32)))]), (193, [(.aload_n 0, 1, 0, 0, 0, .null), (.dup, 1, 0, 0, 0, .null), (.getfield 72, 3, 8, 5, 0, .null), (.iconst 1, 1, 0, 0, 0, (.int (1 : Int32))), (.iadd, 1, 0, 0, 0, .null), (.putfield 72, 3, 8, 5, 0, .null)]), (203, [(.aload_n 0, 1, 0, 0, 0, .null), (.aload_n 3, 1, 0, 0, 0, .null), (.getfield 127, 3, 3, 11, 4, .null), (.iload 9, 2, 0, 0, 0, .null), (.iaload, 1, 0, 0, 0, .null), (.iload_n 2, 1, 0, 0, 0, .null), (.iconst 1, 1, 0, 0, 0, (.int (1 : Int32))), (.iadd, 1, 0, 0, 0, .null)]), (217, [(.astore 10, 2, 0, 0, 0, .null), (.aload_n 0, 1, 0, 0, 0, .null), (.aload_n 3, 1, 0, 0, 0, .null), (.iload 9, 2, 0, 0, 0, .null), (.aload 4, 2, 0, 0, 0, .null), (.aload 10, 2, 0, 0, 0, .null)]), (230, [(.iinc 9 1, 3, 0, 0, 0, (.int (1 : Int32)))]), (236, [(.aload_n 0, 1, 0, 0, 0, .null), (.aload 4, 2, 0, 0, 0, .null), (.ldc 138, 2, 0, 0, 0, (.int (1000000 : Int32)))]), (244, [(.bipush 13, 2, 0, 0, 0, (.int (13 : Int32)))]), (249, [(.aload_n 0, 1, 0, 0, 0, .null), (.aload_n 0, 1, 0, 0, 0, .null), (.getfield 12, 3, 8, 2, 4, .null), (.getfield 143, 3, 5, 5, 4, .null), (.getfield 147, 3, 7, 7, 0, .null), (.putfield 152, 3, 8, 6, 0, .null)]), (263, [(.aload_n 0, 1, 0, 0, 0, .null), (.aload_n 0, 1, 0, 0, 0, .null), (.getfield 12, 3, 8, 2, 4, .null), (.getfield 143, 3, 5, 5, 4, .null), (.getfield 153, 3, 7, 8, 0, .null), (.putfield 156, 3, 8, 7, 0, .null)]), (277, [(.aload_n 3, 1, 0, 0, 0, .null), (.getfield 157, 3, 3, 8, 0, .null)]), (325, [(.aload 4, 2, 0, 0, 0, .null)]), (284, [(.aload_n 0, 1, 0, 0, 0, .null), (.aload_n 3, 1, 0, 0, 0, .null), (.aload 4, 2, 0, 0, 0, .null)]), (291, [(.aload_n 0, 1, 0, 0, 0, .null), (.aload_n 0, 1, 0, 0, 0, .null), (.getfield 34, 3, 8, 1, 4, .null), (.getfield 65, 3, 4, 1, 4, .null), (.getfield 143, 3, 5, 5, 4, .null), (.getfield 147, 3, 7, 7, 0, .null), (.putfield 152, 3, 8, 6, 0, .null)]), (308, [(.aload_n 0, 1, 0, 0, 0, .null), (.aload_n 0, 1, 0, 0, 0, .null), (.getfield 34, 3, 8, 1, 4, .null), (.getfield 65, 3, 4, 1, 4, .null), (.getfield 143, 3, 5, 5, 4, .null), (.getfield 153, 3, 7, 8, 0, .null), (.putfield 156, 3, 8, 7, 0, .null)])], [(21, .invokevirtual 87, 3), (31, .invokevirtual 91, 3), (43, .goto 4, 3), (39, .ifCond .eq 7, 3), (34, .ifCond .le 12, 3), (51, .invokevirtual 95, 3), (82, .invokevirtual 101, 3), (69, .invokevirtual 101, 3), (74, .goto 13, 3), (56, .ifCond .eq 21, 3), (101, .invokevirtual 108, 3), (122, .invokevirtual 112, 3), (127, .invokevirtual 108, 3), (158, .invokevirtual 119, 3), (151, .ifCond .ne 10, 3), (184, .goto 4, 3), (180, .if_icmp .ge 7, 3), (190, .invokevirtual 123, 3), (214, .invokevirtual 130, 3), (227, .invokevirtual 134, 3), (233, .goto (-69), 3), (170, .if_icmp .ge 66, 3), (241, .invokevirtual 139, 3), (246, .invokevirtual 123, 3), (327, .areturn, 1), (288, .invokevirtual 160, 3), (281, .ifCond .le 44, 3)])
set_option maxRecDepth 100000 in
theorem m_Mk_build : hx_mok M_Mk_build = true := by decide +kernel
theorem pd_Mk_build : (parseMethodDescriptor M_Mk_build.2.1.desc).map (fun q => q.parameters.length) = some 2 := by decide +kernel
theorem y_Mk_build : hx_okV M_Mk_build := ⟨⟨lw_g (lw_at lw_m7 43 rfl) rfl, lw_g (lw_at lw_m7 41 rfl) rfl, lw_g (lw_at lw_m7 42 rfl) rfl, lw_g (lw_at lw_m1 9 rfl) rfl, rfl, by decide, by decide, by decide⟩, rfl, by decide, plainFor_of_name (by decide)⟩
noncomputable def fb_Mk_build (rec : Int32 → Int32 → hH → Option (hH ⊕ (Nat × hH))) (x1 : Int32) (x2 : Int32) (h : hH) : Option (hH ⊕ (Nat × hH)) :=
  gd (vp_in x2 6) <|
  gd (isA 3 (rf 69 (Int32.toNatClampNeg x2))) <|
  bS (f_Fo_read x1 (rf 69 (Int32.toNatClampNeg x2)) h) fun a3 h1 =>
  bP (f_Fo_sizeOf x1 h1) fun a4 =>
  lz (A := Int32) (if a4 ≤ 0 then (0 : Int32) else (if a3 = 0 then (0 : Int32) else (1 : Int32))) fun p5 =>
  gd (isA 9 (rf 68 (Int32.toNatClampNeg x2))) <|
  bS (f_Ou_clear (rf 68 (Int32.toNatClampNeg x2)) h1) fun _ h2 =>
  bJT (P := Int64) (
    if p5 = 0 then (
      bP (f_Fo_bearing x1 h2) fun a10 =>
      some (.inr (-(Int32.toInt64 a10)))
    ) else (
      bP (f_Fo_bearing x1 h2) fun a11 =>
      some (.inr ((Int32.toInt64 (rdI h2 (rf 69 (Int32.toNatClampNeg x2)) 1)) - (Int32.toInt64 a11)))
    )
  ) fun p9 =>
  bP (f_Ma_scaled p9 h2) fun a13 =>
  lz (wrI h2 (rf (rf 68 (Int32.toNatClampNeg x2)) 6) 0 a13) fun h3 =>
  bP (f_Fo_advance x1 h3) fun a14 =>
  bP (f_Ma_scaled (p9 + (Int32.toInt64 a14)) h3) fun a15 =>
  lz (wrI h3 (rf (rf 68 (Int32.toNatClampNeg x2)) 6) 1 a15) fun h4 =>
  lz (wrI h4 (rf (rf 68 (Int32.toNatClampNeg x2)) 7) 0 (0 : Int32)) fun h5 =>
  lz (wrI h5 (rf (rf 68 (Int32.toNatClampNeg x2)) 7) 1 (0 : Int32)) fun h6 =>
  bJT (P := hH) (
    if (rdI h6 (rf 69 (Int32.toNatClampNeg x2)) 9) = 0 then (
      bS (f_Mk_simple (rf 69 (Int32.toNatClampNeg x2)) (rf 68 (Int32.toNatClampNeg x2)) h6) fun _ h7 =>
      some (.inr h7)
    ) else (
      some (.inr h6)
    )
  ) fun p16 =>
  bJT (P := hH) (
    whT (A := (Int32 × hH)) (B := hH) (fun p18 =>
        if (rdI p18.2 (rf 69 (Int32.toNatClampNeg x2)) 9) ≤ p18.1 then (
          some (.inr (.inr p18.2))
        ) else (
          lz (A := Int32) (if (60 : Int32) ≤ (rdI p18.2 56 5) then (0 : Int32) else (1 : Int32)) fun p20 =>
          bT (f_Mk_want p20 (12 : Int32) p18.2) fun _ h8 =>
          lz (wrI h8 56 5 ((rdI h8 56 5) + (1 : Int32))) fun h9 =>
          gd (vp_in p18.1 8) <|
          bT (rec (rdI h9 (rf (rf 69 (Int32.toNatClampNeg x2)) 11) (Int32.toNatClampNeg p18.1)) (x2 + (1 : Int32)) h9) fun a23 h10 =>
          gd (isA 9 a23) <|
          bT (f_Mk_join (rf 69 (Int32.toNatClampNeg x2)) p18.1 (rf 68 (Int32.toNatClampNeg x2)) a23 h10) fun _ h11 =>
          lz (A := Int32) (p18.1 + (1 : Int32)) fun v25 =>
          some (.inr (.inl (v25, h11)))
        )
    ) ((0 : Int32), p16)
  ) fun p19 =>
  bP (f_Ou_isWithin (rf 68 (Int32.toNatClampNeg x2)) (1000000 : Int32) p19) fun a27 =>
  bT (f_Mk_want a27 (13 : Int32) p19) fun _ h12 =>
  lz (wrI h12 56 6 (rdI h12 67 7)) fun h13 =>
  lz (wrI h13 56 7 (rdI h13 67 8)) fun h14 =>
  if (rdI h14 (rf 69 (Int32.toNatClampNeg x2)) 8) ≤ 0 then (
    some (.inr ((rf 68 (Int32.toNatClampNeg x2)), h14))
  ) else (
    bT (f_Mk_work (rf 69 (Int32.toNatClampNeg x2)) (rf 68 (Int32.toNatClampNeg x2)) h14) fun _ h15 =>
    lz (wrI h15 56 6 (rdI h15 33 7)) fun h16 =>
    lz (wrI h16 56 7 (rdI h16 33 8)) fun h17 =>
    some (.inr ((rf 68 (Int32.toNatClampNeg x2)), h17))
  )
set_option maxRecDepth 20000 in
theorem kb_Mk_build (n : Nat) (rec : Int32 → Int32 → hH → Option (hH ⊕ (Nat × hH))) (hrec : ∀ (x1 : Int32) (x2 : Int32) (h : hH), hx_kT S0 M_Mk_build (17 + n) NT [(.ref 56), (.int x1), (.int x2)] h (rec x1 x2 h) cvA) (x1 : Int32) (x2 : Int32) (h : hH) : hx_kT S0 M_Mk_build (17 + n + 1) NT [(.ref 56), (.int x1), (.int x2)] h (fb_Mk_build rec x1 x2 h) cvA := by
  have hm := m_Mk_build
  show hx_P S0 M_Mk_build (17 + n + 1) 0 [(0, (.ref 56)), (1, (.int x1)), (2, (.int x2))] [] NT h (fb_Mk_build rec x1 x2 h) (hx_T NT (hx_Rc cvA NT))
  unfold fb_Mk_build
  refine hp_G hm (at1 0 rfl) (L' := [(4, (.ref (rf 68 (Int32.toNatClampNeg x2)))), (3, (.ref (rf 69 (Int32.toNatClampNeg x2)))), (0, (.ref 56)), (1, (.int x1)), (2, (.int x2))]) (st' := [(.ref (rf 69 (Int32.toNatClampNeg x2))), (.int x1), (.ref 4)]) rfl (fun hP => (by exact ⟨⟨⟨⟨og_56, ⟨og_69, hP⟩⟩, og_56⟩, ⟨og_68, hP⟩⟩, og_56⟩)) (pc' := 21) rfl (fun q1 => ?_)
  refine hp_G0 (fun q2 => ?_)
  refine hp_cVS (M2 := M_Fo_read) hm at0 (as := [(.int x1), (.ref (rf 69 (Int32.toNatClampNeg x2)))]) (rest := []) (z := 4) rfl (by exact trivial) (pc' := 21) rfl 0 rfl (lw_g (lw_at lw_m7 44 rfl) rfl) y_Fo_read rfl (d2 := 7) ⟨by omega, pd_Fo_read, le_b rfl⟩ (le_b rfl) og_4 (k_Fo_read x1 (rf 69 (Int32.toNatClampNeg x2)) h q2) (fun a3 h1 => ?_)
  refine hp_b hm (at1 1 rfl) (L' := [(5, (.int a3)), (4, (.ref (rf 68 (Int32.toNatClampNeg x2)))), (3, (.ref (rf 69 (Int32.toNatClampNeg x2)))), (0, (.ref 56)), (1, (.int x1)), (2, (.int x2))]) (st' := [(.int x1), (.ref 4)]) rfl (by exact og_56) (pc' := 31) rfl ?_
  refine hp_cVP (M2 := M_Fo_sizeOf) hm at0 (as := [(.int x1)]) (rest := []) (z := 4) rfl (by exact trivial) (pc' := 31) rfl 1 rfl (lw_g (lw_at lw_m7 45 rfl) rfl) y_Fo_sizeOf rfl (d2 := 5) ⟨by omega, pd_Fo_sizeOf, le_b rfl⟩ (le_b rfl) og_4 (k_Fo_sizeOf x1 h1) (fun a4 => ?_)
  refine hp_JZ 47 (fun (p5 : Int32) => [(0, (.ref 56)), (1, (.int x1)), (2, (.int x2)), (3, (.ref (rf 69 (Int32.toNatClampNeg x2)))), (4, (.ref (rf 68 (Int32.toNatClampNeg x2))))]) (fun (p5 : Int32) => [(.int p5)]) (fun (p5 : Int32) => h1) ?_ (fun p5 => ?_)
  · refine hp_sv0 ?_
    refine hp_if_le hm at0 rfl (by exact trivial) (pc' := 34) rfl 4 rfl (tgt := 46) rfl (fun c7 => ?_) (fun c7 => ?_)
    · refine hp_b hm (at1 2 rfl) (L' := [(5, (.int a3)), (4, (.ref (rf 68 (Int32.toNatClampNeg x2)))), (3, (.ref (rf 69 (Int32.toNatClampNeg x2)))), (0, (.ref 56)), (1, (.int x1)), (2, (.int x2))]) (st' := [(.int (0 : Int32))]) rfl (by exact trivial) (pc' := 47) rfl ?_
      exact hp_lf [3, 4, 5, 2, 1] rfl (fun _ e => e)
    · refine hp_sv0 ?_
      refine hp_if_eq hm (at1 3 rfl) rfl (by exact trivial) (pc' := 39) rfl 3 rfl (tgt := 46) rfl (fun c6 => ?_) (fun c6 => ?_)
      · refine hp_b hm (at1 2 rfl) (L' := [(5, (.int a3)), (4, (.ref (rf 68 (Int32.toNatClampNeg x2)))), (3, (.ref (rf 69 (Int32.toNatClampNeg x2)))), (0, (.ref 56)), (1, (.int x1)), (2, (.int x2))]) (st' := [(.int (0 : Int32))]) rfl (by exact trivial) (pc' := 47) rfl ?_
        exact hp_lf [3, 4, 5, 2, 1] rfl (fun _ e => e)
      · refine hp_b hm (at1 4 rfl) (L' := [(5, (.int a3)), (4, (.ref (rf 68 (Int32.toNatClampNeg x2)))), (3, (.ref (rf 69 (Int32.toNatClampNeg x2)))), (0, (.ref 56)), (1, (.int x1)), (2, (.int x2))]) (st' := [(.int (1 : Int32))]) rfl (by exact trivial) (pc' := 43) rfl ?_
        refine hp_goto hm 2 rfl (tgt := 47) rfl ?_
        exact hp_lf [3, 4, 5, 2, 1] rfl (fun _ e => e)
  · refine hp_b hm (at1 5 rfl) (L' := [(6, (.int p5)), (0, (.ref 56)), (1, (.int x1)), (2, (.int x2)), (3, (.ref (rf 69 (Int32.toNatClampNeg x2)))), (4, (.ref (rf 68 (Int32.toNatClampNeg x2))))]) (st' := [(.ref (rf 68 (Int32.toNatClampNeg x2)))]) rfl (by exact trivial) (pc' := 51) rfl ?_
    refine hp_G0 (fun q8 => ?_)
    refine hp_cVS (M2 := M_Ou_clear) hm at0 (as := []) (rest := []) (z := (rf 68 (Int32.toNatClampNeg x2))) rfl (by exact trivial) (pc' := 51) rfl 5 rfl (lw_g (lw_at lw_m7 46 rfl) rfl) y_Ou_clear rfl (d2 := 1) ⟨by omega, pd_Ou_clear, le_b rfl⟩ (le_b rfl) q8 (k_Ou_clear (rf 68 (Int32.toNatClampNeg x2)) h1 q8) (fun _ h2 => ?_)
    refine hp_JT 87 (fun (p9 : Int64) => [(0, (.ref 56)), (1, (.int x1)), (2, (.int x2)), (3, (.ref (rf 69 (Int32.toNatClampNeg x2)))), (4, (.ref (rf 68 (Int32.toNatClampNeg x2))))]) (fun (p9 : Int64) => [(.long p9)]) (fun (p9 : Int64) => h2) ?_ (fun p9 => ?_)
    · refine hp_if_eq hm (at1 6 rfl) rfl (by exact trivial) (pc' := 56) rfl 9 rfl (tgt := 77) rfl (fun c12 => ?_) (fun c12 => ?_)
      · refine hp_cVP (M2 := M_Fo_bearing) hm (at1 7 rfl) (as := [(.int x1)]) (rest := []) (z := 4) rfl (by exact og_56) (pc' := 82) rfl 6 rfl (lw_g (lw_at lw_m7 50 rfl) rfl) y_Fo_bearing rfl (d2 := 4) ⟨by omega, pd_Fo_bearing, le_b rfl⟩ (le_b rfl) og_4 (k_Fo_bearing x1 h2) (fun a10 => ?_)
        refine hp_b hm (at1 8 rfl) (L' := [(6, (.int p5)), (0, (.ref 56)), (1, (.int x1)), (2, (.int x2)), (3, (.ref (rf 69 (Int32.toNatClampNeg x2)))), (4, (.ref (rf 68 (Int32.toNatClampNeg x2))))]) (st' := [(.long (-(Int32.toInt64 a10)))]) rfl (by exact trivial) (pc' := 87) rfl ?_
        exact hp_lf [1, 2, 3, 4, 5] rfl (fun _ e => e)
      · refine hp_cVP (M2 := M_Fo_bearing) hm (at1 9 rfl) (as := [(.int x1)]) (rest := [(.long (Int32.toInt64 (rdI h2 (rf 69 (Int32.toNatClampNeg x2)) 1)))]) (z := 4) rfl (by exact ⟨q2, og_56⟩) (pc' := 69) rfl 7 rfl (lw_g (lw_at lw_m7 50 rfl) rfl) y_Fo_bearing rfl (d2 := 4) ⟨by omega, pd_Fo_bearing, le_b rfl⟩ (le_b rfl) og_4 (k_Fo_bearing x1 h2) (fun a11 => ?_)
        refine hp_b hm (at1 10 rfl) (L' := [(6, (.int p5)), (0, (.ref 56)), (1, (.int x1)), (2, (.int x2)), (3, (.ref (rf 69 (Int32.toNatClampNeg x2)))), (4, (.ref (rf 68 (Int32.toNatClampNeg x2))))]) (st' := [(.long ((Int32.toInt64 (rdI h2 (rf 69 (Int32.toNatClampNeg x2)) 1)) - (Int32.toInt64 a11)))]) rfl (by exact trivial) (pc' := 74) rfl ?_
        refine hp_goto hm 8 rfl (tgt := 87) rfl ?_
        exact hp_lf [1, 2, 3, 4, 5] rfl (fun _ e => e)
    · refine hp_b hm (at1 11 rfl) (L' := [(7, (.long p9)), (0, (.ref 56)), (1, (.int x1)), (2, (.int x2)), (3, (.ref (rf 69 (Int32.toNatClampNeg x2)))), (4, (.ref (rf 68 (Int32.toNatClampNeg x2))))]) (st' := [(.long p9), (.ref 22), (.int (0 : Int32)), (.ref (rf (rf 68 (Int32.toNatClampNeg x2)) 6))]) rfl (by exact ⟨q8, og_56⟩) (pc' := 101) rfl ?_
      refine hp_cVP (M2 := M_Ma_scaled) hm at0 (as := [(.long p9)]) (rest := [(.int (0 : Int32)), (.ref (rf (rf 68 (Int32.toNatClampNeg x2)) 6))]) (z := 22) rfl (by exact trivial) (pc' := 101) rfl 10 rfl (lw_g (lw_at lw_m7 51 rfl) rfl) y_Ma_scaled rfl (d2 := 3) ⟨by omega, pd_Ma_scaled, le_b rfl⟩ (le_b rfl) og_22 (k_Ma_scaled p9 h2) (fun a13 => ?_)
      refine hp_w hm (at1 12 rfl) (L' := [(7, (.long p9)), (0, (.ref 56)), (1, (.int x1)), (2, (.int x2)), (3, (.ref (rf 69 (Int32.toNatClampNeg x2)))), (4, (.ref (rf 68 (Int32.toNatClampNeg x2))))]) rfl (by exact ⟨(rt_9_6 q8), (vp_cst (rl_9_6 q8) (show vp_in (0 : Int32) 2 from vp_lit (by decide)))⟩) (pc' := 105) rfl (fun h3 => ?_)
      refine hp_cVP (M2 := M_Fo_advance) hm (at1 13 rfl) (as := [(.int x1)]) (rest := [(.long p9), (.ref 22), (.int (1 : Int32)), (.ref (rf (rf 68 (Int32.toNatClampNeg x2)) 6))]) (z := 4) rfl (by exact ⟨⟨q8, og_56⟩, og_56⟩) (pc' := 122) rfl 11 rfl (lw_g (lw_at lw_m7 52 rfl) rfl) y_Fo_advance rfl (d2 := 3) ⟨by omega, pd_Fo_advance, le_b rfl⟩ (le_b rfl) og_4 (k_Fo_advance x1 h3) (fun a14 => ?_)
      refine hp_cVP (M2 := M_Ma_scaled) hm (at1 14 rfl) (as := [(.long (p9 + (Int32.toInt64 a14)))]) (rest := [(.int (1 : Int32)), (.ref (rf (rf 68 (Int32.toNatClampNeg x2)) 6))]) (z := 22) rfl (by exact trivial) (pc' := 127) rfl 12 rfl (lw_g (lw_at lw_m7 51 rfl) rfl) y_Ma_scaled rfl (d2 := 3) ⟨by omega, pd_Ma_scaled, le_b rfl⟩ (le_b rfl) og_22 (k_Ma_scaled (p9 + (Int32.toInt64 a14)) h3) (fun a15 => ?_)
      refine hp_w hm (at1 15 rfl) (L' := [(7, (.long p9)), (0, (.ref 56)), (1, (.int x1)), (2, (.int x2)), (3, (.ref (rf 69 (Int32.toNatClampNeg x2)))), (4, (.ref (rf 68 (Int32.toNatClampNeg x2))))]) rfl (by exact ⟨(rt_9_6 q8), (vp_cst (rl_9_6 q8) (show vp_in (1 : Int32) 2 from vp_lit (by decide)))⟩) (pc' := 131) rfl (fun h4 => ?_)
      refine hp_w hm (at1 16 rfl) (L' := [(7, (.long p9)), (0, (.ref 56)), (1, (.int x1)), (2, (.int x2)), (3, (.ref (rf 69 (Int32.toNatClampNeg x2)))), (4, (.ref (rf 68 (Int32.toNatClampNeg x2))))]) rfl (by exact ⟨q8, ⟨(rt_9_7 q8), (vp_cst (rl_9_7 q8) (show vp_in (0 : Int32) 2 from vp_lit (by decide)))⟩⟩) (pc' := 139) rfl (fun h5 => ?_)
      refine hp_w hm (at1 17 rfl) (L' := [(7, (.long p9)), (0, (.ref 56)), (1, (.int x1)), (2, (.int x2)), (3, (.ref (rf 69 (Int32.toNatClampNeg x2)))), (4, (.ref (rf 68 (Int32.toNatClampNeg x2))))]) rfl (by exact ⟨q8, ⟨(rt_9_7 q8), (vp_cst (rl_9_7 q8) (show vp_in (1 : Int32) 2 from vp_lit (by decide)))⟩⟩) (pc' := 147) rfl (fun h6 => ?_)
      refine hp_JT 161 (fun (p16 : hH) => [(0, (.ref 56)), (2, (.int x2)), (3, (.ref (rf 69 (Int32.toNatClampNeg x2)))), (4, (.ref (rf 68 (Int32.toNatClampNeg x2))))]) (fun (p16 : hH) => []) (fun (p16 : hH) => p16) ?_ (fun p16 => ?_)
      · refine hp_if_ne hm (at1 18 rfl) rfl (by exact q2) (pc' := 151) rfl 14 rfl (tgt := 161) rfl (fun c17 => ?_) (fun c17 => ?_)
        · exact hp_lf [1, 3, 4, 5] rfl (fun _ e => e)
        · refine hp_cVS (M2 := M_Mk_simple) hm (at1 19 rfl) (as := [(.ref (rf 69 (Int32.toNatClampNeg x2))), (.ref (rf 68 (Int32.toNatClampNeg x2)))]) (rest := []) (z := 56) rfl (by exact trivial) (pc' := 158) rfl 13 rfl (lw_g (lw_at lw_m7 53 rfl) rfl) y_Mk_simple rfl (d2 := 4) ⟨by omega, pd_Mk_simple, le_b rfl⟩ (le_b rfl) og_56 (k_Mk_simple (rf 69 (Int32.toNatClampNeg x2)) (rf 68 (Int32.toNatClampNeg x2)) h6 q2 q8) (fun _ h7 => ?_)
          exact hp_lf [1, 3, 4, 5] rfl (fun _ e => e)
      · refine hp_b hm (at1 20 rfl) (L' := [(9, (.int (0 : Int32))), (0, (.ref 56)), (2, (.int x2)), (3, (.ref (rf 69 (Int32.toNatClampNeg x2)))), (4, (.ref (rf 68 (Int32.toNatClampNeg x2))))]) (st' := []) rfl (by exact trivial) (pc' := 164) rfl ?_
        refine hp_JT 236 (fun (p19 : hH) => [(0, (.ref 56)), (3, (.ref (rf 69 (Int32.toNatClampNeg x2)))), (4, (.ref (rf 68 (Int32.toNatClampNeg x2))))]) (fun (p19 : hH) => []) (fun (p19 : hH) => p19) ?_ (fun p19 => ?_)
        · refine hp_s [1, 2, 3, 4, 0] rfl (L' := [(0, (.ref 56)), (2, (.int x2)), (3, (.ref (rf 69 (Int32.toNatClampNeg x2)))), (4, (.ref (rf 68 (Int32.toNatClampNeg x2)))), (9, (.int (0 : Int32)))]) ?_
          refine hp_whT (fun (p18 : (Int32 × hH)) => [(0, (.ref 56)), (2, (.int x2)), (3, (.ref (rf 69 (Int32.toNatClampNeg x2)))), (4, (.ref (rf 68 (Int32.toNatClampNeg x2)))), (9, (.int p18.1))]) [] (fun (p18 : (Int32 × hH)) => p18.2) (fun p18 => ?_) ((0 : Int32), p16)
          refine hp_ic_ge hm (at1 21 rfl) rfl (by exact q2) (pc' := 170) rfl 21 rfl (tgt := 236) rfl (fun c26 => ?_) (fun c26 => ?_)
          · exact hp_lf [0, 2, 3] rfl (fun _ e => e)
          · refine hp_JZ 188 (fun (p20 : Int32) => [(0, (.ref 56)), (2, (.int x2)), (3, (.ref (rf 69 (Int32.toNatClampNeg x2)))), (4, (.ref (rf 68 (Int32.toNatClampNeg x2)))), (9, (.int p18.1))]) (fun (p20 : Int32) => [(.int p20), (.ref 56)]) (fun (p20 : Int32) => p18.2) ?_ (fun p20 => ?_)
            · refine hp_sv0 ?_
              refine hp_ic_ge hm (at1 22 rfl) rfl (by exact og_56) (pc' := 180) rfl 16 rfl (tgt := 187) rfl (fun c21 => ?_) (fun c21 => ?_)
              · refine hp_b hm (at1 23 rfl) (L' := [(0, (.ref 56)), (2, (.int x2)), (3, (.ref (rf 69 (Int32.toNatClampNeg x2)))), (4, (.ref (rf 68 (Int32.toNatClampNeg x2)))), (9, (.int p18.1))]) (st' := [(.int (0 : Int32)), (.ref 56)]) rfl (by exact trivial) (pc' := 188) rfl ?_
                exact hp_lf [0, 1, 2, 3, 4] rfl (fun _ e => e)
              · refine hp_b hm (at1 24 rfl) (L' := [(0, (.ref 56)), (2, (.int x2)), (3, (.ref (rf 69 (Int32.toNatClampNeg x2)))), (4, (.ref (rf 68 (Int32.toNatClampNeg x2)))), (9, (.int p18.1))]) (st' := [(.int (1 : Int32)), (.ref 56)]) rfl (by exact trivial) (pc' := 184) rfl ?_
                refine hp_goto hm 15 rfl (tgt := 188) rfl ?_
                exact hp_lf [0, 1, 2, 3, 4] rfl (fun _ e => e)
            · refine hp_cVT (M2 := M_Mk_want) hm (at1 25 rfl) (as := [(.int p20), (.int (12 : Int32))]) (rest := []) (z := 56) rfl (by exact trivial) (pc' := 190) rfl 17 rfl (lw_g (lw_at lw_m7 57 rfl) rfl) y_Mk_want rfl (d2 := 6) ⟨by omega, pd_Mk_want, le_b rfl⟩ (le_b rfl) og_56 rfl (k_Mk_want p20 (12 : Int32) p18.2) (fun _ h8 => ?_)
              refine hp_w hm (at1 26 rfl) (L' := [(0, (.ref 56)), (2, (.int x2)), (3, (.ref (rf 69 (Int32.toNatClampNeg x2)))), (4, (.ref (rf 68 (Int32.toNatClampNeg x2)))), (9, (.int p18.1))]) rfl (by exact ⟨og_56, og_56⟩) (pc' := 203) rfl (fun h9 => ?_)
              refine hp_G hm (at1 27 rfl) (L' := [(0, (.ref 56)), (2, (.int x2)), (3, (.ref (rf 69 (Int32.toNatClampNeg x2)))), (4, (.ref (rf 68 (Int32.toNatClampNeg x2)))), (9, (.int p18.1))]) (st' := [(.int (x2 + (1 : Int32))), (.int (rdI h9 (rf (rf 69 (Int32.toNatClampNeg x2)) 11) (Int32.toNatClampNeg p18.1))), (.ref 56)]) rfl (fun hP => (by exact ⟨q2, ⟨(rt_3_11 q2), (vp_cst (rl_3_11 q2) hP)⟩⟩)) (pc' := 214) rfl (fun q22 => ?_)
              refine hp_cVT (M2 := M_Mk_build) hm at0 (as := [(.int (rdI h9 (rf (rf 69 (Int32.toNatClampNeg x2)) 11) (Int32.toNatClampNeg p18.1))), (.int (x2 + (1 : Int32)))]) (rest := []) (z := 56) rfl (by exact trivial) (pc' := 214) rfl 18 rfl (lw_g (lw_at lw_m7 63 rfl) rfl) y_Mk_build rfl (d2 := (17 + n)) ⟨by omega, pd_Mk_build, le_b rfl⟩ (le_b rfl) og_56 rfl (hrec (rdI h9 (rf (rf 69 (Int32.toNatClampNeg x2)) 11) (Int32.toNatClampNeg p18.1)) (x2 + (1 : Int32)) h9) (fun a23 h10 => ?_)
              refine hp_b hm (at1 28 rfl) (L' := [(10, (.ref a23)), (0, (.ref 56)), (2, (.int x2)), (3, (.ref (rf 69 (Int32.toNatClampNeg x2)))), (4, (.ref (rf 68 (Int32.toNatClampNeg x2)))), (9, (.int p18.1))]) (st' := [(.ref a23), (.ref (rf 68 (Int32.toNatClampNeg x2))), (.int p18.1), (.ref (rf 69 (Int32.toNatClampNeg x2))), (.ref 56)]) rfl (by exact trivial) (pc' := 227) rfl ?_
              refine hp_G0 (fun q24 => ?_)
              refine hp_cVT (M2 := M_Mk_join) hm at0 (as := [(.ref (rf 69 (Int32.toNatClampNeg x2))), (.int p18.1), (.ref (rf 68 (Int32.toNatClampNeg x2))), (.ref a23)]) (rest := []) (z := 56) rfl (by exact trivial) (pc' := 227) rfl 19 rfl (lw_g (lw_at lw_m7 64 rfl) rfl) y_Mk_join rfl (d2 := 7) ⟨by omega, pd_Mk_join, le_b rfl⟩ (le_b rfl) og_56 rfl (k_Mk_join (rf 69 (Int32.toNatClampNeg x2)) p18.1 (rf 68 (Int32.toNatClampNeg x2)) a23 h10 q2 q8 q24) (fun _ h11 => ?_)
              refine hp_z hm (at1 29 rfl) (fun (v25 : Int32) => [(9, (.int v25)), (10, (.ref a23)), (0, (.ref 56)), (2, (.int x2)), (3, (.ref (rf 69 (Int32.toNatClampNeg x2)))), (4, (.ref (rf 68 (Int32.toNatClampNeg x2))))]) (fun (v25 : Int32) => []) rfl (by exact trivial) (pc' := 233) rfl (fun v25 => ?_)
              refine hp_goto hm 20 rfl (tgt := 164) rfl ?_
              exact hp_lf [2, 3, 4, 5, 0] rfl (fun _ e => e)
        · refine hp_cVP (M2 := M_Ou_isWithin) hm (at1 30 rfl) (as := [(.int (1000000 : Int32))]) (rest := [(.ref 56)]) (z := (rf 68 (Int32.toNatClampNeg x2))) rfl (by exact trivial) (pc' := 241) rfl 22 rfl (lw_g (lw_at lw_m7 79 rfl) rfl) y_Ou_isWithin rfl (d2 := 2) ⟨by omega, pd_Ou_isWithin, le_b rfl⟩ (le_b rfl) q8 (k_Ou_isWithin (rf 68 (Int32.toNatClampNeg x2)) (1000000 : Int32) p19 q8) (fun a27 => ?_)
          refine hp_cVT (M2 := M_Mk_want) hm (at1 31 rfl) (as := [(.int a27), (.int (13 : Int32))]) (rest := []) (z := 56) rfl (by exact trivial) (pc' := 246) rfl 23 rfl (lw_g (lw_at lw_m7 57 rfl) rfl) y_Mk_want rfl (d2 := 6) ⟨by omega, pd_Mk_want, le_b rfl⟩ (le_b rfl) og_56 rfl (k_Mk_want a27 (13 : Int32) p19) (fun _ h12 => ?_)
          refine hp_w hm (at1 32 rfl) (L' := [(0, (.ref 56)), (3, (.ref (rf 69 (Int32.toNatClampNeg x2)))), (4, (.ref (rf 68 (Int32.toNatClampNeg x2))))]) rfl (by exact ⟨⟨⟨og_56, og_57⟩, og_67⟩, og_56⟩) (pc' := 263) rfl (fun h13 => ?_)
          refine hp_w hm (at1 33 rfl) (L' := [(0, (.ref 56)), (3, (.ref (rf 69 (Int32.toNatClampNeg x2)))), (4, (.ref (rf 68 (Int32.toNatClampNeg x2))))]) rfl (by exact ⟨⟨⟨og_56, og_57⟩, og_67⟩, og_56⟩) (pc' := 277) rfl (fun h14 => ?_)
          refine hp_if_le hm (at1 34 rfl) rfl (by exact q2) (pc' := 281) rfl 26 rfl (tgt := 325) rfl (fun c28 => ?_) (fun c28 => ?_)
          · exact hp_ar hm (at1 35 rfl) rfl (by exact trivial) (pc' := 327) rfl 24 rfl rfl (fun _ e => e)
          · refine hp_cVT (M2 := M_Mk_work) hm (at1 36 rfl) (as := [(.ref (rf 69 (Int32.toNatClampNeg x2))), (.ref (rf 68 (Int32.toNatClampNeg x2)))]) (rest := []) (z := 56) rfl (by exact trivial) (pc' := 288) rfl 25 rfl (lw_g (lw_at lw_m7 84 rfl) rfl) y_Mk_work rfl (d2 := 15) ⟨by omega, pd_Mk_work, le_b rfl⟩ (le_b rfl) og_56 rfl (k_Mk_work (rf 69 (Int32.toNatClampNeg x2)) (rf 68 (Int32.toNatClampNeg x2)) h14 q2 q8) (fun _ h15 => ?_)
            refine hp_w hm (at1 37 rfl) (L' := [(0, (.ref 56)), (3, (.ref (rf 69 (Int32.toNatClampNeg x2)))), (4, (.ref (rf 68 (Int32.toNatClampNeg x2))))]) rfl (by exact ⟨⟨⟨⟨og_56, og_22⟩, og_23⟩, og_33⟩, og_56⟩) (pc' := 308) rfl (fun h16 => ?_)
            refine hp_w hm (at1 38 rfl) (L' := [(0, (.ref 56)), (3, (.ref (rf 69 (Int32.toNatClampNeg x2)))), (4, (.ref (rf 68 (Int32.toNatClampNeg x2))))]) rfl (by exact ⟨⟨⟨⟨og_56, og_22⟩, og_23⟩, og_33⟩, og_56⟩) (pc' := 325) rfl (fun h17 => ?_)
            exact hp_ar hm (at1 35 rfl) rfl (by exact trivial) (pc' := 327) rfl 24 rfl rfl (fun _ e => e)
noncomputable def f_Mk_build : Nat → Int32 → Int32 → hH → Option (hH ⊕ (Nat × hH))
  | 0 => fun _ _ _ => none
  | n + 1 => fb_Mk_build (f_Mk_build n)
theorem k_Mk_build : ∀ (n : Nat) (x1 : Int32) (x2 : Int32) (h : hH), hx_kT S0 M_Mk_build (17 + n) NT [(.ref 56), (.int x1), (.int x2)] h (f_Mk_build n x1 x2 h) cvA
  | 0, x1, x2, h => fun _ hx => by cases hx
  | n + 1, x1, x2, h => kb_Mk_build n _ (k_Mk_build n) x1 x2 h
/-! HintHouse$Maker.finish(LHintHouse$Outline;)V -/
def M_Mk_finish : hM := (8, ⟨"HintHouse$Maker", "finish", "(LHintHouse$Outline;)V"⟩, prog_7_method_9_code, 3, (Option.none : Option Jvm.ClassFile.FieldType), [], [(0, [(.iconst 0, 1, 0, 0, 0, (.int (0 : Int32))), (.istore_n 2, 1, 0, 0, 0, .null)]), (2, [(.iload_n 2, 1, 0, 0, 0, .null), (.aload_n 1, 1, 0, 0, 0, .null), (.getfield 166, 3, 9, 3, 0, .null)]), (10, [(.aload_n 1, 1, 0, 0, 0, .null), (.getfield 171, 3, 9, 0, 4, .null), (.iload_n 2, 1, 0, 0, 0, .null), (.aload_n 1, 1, 0, 0, 0, .null), (.getfield 171, 3, 9, 0, 4, .null), (.iload_n 2, 1, 0, 0, 0, .null), (.iaload, 1, 0, 0, 0, .null), (.aload_n 1, 1, 0, 0, 0, .null), (.getfield 104, 3, 9, 6, 4, .null), (.iconst 0, 1, 0, 0, 0, (.int (0 : Int32))), (.iaload, 1, 0, 0, 0, .null), (.isub, 1, 0, 0, 0, .null), (.iastore, 1, 0, 0, 0, .null)]), (29, [(.iinc 2 1, 3, 0, 0, 0, (.int (1 : Int32)))]), (35, [(.aload_n 0, 1, 0, 0, 0, .null), (.aload_n 1, 1, 0, 0, 0, .null), (.sipush 4096, 3, 0, 0, 0, (.int (4096 : Int32)))]), (43, [(.bipush 13, 2, 0, 0, 0, (.int (13 : Int32)))])], [(32, .goto (-30), 3), (7, .if_icmp .ge 28, 3), (40, .invokevirtual 139, 3), (45, .invokevirtual 123, 3), (48, .return_, 1)])
set_option maxRecDepth 100000 in
theorem m_Mk_finish : hx_mok M_Mk_finish = true := by decide +kernel
theorem pd_Mk_finish : (parseMethodDescriptor M_Mk_finish.2.1.desc).map (fun q => q.parameters.length) = some 1 := by decide +kernel
theorem y_Mk_finish : hx_okV M_Mk_finish := ⟨⟨lw_g (lw_at lw_m7 93 rfl) rfl, lw_g (lw_at lw_m7 91 rfl) rfl, lw_g (lw_at lw_m7 92 rfl) rfl, lw_g (lw_at lw_m1 9 rfl) rfl, rfl, by decide, by decide, by decide⟩, rfl, by decide, plainFor_of_name (by decide)⟩
noncomputable def f_Mk_finish (x1 : Nat) (h : hH) : Option (hH ⊕ (Unit × hH)) :=
  bJT (P := hH) (
    whT (A := (Int32 × hH)) (B := hH) (fun p1 =>
        if (rdI p1.2 x1 3) ≤ p1.1 then (
          some (.inr (.inr p1.2))
        ) else (
          gd (vp_in p1.1 100) <|
          lz (wrI p1.2 (rf x1 0) (Int32.toNatClampNeg p1.1) ((rdI p1.2 (rf x1 0) (Int32.toNatClampNeg p1.1)) - (rdI p1.2 (rf x1 6) 0))) fun h1 =>
          lz (A := Int32) (p1.1 + (1 : Int32)) fun v4 =>
          some (.inr (.inl (v4, h1)))
        )
    ) ((0 : Int32), h)
  ) fun p2 =>
  bP (f_Ou_isWithin x1 (4096 : Int32) p2) fun a6 =>
  bT (f_Mk_want a6 (13 : Int32) p2) fun _ h2 =>
  some (.inr ((), h2))
set_option maxRecDepth 20000 in
theorem k_Mk_finish (x1 : Nat) (h : hH) (hx1 : isA 9 x1) : hx_kT S0 M_Mk_finish 7 NT [(.ref 56), (.ref x1)] h (f_Mk_finish x1 h) cvU := by
  have hm := m_Mk_finish
  show hx_P S0 M_Mk_finish 7 0 [(0, (.ref 56)), (1, (.ref x1))] [] NT h (f_Mk_finish x1 h) (hx_T NT (hx_Rc cvU NT))
  unfold f_Mk_finish
  refine hp_b hm (at1 0 rfl) (L' := [(2, (.int (0 : Int32))), (0, (.ref 56)), (1, (.ref x1))]) (st' := []) rfl (by exact trivial) (pc' := 2) rfl ?_
  refine hp_JT 35 (fun (p2 : hH) => [(0, (.ref 56)), (1, (.ref x1))]) (fun (p2 : hH) => []) (fun (p2 : hH) => p2) ?_ (fun p2 => ?_)
  · refine hp_s [1, 2, 0] rfl (L' := [(0, (.ref 56)), (1, (.ref x1)), (2, (.int (0 : Int32)))]) ?_
    refine hp_whT (fun (p1 : (Int32 × hH)) => [(0, (.ref 56)), (1, (.ref x1)), (2, (.int p1.1))]) [] (fun (p1 : (Int32 × hH)) => p1.2) (fun p1 => ?_) ((0 : Int32), h)
    refine hp_ic_ge hm (at1 1 rfl) rfl (by exact hx1) (pc' := 7) rfl 1 rfl (tgt := 35) rfl (fun c5 => ?_) (fun c5 => ?_)
    · exact hp_lf [0, 1] rfl (fun _ e => e)
    · refine hp_GW hm (at1 2 rfl) (L' := [(0, (.ref 56)), (1, (.ref x1)), (2, (.int p1.1))]) rfl (fun hP => (by exact ⟨⟨⟨⟨⟨hx1, hx1⟩, ⟨(rt_9_0 hx1), (vp_cst (rl_9_0 hx1) hP)⟩⟩, hx1⟩, ⟨(rt_9_6 hx1), (vp_cst (rl_9_6 hx1) (show vp_in (0 : Int32) 2 from vp_lit (by decide)))⟩⟩, ⟨(rt_9_0 hx1), (vp_cst (rl_9_0 hx1) hP)⟩⟩)) (pc' := 29) rfl (fun q3 h1 => ?_)
      refine hp_z hm (at1 3 rfl) (fun (v4 : Int32) => [(2, (.int v4)), (0, (.ref 56)), (1, (.ref x1))]) (fun (v4 : Int32) => []) rfl (by exact trivial) (pc' := 32) rfl (fun v4 => ?_)
      refine hp_goto hm 0 rfl (tgt := 2) rfl ?_
      exact hp_lf [1, 2, 0] rfl (fun _ e => e)
  · refine hp_cVP (M2 := M_Ou_isWithin) hm (at1 4 rfl) (as := [(.int (4096 : Int32))]) (rest := [(.ref 56)]) (z := x1) rfl (by exact trivial) (pc' := 40) rfl 2 rfl (lw_g (lw_at lw_m7 79 rfl) rfl) y_Ou_isWithin rfl (d2 := 2) ⟨le_b rfl, pd_Ou_isWithin, le_b rfl⟩ (le_b rfl) hx1 (k_Ou_isWithin x1 (4096 : Int32) p2 hx1) (fun a6 => ?_)
    refine hp_cVT (M2 := M_Mk_want) hm (at1 5 rfl) (as := [(.int a6), (.int (13 : Int32))]) (rest := []) (z := 56) rfl (by exact trivial) (pc' := 45) rfl 3 rfl (lw_g (lw_at lw_m7 57 rfl) rfl) y_Mk_want rfl (d2 := 6) ⟨le_b rfl, pd_Mk_want, le_b rfl⟩ (le_b rfl) og_56 rfl (k_Mk_want a6 (13 : Int32) p2) (fun _ h2 => ?_)
    exact hp_vr hm 4 rfl rfl (fun _ e => e)
/-! HintHouse$Inside.add(II)V -/
def M_In_add : hM := (10, ⟨"HintHouse$Inside", "add", "(II)V"⟩, prog_5_method_5_code, 3, (Option.none : Option Jvm.ClassFile.FieldType), [], [(0, [(.aload_n 0, 1, 0, 0, 0, .null), (.getfield 11, 3, 10, 0, 4, .null), (.aload_n 0, 1, 0, 0, 0, .null), (.getfield 34, 3, 10, 7, 0, .null), (.aload_n 0, 1, 0, 0, 0, .null), (.getfield 63, 3, 10, 8, 0, .null), (.iastore, 1, 0, 0, 0, .null)]), (13, [(.aload_n 0, 1, 0, 0, 0, .null), (.getfield 15, 3, 10, 1, 4, .null), (.aload_n 0, 1, 0, 0, 0, .null), (.getfield 34, 3, 10, 7, 0, .null), (.aload_n 0, 1, 0, 0, 0, .null), (.getfield 66, 3, 10, 9, 0, .null), (.iastore, 1, 0, 0, 0, .null)]), (26, [(.aload_n 0, 1, 0, 0, 0, .null), (.getfield 18, 3, 10, 2, 4, .null), (.aload_n 0, 1, 0, 0, 0, .null), (.getfield 34, 3, 10, 7, 0, .null), (.aload_n 0, 1, 0, 0, 0, .null), (.getfield 69, 3, 10, 10, 1, .null)]), (48, [(.iload_n 1, 1, 0, 0, 0, .null)]), (41, [(.aload_n 0, 1, 0, 0, 0, .null), (.getfield 81, 3, 10, 11, 0, .null)]), (49, [(.iastore, 1, 0, 0, 0, .null)]), (50, [(.aload_n 0, 1, 0, 0, 0, .null), (.getfield 21, 3, 10, 3, 4, .null), (.aload_n 0, 1, 0, 0, 0, .null), (.getfield 34, 3, 10, 7, 0, .null), (.aload_n 0, 1, 0, 0, 0, .null), (.getfield 69, 3, 10, 10, 1, .null)]), (72, [(.iload_n 2, 1, 0, 0, 0, .null)]), (65, [(.aload_n 0, 1, 0, 0, 0, .null), (.getfield 84, 3, 10, 12, 0, .null)]), (73, [(.iastore, 1, 0, 0, 0, .null)]), (74, [(.aload_n 0, 1, 0, 0, 0, .null), (.getfield 24, 3, 10, 4, 4, .null), (.aload_n 0, 1, 0, 0, 0, .null), (.getfield 34, 3, 10, 7, 0, .null), (.iload_n 1, 1, 0, 0, 0, .null), (.iastore, 1, 0, 0, 0, .null)]), (84, [(.aload_n 0, 1, 0, 0, 0, .null), (.getfield 27, 3, 10, 5, 4, .null), (.aload_n 0, 1, 0, 0, 0, .null), (.getfield 34, 3, 10, 7, 0, .null), (.iload_n 2, 1, 0, 0, 0, .null), (.iastore, 1, 0, 0, 0, .null)]), (94, [(.aload_n 0, 1, 0, 0, 0, .null), (.getfield 30, 3, 10, 6, 4, .null), (.aload_n 0, 1, 0, 0, 0, .null), (.getfield 34, 3, 10, 7, 0, .null), (.aload_n 0, 1, 0, 0, 0, .null), (.getfield 69, 3, 10, 10, 1, .null)]), (113, [(.iconst 0, 1, 0, 0, 0, (.int (0 : Int32)))]), (109, [(.iconst 1, 1, 0, 0, 0, (.int (1 : Int32)))]), (114, [(.bastore, 1, 101, 0, 0, .null)]), (115, [(.aload_n 0, 1, 0, 0, 0, .null), (.dup, 1, 0, 0, 0, .null), (.getfield 34, 3, 10, 7, 0, .null), (.iconst 1, 1, 0, 0, 0, (.int (1 : Int32))), (.iadd, 1, 0, 0, 0, .null), (.putfield 34, 3, 10, 7, 0, .null)]), (125, [(.aload_n 0, 1, 0, 0, 0, .null), (.iload_n 1, 1, 0, 0, 0, .null), (.putfield 63, 3, 10, 8, 0, .null)]), (130, [(.aload_n 0, 1, 0, 0, 0, .null), (.iload_n 2, 1, 0, 0, 0, .null), (.putfield 66, 3, 10, 9, 0, .null)]), (135, [(.aload_n 0, 1, 0, 0, 0, .null), (.iconst 0, 1, 0, 0, 0, (.int (0 : Int32))), (.putfield 69, 3, 10, 10, 1, .null)])], [(45, .goto 4, 3), (38, .ifCond .eq 10, 3), (69, .goto 4, 3), (62, .ifCond .eq 10, 3), (110, .goto 4, 3), (106, .ifCond .ne 7, 3), (140, .return_, 1)])
set_option maxRecDepth 100000 in
theorem m_In_add : hx_mok M_In_add = true := by decide +kernel
theorem pd_In_add : (parseMethodDescriptor M_In_add.2.1.desc).map (fun q => q.parameters.length) = some 2 := by decide +kernel
theorem y_In_add : hx_okV M_In_add := ⟨⟨lw_g (lw_at lw_m7 110 rfl) rfl, lw_g (lw_at lw_m7 109 rfl) rfl, qs111, lw_g (lw_at lw_m1 11 rfl) rfl, rfl, by decide, by decide, by decide⟩, rfl, by decide, plainFor_of_name (by decide)⟩
noncomputable def f_In_add (x1 : Int32) (x2 : Int32) (h : hH) : Option (Unit × hH) :=
  gd (vp_in (rdI h 182 7) 220) <|
  lz (wrI h 183 (Int32.toNatClampNeg (rdI h 182 7)) (rdI h 182 8)) fun h1 =>
  gd (vp_in (rdI h1 182 7) 220) <|
  lz (wrI h1 184 (Int32.toNatClampNeg (rdI h1 182 7)) (rdI h1 182 9)) fun h2 =>
  lz (A := Int32) (if (rdI h2 182 10) = 0 then x1 else (rdI h2 182 11)) fun p3 =>
  gd (vp_in (rdI h2 182 7) 220) <|
  lz (wrI h2 185 (Int32.toNatClampNeg (rdI h2 182 7)) p3) fun h3 =>
  lz (A := Int32) (if (rdI h3 182 10) = 0 then x2 else (rdI h3 182 12)) fun p6 =>
  gd (vp_in (rdI h3 182 7) 220) <|
  lz (wrI h3 186 (Int32.toNatClampNeg (rdI h3 182 7)) p6) fun h4 =>
  gd (vp_in (rdI h4 182 7) 220) <|
  lz (wrI h4 187 (Int32.toNatClampNeg (rdI h4 182 7)) x1) fun h5 =>
  gd (vp_in (rdI h5 182 7) 220) <|
  lz (wrI h5 188 (Int32.toNatClampNeg (rdI h5 182 7)) x2) fun h6 =>
  lz (A := Int32) (if (rdI h6 182 10) = 0 then (1 : Int32) else (0 : Int32)) fun p11 =>
  gd (vp_in (rdI h6 182 7) 220) <|
  lz (wrI h6 189 (Int32.toNatClampNeg (rdI h6 182 7)) (p11 &&& 1)) fun h7 =>
  lz (wrI h7 182 7 ((rdI h7 182 7) + (1 : Int32))) fun h8 =>
  lz (wrI h8 182 8 x1) fun h9 =>
  lz (wrI h9 182 9 x2) fun h10 =>
  lz (wrI h10 182 10 (0 : Int32)) fun h11 =>
  some ((), h11)
set_option maxRecDepth 20000 in
theorem k_In_add (x1 : Int32) (x2 : Int32) (h : hH) : hx_kS S0 M_In_add 1 NT [(.ref 182), (.int x1), (.int x2)] h (f_In_add x1 x2 h) cvU := by
  have hm := m_In_add
  show hx_P S0 M_In_add 1 0 [(0, (.ref 182)), (1, (.int x1)), (2, (.int x2))] [] NT h (f_In_add x1 x2 h) (hx_Rc cvU NT)
  unfold f_In_add
  refine hp_GW hm (at1 0 rfl) (L' := [(0, (.ref 182)), (1, (.int x1)), (2, (.int x2))]) rfl (fun hP => (by exact ⟨⟨⟨og_182, og_182⟩, og_182⟩, ⟨og_183, hP⟩⟩)) (pc' := 13) rfl (fun q1 h1 => ?_)
  refine hp_GW hm (at1 1 rfl) (L' := [(0, (.ref 182)), (1, (.int x1)), (2, (.int x2))]) rfl (fun hP => (by exact ⟨⟨⟨og_182, og_182⟩, og_182⟩, ⟨og_184, hP⟩⟩)) (pc' := 26) rfl (fun q2 h2 => ?_)
  refine hp_JZ 49 (fun (p3 : Int32) => [(0, (.ref 182)), (1, (.int x1)), (2, (.int x2))]) (fun (p3 : Int32) => [(.int p3), (.int (rdI h2 182 7)), (.ref 185)]) (fun (p3 : Int32) => h2) ?_ (fun p3 => ?_)
  · refine hp_sv0 ?_
    refine hp_if_eq hm (at1 2 rfl) rfl (by exact ⟨⟨og_182, og_182⟩, og_182⟩) (pc' := 38) rfl 1 rfl (tgt := 48) rfl (fun c4 => ?_) (fun c4 => ?_)
    · refine hp_b hm (at1 3 rfl) (L' := [(0, (.ref 182)), (1, (.int x1)), (2, (.int x2))]) (st' := [(.int x1), (.int (rdI h2 182 7)), (.ref 185)]) rfl (by exact trivial) (pc' := 49) rfl ?_
      exact hp_lf [0, 1, 2] rfl (fun _ e => e)
    · refine hp_b hm (at1 4 rfl) (L' := [(0, (.ref 182)), (1, (.int x1)), (2, (.int x2))]) (st' := [(.int (rdI h2 182 11)), (.int (rdI h2 182 7)), (.ref 185)]) rfl (by exact og_182) (pc' := 45) rfl ?_
      refine hp_goto hm 0 rfl (tgt := 49) rfl ?_
      exact hp_lf [0, 1, 2] rfl (fun _ e => e)
  · refine hp_GW hm (at1 5 rfl) (L' := [(0, (.ref 182)), (1, (.int x1)), (2, (.int x2))]) rfl (fun hP => (by exact ⟨og_185, hP⟩)) (pc' := 50) rfl (fun q5 h3 => ?_)
    refine hp_JZ 73 (fun (p6 : Int32) => [(0, (.ref 182)), (1, (.int x1)), (2, (.int x2))]) (fun (p6 : Int32) => [(.int p6), (.int (rdI h3 182 7)), (.ref 186)]) (fun (p6 : Int32) => h3) ?_ (fun p6 => ?_)
    · refine hp_sv0 ?_
      refine hp_if_eq hm (at1 6 rfl) rfl (by exact ⟨⟨og_182, og_182⟩, og_182⟩) (pc' := 62) rfl 3 rfl (tgt := 72) rfl (fun c7 => ?_) (fun c7 => ?_)
      · refine hp_b hm (at1 7 rfl) (L' := [(0, (.ref 182)), (1, (.int x1)), (2, (.int x2))]) (st' := [(.int x2), (.int (rdI h3 182 7)), (.ref 186)]) rfl (by exact trivial) (pc' := 73) rfl ?_
        exact hp_lf [0, 1, 2] rfl (fun _ e => e)
      · refine hp_b hm (at1 8 rfl) (L' := [(0, (.ref 182)), (1, (.int x1)), (2, (.int x2))]) (st' := [(.int (rdI h3 182 12)), (.int (rdI h3 182 7)), (.ref 186)]) rfl (by exact og_182) (pc' := 69) rfl ?_
        refine hp_goto hm 2 rfl (tgt := 73) rfl ?_
        exact hp_lf [0, 1, 2] rfl (fun _ e => e)
    · refine hp_GW hm (at1 9 rfl) (L' := [(0, (.ref 182)), (1, (.int x1)), (2, (.int x2))]) rfl (fun hP => (by exact ⟨og_186, hP⟩)) (pc' := 74) rfl (fun q8 h4 => ?_)
      refine hp_GW hm (at1 10 rfl) (L' := [(0, (.ref 182)), (1, (.int x1)), (2, (.int x2))]) rfl (fun hP => (by exact ⟨⟨og_182, og_182⟩, ⟨og_187, hP⟩⟩)) (pc' := 84) rfl (fun q9 h5 => ?_)
      refine hp_GW hm (at1 11 rfl) (L' := [(0, (.ref 182)), (1, (.int x1)), (2, (.int x2))]) rfl (fun hP => (by exact ⟨⟨og_182, og_182⟩, ⟨og_188, hP⟩⟩)) (pc' := 94) rfl (fun q10 h6 => ?_)
      refine hp_JZ 114 (fun (p11 : Int32) => [(0, (.ref 182)), (1, (.int x1)), (2, (.int x2))]) (fun (p11 : Int32) => [(.int p11), (.int (rdI h6 182 7)), (.ref 189)]) (fun (p11 : Int32) => h6) ?_ (fun p11 => ?_)
      · refine hp_sv0 ?_
        refine hp_if_ne hm (at1 12 rfl) rfl (by exact ⟨⟨og_182, og_182⟩, og_182⟩) (pc' := 106) rfl 5 rfl (tgt := 113) rfl (fun c12 => ?_) (fun c12 => ?_)
        · refine hp_b hm (at1 13 rfl) (L' := [(0, (.ref 182)), (1, (.int x1)), (2, (.int x2))]) (st' := [(.int (0 : Int32)), (.int (rdI h6 182 7)), (.ref 189)]) rfl (by exact trivial) (pc' := 114) rfl ?_
          exact hp_lf [0, 1, 2] rfl (fun _ e => e)
        · refine hp_b hm (at1 14 rfl) (L' := [(0, (.ref 182)), (1, (.int x1)), (2, (.int x2))]) (st' := [(.int (1 : Int32)), (.int (rdI h6 182 7)), (.ref 189)]) rfl (by exact trivial) (pc' := 110) rfl ?_
          refine hp_goto hm 4 rfl (tgt := 114) rfl ?_
          exact hp_lf [0, 1, 2] rfl (fun _ e => e)
      · refine hp_GW hm (at1 15 rfl) (L' := [(0, (.ref 182)), (1, (.int x1)), (2, (.int x2))]) rfl (fun hP => (by exact ⟨og_189, hP⟩)) (pc' := 115) rfl (fun q13 h7 => ?_)
        refine hp_w hm (at1 16 rfl) (L' := [(0, (.ref 182)), (1, (.int x1)), (2, (.int x2))]) rfl (by exact ⟨og_182, og_182⟩) (pc' := 125) rfl (fun h8 => ?_)
        refine hp_w hm (at1 17 rfl) (L' := [(0, (.ref 182)), (1, (.int x1)), (2, (.int x2))]) rfl (by exact og_182) (pc' := 130) rfl (fun h9 => ?_)
        refine hp_w hm (at1 18 rfl) (L' := [(0, (.ref 182)), (1, (.int x1)), (2, (.int x2))]) rfl (by exact og_182) (pc' := 135) rfl (fun h10 => ?_)
        refine hp_w hm (at1 19 rfl) (L' := [(0, (.ref 182)), (1, (.int x1)), (2, (.int x2))]) rfl (by exact ⟨og_182, (Or.inl rfl)⟩) (pc' := 140) rfl (fun h11 => ?_)
        exact hp_vr hm 6 rfl rfl (fun _ e => e)
/-! HintHouse$Inside.go(IIZ)V -/
def M_In_go : hM := (10, ⟨"HintHouse$Inside", "go", "(IIZ)V"⟩, prog_5_method_4_code, 4, (Option.none : Option Jvm.ClassFile.FieldType), [], [(0, [(.iload_n 3, 1, 0, 0, 0, .null)]), (13, [(.aload_n 0, 1, 0, 0, 0, .null), (.getfield 69, 3, 10, 10, 1, .null)]), (20, [(.aload_n 0, 1, 0, 0, 0, .null), (.aload_n 0, 1, 0, 0, 0, .null), (.getfield 81, 3, 10, 11, 0, .null), (.iload_n 1, 1, 0, 0, 0, .null), (.iadd, 1, 0, 0, 0, .null), (.iconst 2, 1, 0, 0, 0, (.int (2 : Int32))), (.idiv, 1, 0, 0, 0, .null), (.aload_n 0, 1, 0, 0, 0, .null), (.getfield 84, 3, 10, 12, 0, .null), (.iload_n 2, 1, 0, 0, 0, .null), (.iadd, 1, 0, 0, 0, .null), (.iconst 2, 1, 0, 0, 0, (.int (2 : Int32))), (.idiv, 1, 0, 0, 0, .null)]), (40, [(.aload_n 0, 1, 0, 0, 0, .null), (.iconst 1, 1, 0, 0, 0, (.int (1 : Int32))), (.putfield 69, 3, 10, 10, 1, .null)]), (45, [(.aload_n 0, 1, 0, 0, 0, .null), (.iload_n 1, 1, 0, 0, 0, .null), (.putfield 81, 3, 10, 11, 0, .null)]), (50, [(.aload_n 0, 1, 0, 0, 0, .null), (.iload_n 2, 1, 0, 0, 0, .null), (.putfield 84, 3, 10, 12, 0, .null)]), (4, [(.aload_n 0, 1, 0, 0, 0, .null), (.iload_n 1, 1, 0, 0, 0, .null), (.iload_n 2, 1, 0, 0, 0, .null)])], [(37, .invokevirtual 77, 3), (17, .ifCond .eq 23, 3), (55, .return_, 1), (7, .invokevirtual 77, 3), (10, .goto 45, 3), (1, .ifCond .eq 12, 3)])
set_option maxRecDepth 100000 in
theorem m_In_go : hx_mok M_In_go = true := by decide +kernel
theorem pd_In_go : (parseMethodDescriptor M_In_go.2.1.desc).map (fun q => q.parameters.length) = some 3 := by decide +kernel
theorem y_In_go : hx_okV M_In_go := ⟨⟨lw_g (lw_at lw_m7 106 rfl) rfl, lw_g (lw_at lw_m7 105 rfl) rfl, qs110, lw_g (lw_at lw_m1 11 rfl) rfl, rfl, by decide, by decide, by decide⟩, rfl, by decide, plainFor_of_name (by decide)⟩
noncomputable def f_In_go (x1 : Int32) (x2 : Int32) (x3 : Int32) (h : hH) : Option (Unit × hH) :=
  if x3 = 0 then (
    bP (A := hH) (
      if (rdI h 182 10) = 0 then (
        some h
      ) else (
        bS (f_In_add (((rdI h 182 11) + x1) / (2 : Int32)) (((rdI h 182 12) + x2) / (2 : Int32)) h) fun _ h1 =>
        some h1
      )
    ) fun p1 =>
    lz (wrI p1 182 10 (1 : Int32)) fun h2 =>
    lz (wrI h2 182 11 x1) fun h3 =>
    lz (wrI h3 182 12 x2) fun h4 =>
    some ((), h4)
  ) else (
    bS (f_In_add x1 x2 h) fun _ h5 =>
    some ((), h5)
  )
set_option maxRecDepth 20000 in
theorem k_In_go (x1 : Int32) (x2 : Int32) (x3 : Int32) (h : hH) : hx_kS S0 M_In_go 2 NT [(.ref 182), (.int x1), (.int x2), (.int x3)] h (f_In_go x1 x2 x3 h) cvU := by
  have hm := m_In_go
  show hx_P S0 M_In_go 2 0 [(0, (.ref 182)), (1, (.int x1)), (2, (.int x2)), (3, (.int x3))] [] NT h (f_In_go x1 x2 x3 h) (hx_Rc cvU NT)
  unfold f_In_go
  refine hp_if_eq hm (at1 0 rfl) rfl (by exact trivial) (pc' := 1) rfl 5 rfl (tgt := 13) rfl (fun c3 => ?_) (fun c3 => ?_)
  · refine hp_J 40 (fun (p1 : hH) => [(0, (.ref 182)), (1, (.int x1)), (2, (.int x2))]) (fun (p1 : hH) => []) (fun (p1 : hH) => p1) ?_ (fun p1 => ?_)
    · refine hp_if_eq hm (at1 1 rfl) rfl (by exact og_182) (pc' := 17) rfl 1 rfl (tgt := 40) rfl (fun c2 => ?_) (fun c2 => ?_)
      · exact hp_lf [0, 1, 2] rfl (fun _ e => e)
      · refine hp_cVS (M2 := M_In_add) hm (at1 2 rfl) (as := [(.int (((rdI h 182 11) + x1) / (2 : Int32))), (.int (((rdI h 182 12) + x2) / (2 : Int32)))]) (rest := []) (z := 182) rfl (by exact ⟨⟨⟨og_182, (show ¬ (2 : Int32) = 0 by decide)⟩, og_182⟩, (show ¬ (2 : Int32) = 0 by decide)⟩) (pc' := 37) rfl 0 rfl (lw_g (lw_at lw_m7 107 rfl) rfl) y_In_add rfl (d2 := 1) ⟨le_b rfl, pd_In_add, le_b rfl⟩ (le_b rfl) og_182 (k_In_add (((rdI h 182 11) + x1) / (2 : Int32)) (((rdI h 182 12) + x2) / (2 : Int32)) h) (fun _ h1 => ?_)
        exact hp_lf [0, 1, 2] rfl (fun _ e => e)
    · refine hp_w hm (at1 3 rfl) (L' := [(0, (.ref 182)), (1, (.int x1)), (2, (.int x2))]) rfl (by exact ⟨og_182, (Or.inr rfl)⟩) (pc' := 45) rfl (fun h2 => ?_)
      refine hp_w hm (at1 4 rfl) (L' := [(0, (.ref 182)), (1, (.int x1)), (2, (.int x2))]) rfl (by exact og_182) (pc' := 50) rfl (fun h3 => ?_)
      refine hp_w hm (at1 5 rfl) (L' := [(0, (.ref 182)), (1, (.int x1)), (2, (.int x2))]) rfl (by exact og_182) (pc' := 55) rfl (fun h4 => ?_)
      exact hp_vr hm 2 rfl rfl (fun _ e => e)
  · refine hp_cVS (M2 := M_In_add) hm (at1 6 rfl) (as := [(.int x1), (.int x2)]) (rest := []) (z := 182) rfl (by exact trivial) (pc' := 7) rfl 3 rfl (lw_g (lw_at lw_m7 107 rfl) rfl) y_In_add rfl (d2 := 1) ⟨le_b rfl, pd_In_add, le_b rfl⟩ (le_b rfl) og_182 (k_In_add x1 x2 h) (fun _ h5 => ?_)
    refine hp_goto hm 4 rfl (tgt := 55) rfl ?_
    exact hp_vr hm 2 rfl rfl (fun _ e => e)
/-! HintHouse$Inside.layContour(LHintHouse$Outline;II)V -/
def M_In_layContour : hM := (10, ⟨"HintHouse$Inside", "layContour", "(LHintHouse$Outline;II)V"⟩, prog_5_method_3_code, 11, (Option.none : Option Jvm.ClassFile.FieldType), [], [(0, [(.iload_n 2, 1, 0, 0, 0, .null), (.istore 4, 2, 0, 0, 0, .null)]), (3, [(.iload 4, 2, 0, 0, 0, .null), (.iload_n 3, 1, 0, 0, 0, .null)]), (9, [(.aload_n 1, 1, 0, 0, 0, .null), (.getfield 54, 3, 9, 2, 4, .null), (.iload 4, 2, 0, 0, 0, .null), (.baload, 1, 101, 0, 0, .null)]), (19, [(.iinc 4 1, 3, 0, 0, 0, (.int (1 : Int32)))]), (25, [(.iload 4, 2, 0, 0, 0, .null), (.iload_n 3, 1, 0, 0, 0, .null)]), (35, [(.iconst 0, 1, 0, 0, 0, (.int (0 : Int32)))]), (31, [(.iconst 1, 1, 0, 0, 0, (.int (1 : Int32)))]), (36, [(.istore 5, 2, 0, 0, 0, .null), (.iload 5, 2, 0, 0, 0, .null)]), (59, [(.iconst 2, 1, 0, 0, 0, (.int (2 : Int32))), (.aload_n 1, 1, 0, 0, 0, .null), (.getfield 57, 3, 9, 0, 4, .null), (.iload 4, 2, 0, 0, 0, .null), (.iaload, 1, 0, 0, 0, .null), (.imul, 1, 0, 0, 0, .null)]), (43, [(.aload_n 1, 1, 0, 0, 0, .null), (.getfield 57, 3, 9, 0, 4, .null), (.iload_n 2, 1, 0, 0, 0, .null), (.iaload, 1, 0, 0, 0, .null), (.aload_n 1, 1, 0, 0, 0, .null), (.getfield 57, 3, 9, 0, 4, .null), (.iload_n 3, 1, 0, 0, 0, .null), (.iaload, 1, 0, 0, 0, .null), (.iadd, 1, 0, 0, 0, .null)]), (68, [(.istore 6, 2, 0, 0, 0, .null), (.iload 5, 2, 0, 0, 0, .null)]), (91, [(.iconst 2, 1, 0, 0, 0, (.int (2 : Int32))), (.aload_n 1, 1, 0, 0, 0, .null), (.getfield 60, 3, 9, 1, 4, .null), (.iload 4, 2, 0, 0, 0, .null), (.iaload, 1, 0, 0, 0, .null), (.imul, 1, 0, 0, 0, .null)]), (75, [(.aload_n 1, 1, 0, 0, 0, .null), (.getfield 60, 3, 9, 1, 4, .null), (.iload_n 2, 1, 0, 0, 0, .null), (.iaload, 1, 0, 0, 0, .null), (.aload_n 1, 1, 0, 0, 0, .null), (.getfield 60, 3, 9, 1, 4, .null), (.iload_n 3, 1, 0, 0, 0, .null), (.iaload, 1, 0, 0, 0, .null), (.iadd, 1, 0, 0, 0, .null)]), (100, [(.istore 7, 2, 0, 0, 0, .null), (.aload_n 0, 1, 0, 0, 0, .null), (.iload 6, 2, 0, 0, 0, .null), (.putfield 63, 3, 10, 8, 0, .null)]), (108, [(.aload_n 0, 1, 0, 0, 0, .null), (.iload 7, 2, 0, 0, 0, .null), (.putfield 66, 3, 10, 9, 0, .null)]), (114, [(.aload_n 0, 1, 0, 0, 0, .null), (.iconst 0, 1, 0, 0, 0, (.int (0 : Int32))), (.putfield 69, 3, 10, 10, 1, .null)]), (119, [(.iload_n 3, 1, 0, 0, 0, .null), (.iload_n 2, 1, 0, 0, 0, .null), (.isub, 1, 0, 0, 0, .null), (.iconst 1, 1, 0, 0, 0, (.int (1 : Int32))), (.iadd, 1, 0, 0, 0, .null), (.istore 8, 2, 0, 0, 0, .null)]), (126, [(.iload 5, 2, 0, 0, 0, .null)]), (135, [(.iconst 1, 1, 0, 0, 0, (.int (1 : Int32)))]), (131, [(.iconst 0, 1, 0, 0, 0, (.int (0 : Int32)))]), (136, [(.istore 9, 2, 0, 0, 0, .null)]), (138, [(.iload 9, 2, 0, 0, 0, .null), (.iload 8, 2, 0, 0, 0, .null)]), (145, [(.iload 5, 2, 0, 0, 0, .null)]), (157, [(.iload_n 2, 1, 0, 0, 0, .null), (.iload 4, 2, 0, 0, 0, .null), (.iload_n 2, 1, 0, 0, 0, .null), (.isub, 1, 0, 0, 0, .null), (.iload 9, 2, 0, 0, 0, .null), (.iadd, 1, 0, 0, 0, .null), (.iload 8, 2, 0, 0, 0, .null), (.irem, 1, 0, 0, 0, .null), (.iadd, 1, 0, 0, 0, .null)]), (150, [(.iload_n 2, 1, 0, 0, 0, .null), (.iload 9, 2, 0, 0, 0, .null), (.iadd, 1, 0, 0, 0, .null)]), (169, [(.istore 10, 2, 0, 0, 0, .null), (.aload_n 0, 1, 0, 0, 0, .null), (.iconst 2, 1, 0, 0, 0, (.int (2 : Int32))), (.aload_n 1, 1, 0, 0, 0, .null), (.getfield 57, 3, 9, 0, 4, .null), (.iload 10, 2, 0, 0, 0, .null), (.iaload, 1, 0, 0, 0, .null), (.imul, 1, 0, 0, 0, .null), (.iconst 2, 1, 0, 0, 0, (.int (2 : Int32))), (.aload_n 1, 1, 0, 0, 0, .null), (.getfield 60, 3, 9, 1, 4, .null), (.iload 10, 2, 0, 0, 0, .null), (.iaload, 1, 0, 0, 0, .null), (.imul, 1, 0, 0, 0, .null), (.aload_n 1, 1, 0, 0, 0, .null), (.getfield 54, 3, 9, 2, 4, .null), (.iload 10, 2, 0, 0, 0, .null), (.baload, 1, 101, 0, 0, .null)]), (200, [(.iinc 9 1, 3, 0, 0, 0, (.int (1 : Int32)))]), (206, [(.aload_n 0, 1, 0, 0, 0, .null), (.iload 6, 2, 0, 0, 0, .null), (.iload 7, 2, 0, 0, 0, .null), (.iconst 1, 1, 0, 0, 0, (.int (1 : Int32)))])], [(16, .ifCond .ne 9, 3), (6, .if_icmp .gt 19, 3), (22, .goto (-19), 3), (32, .goto 4, 3), (28, .if_icmp .le 7, 3), (56, .goto 12, 3), (40, .ifCond .eq 19, 3), (88, .goto 12, 3), (72, .ifCond .eq 19, 3), (132, .goto 4, 3), (128, .ifCond .eq 7, 3), (154, .goto 15, 3), (147, .ifCond .eq 10, 3), (197, .invokevirtual 73, 3), (203, .goto (-65), 3), (142, .if_icmp .ge 64, 3), (212, .invokevirtual 73, 3), (215, .return_, 1)])
set_option maxRecDepth 100000 in
theorem m_In_layContour : hx_mok M_In_layContour = true := by decide +kernel
theorem pd_In_layContour : (parseMethodDescriptor M_In_layContour.2.1.desc).map (fun q => q.parameters.length) = some 3 := by decide +kernel
theorem y_In_layContour : hx_okV M_In_layContour := ⟨⟨lw_g (lw_at lw_m7 102 rfl) rfl, lw_g (lw_at lw_m7 101 rfl) rfl, qs109, lw_g (lw_at lw_m1 11 rfl) rfl, rfl, by decide, by decide, by decide⟩, rfl, by decide, plainFor_of_name (by decide)⟩
noncomputable def f_In_layContour (x1 : Nat) (x2 : Int32) (x3 : Int32) (h : hH) : Option (Unit × hH) :=
  bP (A := Int32) (
    wh (A := Int32) (B := Int32) (fun p1 =>
        cO (
          if x3 < p1 then (
            some false
          ) else (
            gd (vp_in p1 100) <|
            if (rdI h (rf x1 2) (Int32.toNatClampNeg p1)) = 0 then (
              some true
            ) else (
              some false
            )
          )
        ) (
          lz (A := Int32) (p1 + (1 : Int32)) fun v9 =>
          some (.inl v9)
        ) (
          some (.inr p1)
        )
    ) x2
  ) fun p2 =>
  lz (A := Int32) (if p2 ≤ x3 then (0 : Int32) else (1 : Int32)) fun p10 =>
  bP (A := Int32) (
    if p10 = 0 then (
      gd (vp_in p2 100) <|
      some ((2 : Int32) * (rdI h (rf x1 0) (Int32.toNatClampNeg p2)))
    ) else (
      gd (vp_in x2 100 ∧ vp_in x3 100) <|
      some ((rdI h (rf x1 0) (Int32.toNatClampNeg x2)) + (rdI h (rf x1 0) (Int32.toNatClampNeg x3)))
    )
  ) fun p12 =>
  bP (A := Int32) (
    if p10 = 0 then (
      gd (vp_in p2 100) <|
      some ((2 : Int32) * (rdI h (rf x1 1) (Int32.toNatClampNeg p2)))
    ) else (
      gd (vp_in x2 100 ∧ vp_in x3 100) <|
      some ((rdI h (rf x1 1) (Int32.toNatClampNeg x2)) + (rdI h (rf x1 1) (Int32.toNatClampNeg x3)))
    )
  ) fun p16 =>
  lz (wrI h 182 8 p12) fun h1 =>
  lz (wrI h1 182 9 p16) fun h2 =>
  lz (wrI h2 182 10 (0 : Int32)) fun h3 =>
  lz (A := Int32) ((x3 - x2) + (1 : Int32)) fun v20 =>
  lz (A := Int32) (if p10 = 0 then (1 : Int32) else (0 : Int32)) fun p21 =>
  bP (A := hH) (
    wh (A := (Int32 × hH)) (B := hH) (fun p23 =>
        if v20 ≤ p23.1 then (
          some (.inr p23.2)
        ) else (
          bP (A := Int32) (
            if p10 = 0 then (
              gd (¬ v20 = 0) <|
              some (x2 + (hx_rm ((p2 - x2) + p23.1) v20))
            ) else (
              some (x2 + p23.1)
            )
          ) fun p25 =>
          gd (vp_in p25 100) <|
          bS (f_In_go ((2 : Int32) * (rdI p23.2 (rf x1 0) (Int32.toNatClampNeg p25))) ((2 : Int32) * (rdI p23.2 (rf x1 1) (Int32.toNatClampNeg p25))) (rdI p23.2 (rf x1 2) (Int32.toNatClampNeg p25)) p23.2) fun _ h4 =>
          lz (A := Int32) (p23.1 + (1 : Int32)) fun v29 =>
          some (.inl (v29, h4))
        )
    ) (p21, h3)
  ) fun p24 =>
  bS (f_In_go p12 p16 (1 : Int32) p24) fun _ h5 =>
  some ((), h5)
set_option maxRecDepth 20000 in
theorem k_In_layContour (x1 : Nat) (x2 : Int32) (x3 : Int32) (h : hH) (hx1 : isA 9 x1) : hx_kS S0 M_In_layContour 3 NT [(.ref 182), (.ref x1), (.int x2), (.int x3)] h (f_In_layContour x1 x2 x3 h) cvU := by
  have hm := m_In_layContour
  show hx_P S0 M_In_layContour 3 0 [(0, (.ref 182)), (1, (.ref x1)), (2, (.int x2)), (3, (.int x3))] [] NT h (f_In_layContour x1 x2 x3 h) (hx_Rc cvU NT)
  unfold f_In_layContour
  refine hp_b hm (at1 0 rfl) (L' := [(4, (.int x2)), (0, (.ref 182)), (1, (.ref x1)), (2, (.int x2)), (3, (.int x3))]) (st' := []) rfl (by exact trivial) (pc' := 3) rfl ?_
  refine hp_J 25 (fun (p2 : Int32) => [(0, (.ref 182)), (1, (.ref x1)), (2, (.int x2)), (3, (.int x3)), (4, (.int p2))]) (fun (p2 : Int32) => []) (fun (p2 : Int32) => h) ?_ (fun p2 => ?_)
  · refine hp_s [1, 2, 3, 4, 0] rfl (L' := [(0, (.ref 182)), (1, (.ref x1)), (2, (.int x2)), (3, (.int x3)), (4, (.int x2))]) ?_
    refine hp_wh (fun (p1 : Int32) => [(0, (.ref 182)), (1, (.ref x1)), (2, (.int x2)), (3, (.int x3)), (4, (.int p1))]) [] (fun (p1 : Int32) => h) (fun p1 => ?_) x2
    refine hp_cO (L0 := [(0, (.ref 182)), (1, (.ref x1)), (2, (.int x2)), (3, (.int x3)), (4, (.int p1))]) (s0 := []) 19 25 ?_ ?_ ?_
    · refine hp_ic_gt hm (at1 1 rfl) rfl (by exact trivial) (pc' := 6) rfl 1 rfl (tgt := 25) rfl (fun c5 => ?_) (fun c5 => ?_)
      · exact hp_l0 (fun _ e => e)
      · refine hp_G hm (at1 2 rfl) (L' := [(0, (.ref 182)), (1, (.ref x1)), (2, (.int x2)), (3, (.int x3)), (4, (.int p1))]) (st' := [(.int (rdI h (rf x1 2) (Int32.toNatClampNeg p1)))]) rfl (fun hP => (by exact ⟨hx1, ⟨(rt_9_2 hx1), (vp_cst (rl_9_2 hx1) hP)⟩⟩)) (pc' := 16) rfl (fun q3 => ?_)
        refine hp_if_ne hm at0 rfl (by exact trivial) (pc' := 16) rfl 0 rfl (tgt := 25) rfl (fun c4 => ?_) (fun c4 => ?_)
        · exact hp_l0 (fun _ e => e)
        · exact hp_l0 (fun _ e => e)
    · refine hp_z hm (at1 3 rfl) (fun (v9 : Int32) => [(4, (.int v9)), (0, (.ref 182)), (1, (.ref x1)), (2, (.int x2)), (3, (.int x3))]) (fun (v9 : Int32) => []) rfl (by exact trivial) (pc' := 22) rfl (fun v9 => ?_)
      refine hp_goto hm 2 rfl (tgt := 3) rfl ?_
      exact hp_lf [1, 2, 3, 4, 0] rfl (fun _ e => e)
    · exact hp_lf [0, 1, 2, 3, 4] rfl (fun _ e => e)
  · refine hp_JZ 36 (fun (p10 : Int32) => [(0, (.ref 182)), (1, (.ref x1)), (2, (.int x2)), (3, (.int x3)), (4, (.int p2))]) (fun (p10 : Int32) => [(.int p10)]) (fun (p10 : Int32) => h) ?_ (fun p10 => ?_)
    · refine hp_sv0 ?_
      refine hp_ic_le hm (at1 4 rfl) rfl (by exact trivial) (pc' := 28) rfl 4 rfl (tgt := 35) rfl (fun c11 => ?_) (fun c11 => ?_)
      · refine hp_b hm (at1 5 rfl) (L' := [(0, (.ref 182)), (1, (.ref x1)), (2, (.int x2)), (3, (.int x3)), (4, (.int p2))]) (st' := [(.int (0 : Int32))]) rfl (by exact trivial) (pc' := 36) rfl ?_
        exact hp_lf [0, 1, 2, 3, 4] rfl (fun _ e => e)
      · refine hp_b hm (at1 6 rfl) (L' := [(0, (.ref 182)), (1, (.ref x1)), (2, (.int x2)), (3, (.int x3)), (4, (.int p2))]) (st' := [(.int (1 : Int32))]) rfl (by exact trivial) (pc' := 32) rfl ?_
        refine hp_goto hm 3 rfl (tgt := 36) rfl ?_
        exact hp_lf [0, 1, 2, 3, 4] rfl (fun _ e => e)
    · refine hp_b hm (at1 7 rfl) (L' := [(5, (.int p10)), (0, (.ref 182)), (1, (.ref x1)), (2, (.int x2)), (3, (.int x3)), (4, (.int p2))]) (st' := [(.int p10)]) rfl (by exact trivial) (pc' := 40) rfl ?_
      refine hp_J 68 (fun (p12 : Int32) => [(0, (.ref 182)), (1, (.ref x1)), (2, (.int x2)), (3, (.int x3)), (4, (.int p2)), (5, (.int p10))]) (fun (p12 : Int32) => [(.int p12)]) (fun (p12 : Int32) => h) ?_ (fun p12 => ?_)
      · refine hp_if_eq hm at0 rfl (by exact trivial) (pc' := 40) rfl 6 rfl (tgt := 59) rfl (fun c15 => ?_) (fun c15 => ?_)
        · refine hp_G hm (at1 8 rfl) (L' := [(5, (.int p10)), (0, (.ref 182)), (1, (.ref x1)), (2, (.int x2)), (3, (.int x3)), (4, (.int p2))]) (st' := [(.int ((2 : Int32) * (rdI h (rf x1 0) (Int32.toNatClampNeg p2))))]) rfl (fun hP => (by exact ⟨hx1, ⟨(rt_9_0 hx1), (vp_cst (rl_9_0 hx1) hP)⟩⟩)) (pc' := 68) rfl (fun q13 => ?_)
          exact hp_lf [1, 2, 3, 4, 5, 0] rfl (fun _ e => e)
        · refine hp_G hm (at1 9 rfl) (L' := [(5, (.int p10)), (0, (.ref 182)), (1, (.ref x1)), (2, (.int x2)), (3, (.int x3)), (4, (.int p2))]) (st' := [(.int ((rdI h (rf x1 0) (Int32.toNatClampNeg x2)) + (rdI h (rf x1 0) (Int32.toNatClampNeg x3))))]) rfl (fun hP => (by exact ⟨⟨⟨hx1, ⟨(rt_9_0 hx1), (vp_cst (rl_9_0 hx1) hP.1)⟩⟩, hx1⟩, ⟨(rt_9_0 hx1), (vp_cst (rl_9_0 hx1) hP.2)⟩⟩)) (pc' := 56) rfl (fun q14 => ?_)
          refine hp_goto hm 5 rfl (tgt := 68) rfl ?_
          exact hp_lf [1, 2, 3, 4, 5, 0] rfl (fun _ e => e)
      · refine hp_b hm (at1 10 rfl) (L' := [(6, (.int p12)), (0, (.ref 182)), (1, (.ref x1)), (2, (.int x2)), (3, (.int x3)), (4, (.int p2)), (5, (.int p10))]) (st' := [(.int p10)]) rfl (by exact trivial) (pc' := 72) rfl ?_
        refine hp_J 100 (fun (p16 : Int32) => [(0, (.ref 182)), (1, (.ref x1)), (2, (.int x2)), (3, (.int x3)), (4, (.int p2)), (5, (.int p10)), (6, (.int p12))]) (fun (p16 : Int32) => [(.int p16)]) (fun (p16 : Int32) => h) ?_ (fun p16 => ?_)
        · refine hp_if_eq hm at0 rfl (by exact trivial) (pc' := 72) rfl 8 rfl (tgt := 91) rfl (fun c19 => ?_) (fun c19 => ?_)
          · refine hp_G hm (at1 11 rfl) (L' := [(6, (.int p12)), (0, (.ref 182)), (1, (.ref x1)), (2, (.int x2)), (3, (.int x3)), (4, (.int p2)), (5, (.int p10))]) (st' := [(.int ((2 : Int32) * (rdI h (rf x1 1) (Int32.toNatClampNeg p2))))]) rfl (fun hP => (by exact ⟨hx1, ⟨(rt_9_1 hx1), (vp_cst (rl_9_1 hx1) hP)⟩⟩)) (pc' := 100) rfl (fun q17 => ?_)
            exact hp_lf [1, 2, 3, 4, 5, 6, 0] rfl (fun _ e => e)
          · refine hp_G hm (at1 12 rfl) (L' := [(6, (.int p12)), (0, (.ref 182)), (1, (.ref x1)), (2, (.int x2)), (3, (.int x3)), (4, (.int p2)), (5, (.int p10))]) (st' := [(.int ((rdI h (rf x1 1) (Int32.toNatClampNeg x2)) + (rdI h (rf x1 1) (Int32.toNatClampNeg x3))))]) rfl (fun hP => (by exact ⟨⟨⟨hx1, ⟨(rt_9_1 hx1), (vp_cst (rl_9_1 hx1) hP.1)⟩⟩, hx1⟩, ⟨(rt_9_1 hx1), (vp_cst (rl_9_1 hx1) hP.2)⟩⟩)) (pc' := 88) rfl (fun q18 => ?_)
            refine hp_goto hm 7 rfl (tgt := 100) rfl ?_
            exact hp_lf [1, 2, 3, 4, 5, 6, 0] rfl (fun _ e => e)
        · refine hp_w hm (at1 13 rfl) (L' := [(7, (.int p16)), (0, (.ref 182)), (1, (.ref x1)), (2, (.int x2)), (3, (.int x3)), (4, (.int p2)), (5, (.int p10)), (6, (.int p12))]) rfl (by exact og_182) (pc' := 108) rfl (fun h1 => ?_)
          refine hp_w hm (at1 14 rfl) (L' := [(7, (.int p16)), (0, (.ref 182)), (1, (.ref x1)), (2, (.int x2)), (3, (.int x3)), (4, (.int p2)), (5, (.int p10)), (6, (.int p12))]) rfl (by exact og_182) (pc' := 114) rfl (fun h2 => ?_)
          refine hp_w hm (at1 15 rfl) (L' := [(7, (.int p16)), (0, (.ref 182)), (1, (.ref x1)), (2, (.int x2)), (3, (.int x3)), (4, (.int p2)), (5, (.int p10)), (6, (.int p12))]) rfl (by exact ⟨og_182, (Or.inl rfl)⟩) (pc' := 119) rfl (fun h3 => ?_)
          refine hp_z hm (at1 16 rfl) (fun (v20 : Int32) => [(8, (.int v20)), (7, (.int p16)), (0, (.ref 182)), (1, (.ref x1)), (2, (.int x2)), (3, (.int x3)), (4, (.int p2)), (5, (.int p10)), (6, (.int p12))]) (fun (v20 : Int32) => []) rfl (by exact trivial) (pc' := 126) rfl (fun v20 => ?_)
          refine hp_JZ 136 (fun (p21 : Int32) => [(0, (.ref 182)), (1, (.ref x1)), (2, (.int x2)), (4, (.int p2)), (5, (.int p10)), (6, (.int p12)), (7, (.int p16)), (8, (.int v20))]) (fun (p21 : Int32) => [(.int p21)]) (fun (p21 : Int32) => h3) ?_ (fun p21 => ?_)
          · refine hp_sv0 ?_
            refine hp_if_eq hm (at1 17 rfl) rfl (by exact trivial) (pc' := 128) rfl 10 rfl (tgt := 135) rfl (fun c22 => ?_) (fun c22 => ?_)
            · refine hp_b hm (at1 18 rfl) (L' := [(8, (.int v20)), (7, (.int p16)), (0, (.ref 182)), (1, (.ref x1)), (2, (.int x2)), (3, (.int x3)), (4, (.int p2)), (5, (.int p10)), (6, (.int p12))]) (st' := [(.int (1 : Int32))]) rfl (by exact trivial) (pc' := 136) rfl ?_
              exact hp_lf [2, 3, 4, 6, 7, 8, 1, 0] rfl (fun _ e => e)
            · refine hp_b hm (at1 19 rfl) (L' := [(8, (.int v20)), (7, (.int p16)), (0, (.ref 182)), (1, (.ref x1)), (2, (.int x2)), (3, (.int x3)), (4, (.int p2)), (5, (.int p10)), (6, (.int p12))]) (st' := [(.int (0 : Int32))]) rfl (by exact trivial) (pc' := 132) rfl ?_
              refine hp_goto hm 9 rfl (tgt := 136) rfl ?_
              exact hp_lf [2, 3, 4, 6, 7, 8, 1, 0] rfl (fun _ e => e)
          · refine hp_b hm (at1 20 rfl) (L' := [(9, (.int p21)), (0, (.ref 182)), (1, (.ref x1)), (2, (.int x2)), (4, (.int p2)), (5, (.int p10)), (6, (.int p12)), (7, (.int p16)), (8, (.int v20))]) (st' := []) rfl (by exact trivial) (pc' := 138) rfl ?_
            refine hp_J 206 (fun (p24 : hH) => [(0, (.ref 182)), (6, (.int p12)), (7, (.int p16))]) (fun (p24 : hH) => []) (fun (p24 : hH) => p24) ?_ (fun p24 => ?_)
            · refine hp_s [1, 2, 3, 4, 5, 6, 7, 8, 0] rfl (L' := [(0, (.ref 182)), (1, (.ref x1)), (2, (.int x2)), (4, (.int p2)), (5, (.int p10)), (6, (.int p12)), (7, (.int p16)), (8, (.int v20)), (9, (.int p21))]) ?_
              refine hp_wh (fun (p23 : (Int32 × hH)) => [(0, (.ref 182)), (1, (.ref x1)), (2, (.int x2)), (4, (.int p2)), (5, (.int p10)), (6, (.int p12)), (7, (.int p16)), (8, (.int v20)), (9, (.int p23.1))]) [] (fun (p23 : (Int32 × hH)) => p23.2) (fun p23 => ?_) (p21, h3)
              refine hp_ic_ge hm (at1 21 rfl) rfl (by exact trivial) (pc' := 142) rfl 15 rfl (tgt := 206) rfl (fun c30 => ?_) (fun c30 => ?_)
              · exact hp_lf [0, 5, 6] rfl (fun _ e => e)
              · refine hp_J 169 (fun (p25 : Int32) => [(0, (.ref 182)), (1, (.ref x1)), (2, (.int x2)), (4, (.int p2)), (5, (.int p10)), (6, (.int p12)), (7, (.int p16)), (8, (.int v20)), (9, (.int p23.1))]) (fun (p25 : Int32) => [(.int p25)]) (fun (p25 : Int32) => p23.2) ?_ (fun p25 => ?_)
                · refine hp_if_eq hm (at1 22 rfl) rfl (by exact trivial) (pc' := 147) rfl 12 rfl (tgt := 157) rfl (fun c27 => ?_) (fun c27 => ?_)
                  · refine hp_G hm (at1 23 rfl) (L' := [(0, (.ref 182)), (1, (.ref x1)), (2, (.int x2)), (4, (.int p2)), (5, (.int p10)), (6, (.int p12)), (7, (.int p16)), (8, (.int v20)), (9, (.int p23.1))]) (st' := [(.int (x2 + (hx_rm ((p2 - x2) + p23.1) v20)))]) rfl (fun hP => (by exact hP)) (pc' := 169) rfl (fun q26 => ?_)
                    exact hp_lf [0, 1, 2, 3, 4, 5, 6, 7, 8] rfl (fun _ e => e)
                  · refine hp_b hm (at1 24 rfl) (L' := [(0, (.ref 182)), (1, (.ref x1)), (2, (.int x2)), (4, (.int p2)), (5, (.int p10)), (6, (.int p12)), (7, (.int p16)), (8, (.int v20)), (9, (.int p23.1))]) (st' := [(.int (x2 + p23.1))]) rfl (by exact trivial) (pc' := 154) rfl ?_
                    refine hp_goto hm 11 rfl (tgt := 169) rfl ?_
                    exact hp_lf [0, 1, 2, 3, 4, 5, 6, 7, 8] rfl (fun _ e => e)
                · refine hp_G hm (at1 25 rfl) (L' := [(10, (.int p25)), (0, (.ref 182)), (1, (.ref x1)), (2, (.int x2)), (4, (.int p2)), (5, (.int p10)), (6, (.int p12)), (7, (.int p16)), (8, (.int v20)), (9, (.int p23.1))]) (st' := [(.int (rdI p23.2 (rf x1 2) (Int32.toNatClampNeg p25))), (.int ((2 : Int32) * (rdI p23.2 (rf x1 1) (Int32.toNatClampNeg p25)))), (.int ((2 : Int32) * (rdI p23.2 (rf x1 0) (Int32.toNatClampNeg p25)))), (.ref 182)]) rfl (fun hP => (by exact ⟨⟨⟨⟨⟨hx1, ⟨(rt_9_0 hx1), (vp_cst (rl_9_0 hx1) hP)⟩⟩, hx1⟩, ⟨(rt_9_1 hx1), (vp_cst (rl_9_1 hx1) hP)⟩⟩, hx1⟩, ⟨(rt_9_2 hx1), (vp_cst (rl_9_2 hx1) hP)⟩⟩)) (pc' := 197) rfl (fun q28 => ?_)
                  refine hp_cVS (M2 := M_In_go) hm at0 (as := [(.int ((2 : Int32) * (rdI p23.2 (rf x1 0) (Int32.toNatClampNeg p25)))), (.int ((2 : Int32) * (rdI p23.2 (rf x1 1) (Int32.toNatClampNeg p25)))), (.int (rdI p23.2 (rf x1 2) (Int32.toNatClampNeg p25)))]) (rest := []) (z := 182) rfl (by exact trivial) (pc' := 197) rfl 13 rfl (lw_g (lw_at lw_m7 103 rfl) rfl) y_In_go rfl (d2 := 2) ⟨le_b rfl, pd_In_go, le_b rfl⟩ (le_b rfl) og_182 (k_In_go ((2 : Int32) * (rdI p23.2 (rf x1 0) (Int32.toNatClampNeg p25))) ((2 : Int32) * (rdI p23.2 (rf x1 1) (Int32.toNatClampNeg p25))) (rdI p23.2 (rf x1 2) (Int32.toNatClampNeg p25)) p23.2) (fun _ h4 => ?_)
                  refine hp_z hm (at1 26 rfl) (fun (v29 : Int32) => [(9, (.int v29)), (10, (.int p25)), (0, (.ref 182)), (1, (.ref x1)), (2, (.int x2)), (4, (.int p2)), (5, (.int p10)), (6, (.int p12)), (7, (.int p16)), (8, (.int v20))]) (fun (v29 : Int32) => []) rfl (by exact trivial) (pc' := 203) rfl (fun v29 => ?_)
                  refine hp_goto hm 14 rfl (tgt := 138) rfl ?_
                  exact hp_lf [2, 3, 4, 5, 6, 7, 8, 9, 0] rfl (fun _ e => e)
            · refine hp_cVS (M2 := M_In_go) hm (at1 27 rfl) (as := [(.int p12), (.int p16), (.int (1 : Int32))]) (rest := []) (z := 182) rfl (by exact trivial) (pc' := 212) rfl 16 rfl (lw_g (lw_at lw_m7 103 rfl) rfl) y_In_go rfl (d2 := 2) ⟨le_b rfl, pd_In_go, le_b rfl⟩ (le_b rfl) og_182 (k_In_go p12 p16 (1 : Int32) p24) (fun _ h5 => ?_)
              exact hp_vr hm 17 rfl rfl (fun _ e => e)
/-! HintHouse$Inside.lay(LHintHouse$Outline;)V -/
def M_In_lay : hM := (10, ⟨"HintHouse$Inside", "lay", "(LHintHouse$Outline;)V"⟩, prog_5_method_2_code, 3, (Option.none : Option Jvm.ClassFile.FieldType), [], [(0, [(.aload_n 0, 1, 0, 0, 0, .null), (.iconst 0, 1, 0, 0, 0, (.int (0 : Int32))), (.putfield 34, 3, 10, 7, 0, .null)]), (5, [(.iconst 0, 1, 0, 0, 0, (.int (0 : Int32))), (.istore_n 2, 1, 0, 0, 0, .null)]), (7, [(.iload_n 2, 1, 0, 0, 0, .null), (.aload_n 1, 1, 0, 0, 0, .null), (.getfield 38, 3, 9, 5, 0, .null)]), (15, [(.aload_n 0, 1, 0, 0, 0, .null), (.aload_n 1, 1, 0, 0, 0, .null), (.aload_n 1, 1, 0, 0, 0, .null), (.iload_n 2, 1, 0, 0, 0, .null)]), (22, [(.aload_n 1, 1, 0, 0, 0, .null), (.getfield 47, 3, 9, 4, 4, .null), (.iload_n 2, 1, 0, 0, 0, .null), (.iaload, 1, 0, 0, 0, .null)]), (31, [(.iinc 2 1, 3, 0, 0, 0, (.int (1 : Int32)))])], [(19, .invokevirtual 43, 3), (28, .invokevirtual 50, 3), (34, .goto (-27), 3), (12, .if_icmp .ge 25, 3), (37, .return_, 1)])
set_option maxRecDepth 100000 in
theorem m_In_lay : hx_mok M_In_lay = true := by decide +kernel
theorem pd_In_lay : (parseMethodDescriptor M_In_lay.2.1.desc).map (fun q => q.parameters.length) = some 1 := by decide +kernel
theorem y_In_lay : hx_okV M_In_lay := ⟨⟨lw_g (lw_at lw_m7 97 rfl) rfl, lw_g (lw_at lw_m7 95 rfl) rfl, lw_g (lw_at lw_m7 96 rfl) rfl, lw_g (lw_at lw_m1 11 rfl) rfl, rfl, by decide, by decide, by decide⟩, rfl, by decide, plainFor_of_name (by decide)⟩
noncomputable def f_In_lay (x1 : Nat) (h : hH) : Option (Unit × hH) :=
  lz (wrI h 182 7 (0 : Int32)) fun h1 =>
  bP (A := hH) (
    wh (A := (Int32 × hH)) (B := hH) (fun p1 =>
        if (rdI p1.2 x1 5) ≤ p1.1 then (
          some (.inr p1.2)
        ) else (
          bP (f_Ou_beginOf x1 p1.1 p1.2) fun a3 =>
          gd (vp_in p1.1 20) <|
          bS (f_In_layContour x1 a3 (rdI p1.2 (rf x1 4) (Int32.toNatClampNeg p1.1)) p1.2) fun _ h2 =>
          lz (A := Int32) (p1.1 + (1 : Int32)) fun v5 =>
          some (.inl (v5, h2))
        )
    ) ((0 : Int32), h1)
  ) fun p2 =>
  some ((), p2)
set_option maxRecDepth 20000 in
theorem k_In_lay (x1 : Nat) (h : hH) (hx1 : isA 9 x1) : hx_kS S0 M_In_lay 4 NT [(.ref 182), (.ref x1)] h (f_In_lay x1 h) cvU := by
  have hm := m_In_lay
  show hx_P S0 M_In_lay 4 0 [(0, (.ref 182)), (1, (.ref x1))] [] NT h (f_In_lay x1 h) (hx_Rc cvU NT)
  unfold f_In_lay
  refine hp_w hm (at1 0 rfl) (L' := [(0, (.ref 182)), (1, (.ref x1))]) rfl (by exact og_182) (pc' := 5) rfl (fun h1 => ?_)
  refine hp_b hm (at1 1 rfl) (L' := [(2, (.int (0 : Int32))), (0, (.ref 182)), (1, (.ref x1))]) (st' := []) rfl (by exact trivial) (pc' := 7) rfl ?_
  refine hp_J 37 (fun (p2 : hH) => []) (fun (p2 : hH) => []) (fun (p2 : hH) => p2) ?_ (fun p2 => ?_)
  · refine hp_s [1, 2, 0] rfl (L' := [(0, (.ref 182)), (1, (.ref x1)), (2, (.int (0 : Int32)))]) ?_
    refine hp_wh (fun (p1 : (Int32 × hH)) => [(0, (.ref 182)), (1, (.ref x1)), (2, (.int p1.1))]) [] (fun (p1 : (Int32 × hH)) => p1.2) (fun p1 => ?_) ((0 : Int32), h1)
    refine hp_ic_ge hm (at1 2 rfl) rfl (by exact hx1) (pc' := 12) rfl 3 rfl (tgt := 37) rfl (fun c6 => ?_) (fun c6 => ?_)
    · exact hp_lf [] rfl (fun _ e => e)
    · refine hp_cVP (M2 := M_Ou_beginOf) hm (at1 3 rfl) (as := [(.int p1.1)]) (rest := [(.ref x1), (.ref 182)]) (z := x1) rfl (by exact trivial) (pc' := 19) rfl 0 rfl (lw_g (lw_at lw_m7 98 rfl) rfl) y_Ou_beginOf rfl (d2 := 1) ⟨le_b rfl, pd_Ou_beginOf, le_b rfl⟩ (le_b rfl) hx1 (k_Ou_beginOf x1 p1.1 p1.2 hx1) (fun a3 => ?_)
      refine hp_G hm (at1 4 rfl) (L' := [(0, (.ref 182)), (1, (.ref x1)), (2, (.int p1.1))]) (st' := [(.int (rdI p1.2 (rf x1 4) (Int32.toNatClampNeg p1.1))), (.int a3), (.ref x1), (.ref 182)]) rfl (fun hP => (by exact ⟨hx1, ⟨(rt_9_4 hx1), (vp_cst (rl_9_4 hx1) hP)⟩⟩)) (pc' := 28) rfl (fun q4 => ?_)
      refine hp_cVS (M2 := M_In_layContour) hm at0 (as := [(.ref x1), (.int a3), (.int (rdI p1.2 (rf x1 4) (Int32.toNatClampNeg p1.1)))]) (rest := []) (z := 182) rfl (by exact trivial) (pc' := 28) rfl 1 rfl (lw_g (lw_at lw_m7 99 rfl) rfl) y_In_layContour rfl (d2 := 3) ⟨le_b rfl, pd_In_layContour, le_b rfl⟩ (le_b rfl) og_182 (k_In_layContour x1 a3 (rdI p1.2 (rf x1 4) (Int32.toNatClampNeg p1.1)) p1.2 hx1) (fun _ h2 => ?_)
      refine hp_z hm (at1 5 rfl) (fun (v5 : Int32) => [(2, (.int v5)), (0, (.ref 182)), (1, (.ref x1))]) (fun (v5 : Int32) => []) rfl (by exact trivial) (pc' := 34) rfl (fun v5 => ?_)
      refine hp_goto hm 2 rfl (tgt := 7) rfl ?_
      exact hp_lf [1, 2, 0] rfl (fun _ e => e)
  · exact hp_vr hm 4 rfl rfl (fun _ e => e)
/-! HintHouse$Outline.contourOf(I)I -/
def M_Ou_contourOf : hM := (9, ⟨"HintHouse$Outline", "contourOf", "(I)I"⟩, prog_8_method_4_code, 3, (Option.some Jvm.ClassFile.FieldType.int), [], [(0, [(.iconst 0, 1, 0, 0, 0, (.int (0 : Int32))), (.istore_n 2, 1, 0, 0, 0, .null)]), (2, [(.aload_n 0, 1, 0, 0, 0, .null), (.getfield 22, 3, 9, 4, 4, .null), (.iload_n 2, 1, 0, 0, 0, .null), (.iaload, 1, 0, 0, 0, .null), (.iload_n 1, 1, 0, 0, 0, .null)]), (12, [(.iinc 2 1, 3, 0, 0, 0, (.int (1 : Int32)))]), (18, [(.iload_n 2, 1, 0, 0, 0, .null)])], [(15, .goto (-13), 3), (9, .if_icmp .ge 9, 3), (19, .ireturn, 1)])
set_option maxRecDepth 100000 in
theorem m_Ou_contourOf : hx_mok M_Ou_contourOf = true := by decide +kernel
theorem pd_Ou_contourOf : (parseMethodDescriptor M_Ou_contourOf.2.1.desc).map (fun q => q.parameters.length) = some 1 := by decide +kernel
theorem y_Ou_contourOf : hx_okV M_Ou_contourOf := ⟨⟨lw_g (lw_at lw_m7 118 rfl) rfl, lw_g (lw_at lw_m7 116 rfl) rfl, lw_g (lw_at lw_m7 117 rfl) rfl, lw_g (lw_at lw_m1 10 rfl) rfl, rfl, by decide, by decide, by decide⟩, rfl, by decide, plainFor_of_name (by decide)⟩
noncomputable def f_Ou_contourOf (z : Nat) (x1 : Int32) (h : hH) : Option Int32 :=
  bP (A := Int32) (
    wh (A := Int32) (B := Int32) (fun p1 =>
        gd (vp_in p1 20) <|
        if x1 ≤ (rdI h (rf z 4) (Int32.toNatClampNeg p1)) then (
          some (.inr p1)
        ) else (
          lz (A := Int32) (p1 + (1 : Int32)) fun v4 =>
          some (.inl v4)
        )
    ) (0 : Int32)
  ) fun p2 =>
  some p2
set_option maxRecDepth 20000 in
theorem k_Ou_contourOf (z : Nat) (x1 : Int32) (h : hH) (hz : isA 9 z) : hx_kP S0 M_Ou_contourOf 1 NT [(.ref z), (.int x1)] h (f_Ou_contourOf z x1 h) cvI := by
  have hm := m_Ou_contourOf
  show hx_P S0 M_Ou_contourOf 1 0 [(0, (.ref z)), (1, (.int x1))] [] NT h (f_Ou_contourOf z x1 h) (hx_Rp cvI NT h)
  unfold f_Ou_contourOf
  refine hp_b hm (at1 0 rfl) (L' := [(2, (.int (0 : Int32))), (0, (.ref z)), (1, (.int x1))]) (st' := []) rfl (by exact trivial) (pc' := 2) rfl ?_
  refine hp_J 18 (fun (p2 : Int32) => [(2, (.int p2))]) (fun (p2 : Int32) => []) (fun (p2 : Int32) => h) ?_ (fun p2 => ?_)
  · refine hp_s [1, 2, 0] rfl (L' := [(0, (.ref z)), (1, (.int x1)), (2, (.int (0 : Int32)))]) ?_
    refine hp_wh (fun (p1 : Int32) => [(0, (.ref z)), (1, (.int x1)), (2, (.int p1))]) [] (fun (p1 : Int32) => h) (fun p1 => ?_) (0 : Int32)
    refine hp_G hm (at1 1 rfl) (L' := [(0, (.ref z)), (1, (.int x1)), (2, (.int p1))]) (st' := [(.int x1), (.int (rdI h (rf z 4) (Int32.toNatClampNeg p1)))]) rfl (fun hP => (by exact ⟨hz, ⟨(rt_9_4 hz), (vp_cst (rl_9_4 hz) hP)⟩⟩)) (pc' := 9) rfl (fun q3 => ?_)
    refine hp_ic_ge hm at0 rfl (by exact trivial) (pc' := 9) rfl 1 rfl (tgt := 18) rfl (fun c5 => ?_) (fun c5 => ?_)
    · exact hp_lf [2] rfl (fun _ e => e)
    · refine hp_z hm (at1 2 rfl) (fun (v4 : Int32) => [(2, (.int v4)), (0, (.ref z)), (1, (.int x1))]) (fun (v4 : Int32) => []) rfl (by exact trivial) (pc' := 15) rfl (fun v4 => ?_)
      refine hp_goto hm 0 rfl (tgt := 2) rfl ?_
      exact hp_lf [1, 2, 0] rfl (fun _ e => e)
  · exact hp_ir hm (at1 3 rfl) rfl (by exact trivial) (pc' := 19) rfl 2 rfl rfl (vp_nar_int _) (fun _ e => e)
/-! HintHouse.point(II)I -/
def M_HH_point : hM := (0, ⟨"HintHouse", "point", "(II)I"⟩, prog_1_method_20_code, 3, (Option.some Jvm.ClassFile.FieldType.int), [], [(0, [(.aload_n 0, 1, 0, 0, 0, .null), (.getfield 100, 3, 0, 7, 3, .null)]), (26, [(.iconst 0, 1, 0, 0, 0, (.int (0 : Int32)))]), (7, [(.iload_n 1, 1, 0, 0, 0, .null), (.i2l, 1, 0, 0, 0, .null), (.lconst 0, 1, 0, 0, 0, (.long (0 : Int64))), (.aload_n 0, 1, 0, 0, 0, .null), (.getfield 100, 3, 0, 7, 3, .null), (.getfield 243, 3, 9, 3, 0, .null), (.iconst 1, 1, 0, 0, 0, (.int (1 : Int32))), (.isub, 1, 0, 0, 0, .null), (.i2l, 1, 0, 0, 0, .null)]), (28, [(.iload_n 2, 1, 0, 0, 0, .null)]), (60, [(.aload_n 0, 1, 0, 0, 0, .null), (.getfield 100, 3, 0, 7, 3, .null), (.getfield 244, 3, 9, 0, 4, .null), (.iload_n 1, 1, 0, 0, 0, .null), (.iaload, 1, 0, 0, 0, .null)]), (70, [(.aload_n 0, 1, 0, 0, 0, .null), (.getfield 100, 3, 0, 7, 3, .null), (.getfield 247, 3, 9, 1, 4, .null), (.iload_n 1, 1, 0, 0, 0, .null), (.iaload, 1, 0, 0, 0, .null)]), (80, [(.aload_n 0, 1, 0, 0, 0, .null), (.getfield 100, 3, 0, 7, 3, .null), (.getfield 250, 3, 9, 2, 4, .null), (.iload_n 1, 1, 0, 0, 0, .null), (.baload, 1, 101, 0, 0, .null)]), (96, [(.iconst 0, 1, 0, 0, 0, (.int (0 : Int32)))]), (92, [(.iconst 1, 1, 0, 0, 0, (.int (1 : Int32)))]), (98, [(.aload_n 0, 1, 0, 0, 0, .null), (.getfield 100, 3, 0, 7, 3, .null), (.iload_n 1, 1, 0, 0, 0, .null)]), (107, [(.iconst 0, 1, 0, 0, 0, (.int (0 : Int32)))])], [(27, .ireturn, 1), (20, .invokestatic 79, 3), (29, .tableswitch 78 0 3 #[31, 41, 51, 69], 31), (69, .ireturn, 1), (79, .ireturn, 1), (97, .ireturn, 1), (93, .goto 4, 3), (89, .ifCond .eq 7, 3), (103, .invokevirtual 253, 3), (106, .ireturn, 1), (108, .ireturn, 1), (23, .ifCond .ne 5, 3), (4, .ifnull 22, 3)])
set_option maxRecDepth 100000 in
theorem m_HH_point : hx_mok M_HH_point = true := by decide +kernel
theorem pd_HH_point : (parseMethodDescriptor M_HH_point.2.1.desc).map (fun q => q.parameters.length) = some 2 := by decide +kernel
theorem y_HH_point : hx_okV M_HH_point := ⟨⟨lw_g (lw_at lw_m7 114 rfl) rfl, lw_g (lw_at lw_m7 112 rfl) rfl, lw_g (lw_at lw_m7 113 rfl) rfl, lw_g (lw_at lw_m1 1 rfl) rfl, rfl, by decide, by decide, by decide⟩, rfl, by decide, plainFor_of_name (by decide)⟩
noncomputable def f_HH_point (x1 : Int32) (x2 : Int32) (h : hH) : Option Int32 :=
  if (rdP h 1 7) = 0 then (
    some (0 : Int32)
  ) else (
    gd (isA 9 (rdP h 1 7)) <|
    bP (f_HH_within (Int32.toInt64 x1) (0 : Int64) (Int32.toInt64 ((rdI h (rdP h 1 7) 3) - (1 : Int32)))) fun a2 =>
    if a2 = 0 then (
      some (0 : Int32)
    ) else (
      if x2 = (0 : Int32) then (
        gd (vp_in x1 100) <|
        some (rdI h (rf (rdP h 1 7) 0) (Int32.toNatClampNeg x1))
      ) else (
        if x2 = (1 : Int32) then (
          gd (vp_in x1 100) <|
          some (rdI h (rf (rdP h 1 7) 1) (Int32.toNatClampNeg x1))
        ) else (
          if x2 = (2 : Int32) then (
            gd (vp_in x1 100) <|
            if (rdI h (rf (rdP h 1 7) 2) (Int32.toNatClampNeg x1)) = 0 then (
              some (0 : Int32)
            ) else (
              some (1 : Int32)
            )
          ) else (
            if x2 = (3 : Int32) then (
              bP (f_Ou_contourOf (rdP h 1 7) x1 h) fun a10 =>
              some a10
            ) else (
              some (0 : Int32)
            )
          )
        )
      )
    )
  )
set_option maxRecDepth 20000 in
theorem k_HH_point (x1 : Int32) (x2 : Int32) (h : hH) : hx_kP S0 M_HH_point 2 NT [(.ref 1), (.int x1), (.int x2)] h (f_HH_point x1 x2 h) cvI := by
  have hm := m_HH_point
  show hx_P S0 M_HH_point 2 0 [(0, (.ref 1)), (1, (.int x1)), (2, (.int x2))] [] NT h (f_HH_point x1 x2 h) (hx_Rp cvI NT h)
  unfold f_HH_point
  refine hp_null hm (at1 0 rfl) rfl (by exact og_1) (pc' := 4) rfl 12 rfl (tgt := 26) rfl (fun c13 => ?_) (fun c13 => ?_)
  · exact hp_ir hm (at1 1 rfl) rfl (by exact trivial) (pc' := 27) rfl 0 rfl rfl (vp_nar_int _) (fun _ e => e)
  · refine hp_G hm (at1 2 rfl) (L' := [(0, (.ref 1)), (1, (.int x1)), (2, (.int x2))]) (st' := [(.long (Int32.toInt64 ((rdI h (rdP h 1 7) 3) - (1 : Int32)))), (.long (0 : Int64)), (.long (Int32.toInt64 x1))]) rfl (fun hP => (by exact ⟨og_1, hP⟩)) (pc' := 20) rfl (fun q1 => ?_)
    refine hp_cSP (M2 := M_HH_within) hm at0 (as := [(.long (Int32.toInt64 x1)), (.long (0 : Int64)), (.long (Int32.toInt64 ((rdI h (rdP h 1 7) 3) - (1 : Int32))))]) (rest := []) rfl (by exact trivial) (pc' := 20) rfl 1 rfl (lw_g (lw_at lw_m4 39 rfl) rfl) y_HH_within rfl (d2 := 1) ⟨le_b rfl, pd_HH_within, le_b rfl⟩ (le_b rfl) (k_HH_within (Int32.toInt64 x1) (0 : Int64) (Int32.toInt64 ((rdI h (rdP h 1 7) 3) - (1 : Int32))) h) (fun a2 => ?_)
    refine hp_if_ne hm at0 rfl (by exact trivial) (pc' := 23) rfl 11 rfl (tgt := 28) rfl (fun c12 => ?_) (fun c12 => ?_)
    · refine hp_b hm (at1 3 rfl) (L' := [(0, (.ref 1)), (1, (.int x1)), (2, (.int x2))]) (st' := [(.int x2)]) rfl (by exact trivial) (pc' := 29) rfl ?_
      refine hp_sw hm 2 rfl (cs := [0]) (off := 31) (by decide) (tgt := 60) rfl (sw1 _ _) ?_ (fun c4 => ?_)
      · refine hp_G hm (at1 4 rfl) (L' := [(0, (.ref 1)), (1, (.int x1)), (2, (.int x2))]) (st' := [(.int (rdI h (rf (rdP h 1 7) 0) (Int32.toNatClampNeg x1)))]) rfl (fun hP => (by exact ⟨⟨og_1, q1⟩, ⟨(rt_9_0 q1), (vp_cst (rl_9_0 q1) hP)⟩⟩)) (pc' := 69) rfl (fun q3 => ?_)
        exact hp_ir hm at0 rfl (by exact trivial) (pc' := 69) rfl 3 rfl rfl (vp_nar_int _) (fun _ e => e)
      · refine hp_sw hm 2 rfl (cs := [1]) (off := 41) (by decide) (tgt := 70) rfl (sw1 _ _) ?_ (fun c6 => ?_)
        · refine hp_G hm (at1 5 rfl) (L' := [(0, (.ref 1)), (1, (.int x1)), (2, (.int x2))]) (st' := [(.int (rdI h (rf (rdP h 1 7) 1) (Int32.toNatClampNeg x1)))]) rfl (fun hP => (by exact ⟨⟨og_1, q1⟩, ⟨(rt_9_1 q1), (vp_cst (rl_9_1 q1) hP)⟩⟩)) (pc' := 79) rfl (fun q5 => ?_)
          exact hp_ir hm at0 rfl (by exact trivial) (pc' := 79) rfl 4 rfl rfl (vp_nar_int _) (fun _ e => e)
        · refine hp_sw hm 2 rfl (cs := [2]) (off := 51) (by decide) (tgt := 80) rfl (sw1 _ _) ?_ (fun c9 => ?_)
          · refine hp_G hm (at1 6 rfl) (L' := [(0, (.ref 1)), (1, (.int x1)), (2, (.int x2))]) (st' := [(.int (rdI h (rf (rdP h 1 7) 2) (Int32.toNatClampNeg x1)))]) rfl (fun hP => (by exact ⟨⟨og_1, q1⟩, ⟨(rt_9_2 q1), (vp_cst (rl_9_2 q1) hP)⟩⟩)) (pc' := 89) rfl (fun q7 => ?_)
            refine hp_if_eq hm at0 rfl (by exact trivial) (pc' := 89) rfl 7 rfl (tgt := 96) rfl (fun c8 => ?_) (fun c8 => ?_)
            · refine hp_b hm (at1 7 rfl) (L' := [(0, (.ref 1)), (1, (.int x1)), (2, (.int x2))]) (st' := [(.int (0 : Int32))]) rfl (by exact trivial) (pc' := 97) rfl ?_
              exact hp_ir hm at0 rfl (by exact trivial) (pc' := 97) rfl 5 rfl rfl (vp_nar_int _) (fun _ e => e)
            · refine hp_b hm (at1 8 rfl) (L' := [(0, (.ref 1)), (1, (.int x1)), (2, (.int x2))]) (st' := [(.int (1 : Int32))]) rfl (by exact trivial) (pc' := 93) rfl ?_
              refine hp_goto hm 6 rfl (tgt := 97) rfl ?_
              exact hp_ir hm at0 rfl (by exact trivial) (pc' := 97) rfl 5 rfl rfl (vp_nar_int _) (fun _ e => e)
          · refine hp_sw hm 2 rfl (cs := [3]) (off := 69) (by decide) (tgt := 98) rfl (sw1 _ _) ?_ (fun c11 => ?_)
            · refine hp_cVP (M2 := M_Ou_contourOf) hm (at1 9 rfl) (as := [(.int x1)]) (rest := []) (z := (rdP h 1 7)) rfl (by exact og_1) (pc' := 103) rfl 8 rfl (lw_g (lw_at lw_m7 115 rfl) rfl) y_Ou_contourOf rfl (d2 := 1) ⟨le_b rfl, pd_Ou_contourOf, le_b rfl⟩ (le_b rfl) q1 (k_Ou_contourOf (rdP h 1 7) x1 h q1) (fun a10 => ?_)
              exact hp_ir hm at0 rfl (by exact trivial) (pc' := 106) rfl 9 rfl rfl (vp_nar_int _) (fun _ e => e)
            · refine hp_sd2 hm 2 rfl (css := [[0], [1], [2], [3]]) (by decide) (by decide) (List.forall_mem_cons.mpr ⟨c4, (List.forall_mem_cons.mpr ⟨c6, (List.forall_mem_cons.mpr ⟨c9, (List.forall_mem_cons.mpr ⟨c11, (fun _ h => absurd h List.not_mem_nil)⟩)⟩)⟩)⟩) (tgt := 107) rfl ?_
              exact hp_ir hm (at1 10 rfl) rfl (by exact trivial) (pc' := 108) rfl 10 rfl rfl (vp_nar_int _) (fun _ e => e)
    · exact hp_ir hm (at1 1 rfl) rfl (by exact trivial) (pc' := 27) rfl 0 rfl rfl (vp_nar_int _) (fun _ e => e)
/-! HintHouse.told(I)I -/
def M_HH_told : hM := (0, ⟨"HintHouse", "told", "(I)I"⟩, prog_1_method_21_code, 2, (Option.some Jvm.ClassFile.FieldType.int), [], [(0, [(.iload_n 1, 1, 0, 0, 0, .null)]), (56, [(.aload_n 0, 1, 0, 0, 0, .null), (.getfield 218, 3, 0, 10, 0, .null)]), (61, [(.aload_n 0, 1, 0, 0, 0, .null), (.getfield 187, 3, 0, 11, 0, .null)]), (66, [(.aload_n 0, 1, 0, 0, 0, .null), (.getfield 193, 3, 0, 12, 0, .null)]), (71, [(.aload_n 0, 1, 0, 0, 0, .null), (.getfield 73, 3, 0, 13, 0, .null)]), (76, [(.aload_n 0, 1, 0, 0, 0, .null), (.getfield 100, 3, 0, 7, 3, .null)]), (87, [(.aload_n 0, 1, 0, 0, 0, .null), (.getfield 238, 3, 0, 8, 0, .null)]), (83, [(.iconst 0, 1, 0, 0, 0, (.int (0 : Int32)))]), (92, [(.aload_n 0, 1, 0, 0, 0, .null), (.getfield 100, 3, 0, 7, 3, .null)]), (103, [(.aload_n 0, 1, 0, 0, 0, .null), (.getfield 100, 3, 0, 7, 3, .null), (.getfield 256, 3, 9, 5, 0, .null)]), (99, [(.iconst 0, 1, 0, 0, 0, (.int (0 : Int32)))]), (111, [(.aload_n 0, 1, 0, 0, 0, .null), (.getfield 97, 3, 0, 6, 0, .null)]), (116, [(.aload_n 0, 1, 0, 0, 0, .null), (.getfield 97, 3, 0, 6, 0, .null)]), (127, [(.aload_n 0, 1, 0, 0, 0, .null), (.getfield 100, 3, 0, 7, 3, .null)]), (150, [(.aload_n 0, 1, 0, 0, 0, .null), (.getfield 47, 3, 0, 4, 4, .null), (.getfield 271, 3, 8, 6, 0, .null)]), (134, [(.aload_n 0, 1, 0, 0, 0, .null), (.getfield 47, 3, 0, 4, 4, .null), (.getfield 257, 3, 8, 2, 4, .null), (.getfield 260, 3, 5, 5, 4, .null), (.getfield 266, 3, 7, 7, 0, .null)]), (123, [(.iconst 0, 1, 0, 0, 0, (.int (0 : Int32)))]), (158, [(.aload_n 0, 1, 0, 0, 0, .null), (.getfield 97, 3, 0, 6, 0, .null)]), (169, [(.aload_n 0, 1, 0, 0, 0, .null), (.getfield 100, 3, 0, 7, 3, .null)]), (192, [(.aload_n 0, 1, 0, 0, 0, .null), (.getfield 47, 3, 0, 4, 4, .null), (.getfield 275, 3, 8, 7, 0, .null)]), (176, [(.aload_n 0, 1, 0, 0, 0, .null), (.getfield 47, 3, 0, 4, 4, .null), (.getfield 257, 3, 8, 2, 4, .null), (.getfield 260, 3, 5, 5, 4, .null), (.getfield 272, 3, 7, 8, 0, .null)]), (165, [(.iconst 0, 1, 0, 0, 0, (.int (0 : Int32)))]), (200, [(.aload_n 0, 1, 0, 0, 0, .null), (.getfield 38, 3, 0, 3, 4, .null), (.getfield 104, 3, 4, 6, 0, .null)]), (208, [(.iconst 0, 1, 0, 0, 0, (.int (0 : Int32)))])], [(1, .tableswitch 207 0 9 #[55, 60, 65, 70, 75, 91, 110, 115, 157, 199], 55), (60, .ireturn, 1), (65, .ireturn, 1), (70, .ireturn, 1), (75, .ireturn, 1), (91, .ireturn, 1), (84, .goto 7, 3), (80, .ifnonnull 7, 3), (110, .ireturn, 1), (100, .goto 10, 3), (96, .ifnonnull 7, 3), (115, .ireturn, 1), (157, .ireturn, 1), (147, .goto 10, 3), (131, .ifnonnull 19, 3), (124, .goto 33, 3), (120, .ifCond .ne 7, 3), (199, .ireturn, 1), (189, .goto 10, 3), (173, .ifnonnull 19, 3), (166, .goto 33, 3), (162, .ifCond .ne 7, 3), (207, .ireturn, 1), (209, .ireturn, 1)])
set_option maxRecDepth 100000 in
theorem m_HH_told : hx_mok M_HH_told = true := by decide +kernel
theorem pd_HH_told : (parseMethodDescriptor M_HH_told.2.1.desc).map (fun q => q.parameters.length) = some 1 := by decide +kernel
theorem y_HH_told : hx_okV M_HH_told := ⟨⟨lw_g (lw_at lw_m7 122 rfl) rfl, lw_g (lw_at lw_m7 120 rfl) rfl, lw_g (lw_at lw_m7 121 rfl) rfl, lw_g (lw_at lw_m1 1 rfl) rfl, rfl, by decide, by decide, by decide⟩, rfl, by decide, plainFor_of_name (by decide)⟩
noncomputable def f_HH_told (x1 : Int32) (h : hH) : Option Int32 :=
  if x1 = (0 : Int32) then (
    some (rdI h 1 10)
  ) else (
    if x1 = (1 : Int32) then (
      some (rdI h 1 11)
    ) else (
      if x1 = (2 : Int32) then (
        some (rdI h 1 12)
      ) else (
        if x1 = (3 : Int32) then (
          some (rdI h 1 13)
        ) else (
          if x1 = (4 : Int32) then (
            if (rdP h 1 7) = 0 then (
              some (0 : Int32)
            ) else (
              some (rdI h 1 8)
            )
          ) else (
            if x1 = (5 : Int32) then (
              if (rdP h 1 7) = 0 then (
                some (0 : Int32)
              ) else (
                gd (isA 9 (rdP h 1 7)) <|
                some (rdI h (rdP h 1 7) 5)
              )
            ) else (
              if x1 = (6 : Int32) then (
                some (rdI h 1 6)
              ) else (
                if x1 = (7 : Int32) then (
                  if (rdI h 1 6) = 0 then (
                    some (0 : Int32)
                  ) else (
                    if (rdP h 1 7) = 0 then (
                      some (rdI h 67 7)
                    ) else (
                      some (rdI h 56 6)
                    )
                  )
                ) else (
                  if x1 = (8 : Int32) then (
                    if (rdI h 1 6) = 0 then (
                      some (0 : Int32)
                    ) else (
                      if (rdP h 1 7) = 0 then (
                        some (rdI h 67 8)
                      ) else (
                        some (rdI h 56 7)
                      )
                    )
                  ) else (
                    if x1 = (9 : Int32) then (
                      some (rdI h 22 6)
                    ) else (
                      some (0 : Int32)
                    )
                  )
                )
              )
            )
          )
        )
      )
    )
  )
set_option maxRecDepth 20000 in
theorem k_HH_told (x1 : Int32) (h : hH) : hx_kP S0 M_HH_told 1 NT [(.ref 1), (.int x1)] h (f_HH_told x1 h) cvI := by
  have hm := m_HH_told
  show hx_P S0 M_HH_told 1 0 [(0, (.ref 1)), (1, (.int x1))] [] NT h (f_HH_told x1 h) (hx_Rp cvI NT h)
  unfold f_HH_told
  refine hp_b hm (at1 0 rfl) (L' := [(0, (.ref 1)), (1, (.int x1))]) (st' := [(.int x1)]) rfl (by exact trivial) (pc' := 1) rfl ?_
  refine hp_sw hm 0 rfl (cs := [0]) (off := 55) (by decide) (tgt := 56) rfl (sw1 _ _) ?_ (fun c1 => ?_)
  · exact hp_ir hm (at1 1 rfl) rfl (by exact og_1) (pc' := 60) rfl 1 rfl rfl (vp_nar_int _) (fun _ e => e)
  · refine hp_sw hm 0 rfl (cs := [1]) (off := 60) (by decide) (tgt := 61) rfl (sw1 _ _) ?_ (fun c2 => ?_)
    · exact hp_ir hm (at1 2 rfl) rfl (by exact og_1) (pc' := 65) rfl 2 rfl rfl (vp_nar_int _) (fun _ e => e)
    · refine hp_sw hm 0 rfl (cs := [2]) (off := 65) (by decide) (tgt := 66) rfl (sw1 _ _) ?_ (fun c3 => ?_)
      · exact hp_ir hm (at1 3 rfl) rfl (by exact og_1) (pc' := 70) rfl 3 rfl rfl (vp_nar_int _) (fun _ e => e)
      · refine hp_sw hm 0 rfl (cs := [3]) (off := 70) (by decide) (tgt := 71) rfl (sw1 _ _) ?_ (fun c4 => ?_)
        · exact hp_ir hm (at1 4 rfl) rfl (by exact og_1) (pc' := 75) rfl 4 rfl rfl (vp_nar_int _) (fun _ e => e)
        · refine hp_sw hm 0 rfl (cs := [4]) (off := 75) (by decide) (tgt := 76) rfl (sw1 _ _) ?_ (fun c6 => ?_)
          · refine hp_nonnull hm (at1 5 rfl) rfl (by exact og_1) (pc' := 80) rfl 7 rfl (tgt := 87) rfl (fun c5 => ?_) (fun c5 => ?_)
            · refine hp_b hm (at1 6 rfl) (L' := [(0, (.ref 1)), (1, (.int x1))]) (st' := [(.int (rdI h 1 8))]) rfl (by exact og_1) (pc' := 91) rfl ?_
              exact hp_ir hm at0 rfl (by exact trivial) (pc' := 91) rfl 5 rfl rfl (vp_nar_int _) (fun _ e => e)
            · refine hp_b hm (at1 7 rfl) (L' := [(0, (.ref 1)), (1, (.int x1))]) (st' := [(.int (0 : Int32))]) rfl (by exact trivial) (pc' := 84) rfl ?_
              refine hp_goto hm 6 rfl (tgt := 91) rfl ?_
              exact hp_ir hm at0 rfl (by exact trivial) (pc' := 91) rfl 5 rfl rfl (vp_nar_int _) (fun _ e => e)
          · refine hp_sw hm 0 rfl (cs := [5]) (off := 91) (by decide) (tgt := 92) rfl (sw1 _ _) ?_ (fun c9 => ?_)
            · refine hp_nonnull hm (at1 8 rfl) rfl (by exact og_1) (pc' := 96) rfl 10 rfl (tgt := 103) rfl (fun c8 => ?_) (fun c8 => ?_)
              · refine hp_G hm (at1 9 rfl) (L' := [(0, (.ref 1)), (1, (.int x1))]) (st' := [(.int (rdI h (rdP h 1 7) 5))]) rfl (fun hP => (by exact ⟨og_1, hP⟩)) (pc' := 110) rfl (fun q7 => ?_)
                exact hp_ir hm at0 rfl (by exact trivial) (pc' := 110) rfl 8 rfl rfl (vp_nar_int _) (fun _ e => e)
              · refine hp_b hm (at1 10 rfl) (L' := [(0, (.ref 1)), (1, (.int x1))]) (st' := [(.int (0 : Int32))]) rfl (by exact trivial) (pc' := 100) rfl ?_
                refine hp_goto hm 9 rfl (tgt := 110) rfl ?_
                exact hp_ir hm at0 rfl (by exact trivial) (pc' := 110) rfl 8 rfl rfl (vp_nar_int _) (fun _ e => e)
            · refine hp_sw hm 0 rfl (cs := [6]) (off := 110) (by decide) (tgt := 111) rfl (sw1 _ _) ?_ (fun c10 => ?_)
              · exact hp_ir hm (at1 11 rfl) rfl (by exact og_1) (pc' := 115) rfl 11 rfl rfl (vp_nar_int _) (fun _ e => e)
              · refine hp_sw hm 0 rfl (cs := [7]) (off := 115) (by decide) (tgt := 116) rfl (sw1 _ _) ?_ (fun c13 => ?_)
                · refine hp_if_ne hm (at1 12 rfl) rfl (by exact og_1) (pc' := 120) rfl 16 rfl (tgt := 127) rfl (fun c12 => ?_) (fun c12 => ?_)
                  · refine hp_nonnull hm (at1 13 rfl) rfl (by exact og_1) (pc' := 131) rfl 14 rfl (tgt := 150) rfl (fun c11 => ?_) (fun c11 => ?_)
                    · refine hp_b hm (at1 14 rfl) (L' := [(0, (.ref 1)), (1, (.int x1))]) (st' := [(.int (rdI h 56 6))]) rfl (by exact ⟨og_1, og_56⟩) (pc' := 157) rfl ?_
                      exact hp_ir hm at0 rfl (by exact trivial) (pc' := 157) rfl 12 rfl rfl (vp_nar_int _) (fun _ e => e)
                    · refine hp_b hm (at1 15 rfl) (L' := [(0, (.ref 1)), (1, (.int x1))]) (st' := [(.int (rdI h 67 7))]) rfl (by exact ⟨⟨⟨og_1, og_56⟩, og_57⟩, og_67⟩) (pc' := 147) rfl ?_
                      refine hp_goto hm 13 rfl (tgt := 157) rfl ?_
                      exact hp_ir hm at0 rfl (by exact trivial) (pc' := 157) rfl 12 rfl rfl (vp_nar_int _) (fun _ e => e)
                  · refine hp_b hm (at1 16 rfl) (L' := [(0, (.ref 1)), (1, (.int x1))]) (st' := [(.int (0 : Int32))]) rfl (by exact trivial) (pc' := 124) rfl ?_
                    refine hp_goto hm 15 rfl (tgt := 157) rfl ?_
                    exact hp_ir hm at0 rfl (by exact trivial) (pc' := 157) rfl 12 rfl rfl (vp_nar_int _) (fun _ e => e)
                · refine hp_sw hm 0 rfl (cs := [8]) (off := 157) (by decide) (tgt := 158) rfl (sw1 _ _) ?_ (fun c16 => ?_)
                  · refine hp_if_ne hm (at1 17 rfl) rfl (by exact og_1) (pc' := 162) rfl 21 rfl (tgt := 169) rfl (fun c15 => ?_) (fun c15 => ?_)
                    · refine hp_nonnull hm (at1 18 rfl) rfl (by exact og_1) (pc' := 173) rfl 19 rfl (tgt := 192) rfl (fun c14 => ?_) (fun c14 => ?_)
                      · refine hp_b hm (at1 19 rfl) (L' := [(0, (.ref 1)), (1, (.int x1))]) (st' := [(.int (rdI h 56 7))]) rfl (by exact ⟨og_1, og_56⟩) (pc' := 199) rfl ?_
                        exact hp_ir hm at0 rfl (by exact trivial) (pc' := 199) rfl 17 rfl rfl (vp_nar_int _) (fun _ e => e)
                      · refine hp_b hm (at1 20 rfl) (L' := [(0, (.ref 1)), (1, (.int x1))]) (st' := [(.int (rdI h 67 8))]) rfl (by exact ⟨⟨⟨og_1, og_56⟩, og_57⟩, og_67⟩) (pc' := 189) rfl ?_
                        refine hp_goto hm 18 rfl (tgt := 199) rfl ?_
                        exact hp_ir hm at0 rfl (by exact trivial) (pc' := 199) rfl 17 rfl rfl (vp_nar_int _) (fun _ e => e)
                    · refine hp_b hm (at1 21 rfl) (L' := [(0, (.ref 1)), (1, (.int x1))]) (st' := [(.int (0 : Int32))]) rfl (by exact trivial) (pc' := 166) rfl ?_
                      refine hp_goto hm 20 rfl (tgt := 199) rfl ?_
                      exact hp_ir hm at0 rfl (by exact trivial) (pc' := 199) rfl 17 rfl rfl (vp_nar_int _) (fun _ e => e)
                  · refine hp_sw hm 0 rfl (cs := [9]) (off := 199) (by decide) (tgt := 200) rfl (sw1 _ _) ?_ (fun c17 => ?_)
                    · exact hp_ir hm (at1 22 rfl) rfl (by exact ⟨og_1, og_22⟩) (pc' := 207) rfl 22 rfl rfl (vp_nar_int _) (fun _ e => e)
                    · refine hp_sd2 hm 0 rfl (css := [[0], [1], [2], [3], [4], [5], [6], [7], [8], [9]]) (by decide) (by decide) (List.forall_mem_cons.mpr ⟨c1, (List.forall_mem_cons.mpr ⟨c2, (List.forall_mem_cons.mpr ⟨c3, (List.forall_mem_cons.mpr ⟨c4, (List.forall_mem_cons.mpr ⟨c6, (List.forall_mem_cons.mpr ⟨c9, (List.forall_mem_cons.mpr ⟨c10, (List.forall_mem_cons.mpr ⟨c13, (List.forall_mem_cons.mpr ⟨c16, (List.forall_mem_cons.mpr ⟨c17, (fun _ h => absurd h List.not_mem_nil)⟩)⟩)⟩)⟩)⟩)⟩)⟩)⟩)⟩)⟩) (tgt := 208) rfl ?_
                      exact hp_ir hm (at1 23 rfl) rfl (by exact trivial) (pc' := 209) rfl 23 rfl rfl (vp_nar_int _) (fun _ e => e)
/-! HintHouse.held(II)I -/
def M_HH_held : hM := (0, ⟨"HintHouse", "held", "(II)I"⟩, prog_1_method_22_code, 4, (Option.some Jvm.ClassFile.FieldType.int), [], [(0, [(.aload_n 0, 1, 0, 0, 0, .null), (.getfield 47, 3, 0, 4, 4, .null), (.getfield 257, 3, 8, 2, 4, .null), (.astore_n 3, 1, 0, 0, 0, .null), (.aload_n 0, 1, 0, 0, 0, .null), (.getfield 97, 3, 0, 6, 0, .null)]), (19, [(.iconst 0, 1, 0, 0, 0, (.int (0 : Int32)))]), (15, [(.iload_n 2, 1, 0, 0, 0, .null)]), (21, [(.iload_n 1, 1, 0, 0, 0, .null)]), (25, [(.iload_n 1, 1, 0, 0, 0, .null), (.iconst 1, 1, 0, 0, 0, (.int (1 : Int32)))]), (30, [(.iload_n 2, 1, 0, 0, 0, .null), (.iload_n 1, 1, 0, 0, 0, .null)]), (42, [(.aload_n 3, 1, 0, 0, 0, .null), (.getfield 279, 3, 5, 3, 0, .null)]), (35, [(.aload_n 3, 1, 0, 0, 0, .null), (.getfield 276, 3, 5, 1, 0, .null)]), (53, [(.iload_n 1, 1, 0, 0, 0, .null)]), (66, [(.aload_n 3, 1, 0, 0, 0, .null), (.getfield 285, 3, 5, 2, 4, .null), (.iload_n 2, 1, 0, 0, 0, .null), (.iaload, 1, 0, 0, 0, .null)]), (57, [(.aload_n 3, 1, 0, 0, 0, .null), (.getfield 282, 3, 5, 0, 4, .null), (.iload_n 2, 1, 0, 0, 0, .null), (.iaload, 1, 0, 0, 0, .null)]), (49, [(.iconst 0, 1, 0, 0, 0, (.int (0 : Int32)))]), (73, [(.iload_n 2, 1, 0, 0, 0, .null), (.aload_n 3, 1, 0, 0, 0, .null), (.getfield 288, 3, 5, 4, 4, .null), (.getfield 292, 3, 6, 6, 0, .null)]), (86, [(.iload_n 1, 1, 0, 0, 0, .null), (.iconst 2, 1, 0, 0, 0, (.int (2 : Int32)))]), (103, [(.iload_n 1, 1, 0, 0, 0, .null), (.iconst 3, 1, 0, 0, 0, (.int (3 : Int32)))]), (120, [(.iload_n 1, 1, 0, 0, 0, .null), (.iconst 4, 1, 0, 0, 0, (.int (4 : Int32)))]), (137, [(.iload_n 1, 1, 0, 0, 0, .null), (.iconst 5, 1, 0, 0, 0, (.int (5 : Int32)))]), (154, [(.iconst 0, 1, 0, 0, 0, (.int (0 : Int32)))]), (142, [(.aload_n 3, 1, 0, 0, 0, .null), (.getfield 288, 3, 5, 4, 4, .null), (.getfield 302, 3, 6, 1, 4, .null), (.iload_n 2, 1, 0, 0, 0, .null), (.iaload, 1, 0, 0, 0, .null)]), (125, [(.aload_n 3, 1, 0, 0, 0, .null), (.getfield 288, 3, 5, 4, 4, .null), (.getfield 299, 3, 6, 0, 4, .null), (.iload_n 2, 1, 0, 0, 0, .null), (.iaload, 1, 0, 0, 0, .null)]), (108, [(.aload_n 3, 1, 0, 0, 0, .null), (.getfield 288, 3, 5, 4, 4, .null), (.getfield 298, 3, 6, 3, 4, .null), (.iload_n 2, 1, 0, 0, 0, .null), (.iaload, 1, 0, 0, 0, .null)]), (91, [(.aload_n 3, 1, 0, 0, 0, .null), (.getfield 288, 3, 5, 4, 4, .null), (.getfield 297, 3, 6, 2, 4, .null), (.iload_n 2, 1, 0, 0, 0, .null), (.iaload, 1, 0, 0, 0, .null)]), (84, [(.iconst 0, 1, 0, 0, 0, (.int (0 : Int32)))])], [(20, .ireturn, 1), (27, .if_icmp .ne 46, 3), (22, .ifCond .eq 8, 3), (39, .goto 7, 3), (32, .ifCond .ne 10, 3), (72, .ireturn, 1), (63, .goto 9, 3), (54, .ifCond .ne 12, 3), (50, .goto 22, 3), (46, .if_icmp .lt 7, 3), (155, .ireturn, 1), (151, .goto 4, 3), (139, .if_icmp .ne 15, 3), (134, .goto 21, 3), (122, .if_icmp .ne 15, 3), (117, .goto 38, 3), (105, .if_icmp .ne 15, 3), (100, .goto 55, 3), (88, .if_icmp .ne 15, 3), (85, .ireturn, 1), (81, .if_icmp .lt 5, 3), (16, .ifCond .ge 5, 3), (12, .ifCond .eq 7, 3)])
set_option maxRecDepth 100000 in
theorem m_HH_held : hx_mok M_HH_held = true := by decide +kernel
theorem pd_HH_held : (parseMethodDescriptor M_HH_held.2.1.desc).map (fun q => q.parameters.length) = some 2 := by decide +kernel
theorem y_HH_held : hx_okV M_HH_held := ⟨⟨lw_g (lw_at lw_m7 126 rfl) rfl, lw_g (lw_at lw_m7 124 rfl) rfl, lw_g (lw_at lw_m7 125 rfl) rfl, lw_g (lw_at lw_m1 1 rfl) rfl, rfl, by decide, by decide, by decide⟩, rfl, by decide, plainFor_of_name (by decide)⟩
noncomputable def f_HH_held (x1 : Int32) (x2 : Int32) (h : hH) : Option Int32 :=
  if (rdI h 1 6) = 0 then (
    some (0 : Int32)
  ) else (
    if 0 ≤ x2 then (
      if (x1 = 0 ∨ x1 = (1 : Int32)) then (
        lz (A := Int32) (if x1 = 0 then (rdI h 57 1) else (rdI h 57 3)) fun p6 =>
        if x2 < p6 then (
          if x1 = 0 then (
            gd (vp_in x2 256) <|
            some (rdI h 58 (Int32.toNatClampNeg x2))
          ) else (
            gd (vp_in x2 64) <|
            some (rdI h 59 (Int32.toNatClampNeg x2))
          )
        ) else (
          some (0 : Int32)
        )
      ) else (
        if x2 < (rdI h 60 6) then (
          if x1 = (2 : Int32) then (
            gd (vp_in x2 64) <|
            some (rdI h 63 (Int32.toNatClampNeg x2))
          ) else (
            if x1 = (3 : Int32) then (
              gd (vp_in x2 64) <|
              some (rdI h 64 (Int32.toNatClampNeg x2))
            ) else (
              if x1 = (4 : Int32) then (
                gd (vp_in x2 64) <|
                some (rdI h 61 (Int32.toNatClampNeg x2))
              ) else (
                if x1 = (5 : Int32) then (
                  gd (vp_in x2 64) <|
                  some (rdI h 62 (Int32.toNatClampNeg x2))
                ) else (
                  some (0 : Int32)
                )
              )
            )
          )
        ) else (
          some (0 : Int32)
        )
      )
    ) else (
      some (0 : Int32)
    )
  )
set_option maxRecDepth 20000 in
theorem k_HH_held (x1 : Int32) (x2 : Int32) (h : hH) : hx_kP S0 M_HH_held 1 NT [(.ref 1), (.int x1), (.int x2)] h (f_HH_held x1 x2 h) cvI := by
  have hm := m_HH_held
  show hx_P S0 M_HH_held 1 0 [(0, (.ref 1)), (1, (.int x1)), (2, (.int x2))] [] NT h (f_HH_held x1 x2 h) (hx_Rp cvI NT h)
  unfold f_HH_held
  refine hp_b hm (at1 0 rfl) (L' := [(3, (.ref 57)), (0, (.ref 1)), (1, (.int x1)), (2, (.int x2))]) (st' := [(.int (rdI h 1 6))]) rfl (by exact ⟨⟨og_1, og_56⟩, og_1⟩) (pc' := 12) rfl ?_
  refine hp_if_eq hm at0 rfl (by exact trivial) (pc' := 12) rfl 22 rfl (tgt := 19) rfl (fun c22 => ?_) (fun c22 => ?_)
  · exact hp_ir hm (at1 1 rfl) rfl (by exact trivial) (pc' := 20) rfl 0 rfl rfl (vp_nar_int _) (fun _ e => e)
  · refine hp_if_ge hm (at1 2 rfl) rfl (by exact trivial) (pc' := 16) rfl 21 rfl (tgt := 21) rfl (fun c21 => ?_) (fun c21 => ?_)
    · refine hp_cI (L0 := [(3, (.ref 57)), (0, (.ref 1)), (1, (.int x1)), (2, (.int x2))]) (s0 := []) 30 73 ?_ (fun c5 => ?_) (fun c5 => ?_)
      · refine hp_or ?_
        refine hp_if_eq hm (at1 3 rfl) rfl (by exact trivial) (pc' := 22) rfl 2 rfl (tgt := 30) rfl (fun c2 => ?_) (fun c2 => ?_)
        · exact hp_l0 (fun _ e => e)
        · refine hp_dec ?_
          refine hp_ic_ne hm (at1 4 rfl) rfl (by exact trivial) (pc' := 27) rfl 1 rfl (tgt := 73) rfl (fun c1 => ?_) (fun c1 => ?_)
          · exact hp_l0 (fun _ e => e)
          · exact hp_l0 (fun _ e => e)
      · refine hp_JZ 46 (fun (p6 : Int32) => [(1, (.int x1)), (2, (.int x2)), (3, (.ref 57))]) (fun (p6 : Int32) => [(.int p6), (.int x2)]) (fun (p6 : Int32) => h) ?_ (fun p6 => ?_)
        · refine hp_sv0 ?_
          refine hp_if_ne hm (at1 5 rfl) rfl (by exact trivial) (pc' := 32) rfl 4 rfl (tgt := 42) rfl (fun c7 => ?_) (fun c7 => ?_)
          · refine hp_b hm (at1 6 rfl) (L' := [(3, (.ref 57)), (0, (.ref 1)), (1, (.int x1)), (2, (.int x2))]) (st' := [(.int (rdI h 57 3)), (.int x2)]) rfl (by exact og_57) (pc' := 46) rfl ?_
            exact hp_lf [2, 3, 0] rfl (fun _ e => e)
          · refine hp_b hm (at1 7 rfl) (L' := [(3, (.ref 57)), (0, (.ref 1)), (1, (.int x1)), (2, (.int x2))]) (st' := [(.int (rdI h 57 1)), (.int x2)]) rfl (by exact og_57) (pc' := 39) rfl ?_
            refine hp_goto hm 3 rfl (tgt := 46) rfl ?_
            exact hp_lf [2, 3, 0] rfl (fun _ e => e)
        · refine hp_ic_lt hm at0 rfl (by exact trivial) (pc' := 46) rfl 9 rfl (tgt := 53) rfl (fun c11 => ?_) (fun c11 => ?_)
          · refine hp_if_ne hm (at1 8 rfl) rfl (by exact trivial) (pc' := 54) rfl 7 rfl (tgt := 66) rfl (fun c10 => ?_) (fun c10 => ?_)
            · refine hp_G hm (at1 9 rfl) (L' := [(1, (.int x1)), (2, (.int x2)), (3, (.ref 57))]) (st' := [(.int (rdI h 59 (Int32.toNatClampNeg x2)))]) rfl (fun hP => (by exact ⟨og_57, ⟨og_59, hP⟩⟩)) (pc' := 72) rfl (fun q8 => ?_)
              exact hp_ir hm at0 rfl (by exact trivial) (pc' := 72) rfl 5 rfl rfl (vp_nar_int _) (fun _ e => e)
            · refine hp_G hm (at1 10 rfl) (L' := [(1, (.int x1)), (2, (.int x2)), (3, (.ref 57))]) (st' := [(.int (rdI h 58 (Int32.toNatClampNeg x2)))]) rfl (fun hP => (by exact ⟨og_57, ⟨og_58, hP⟩⟩)) (pc' := 63) rfl (fun q9 => ?_)
              refine hp_goto hm 6 rfl (tgt := 72) rfl ?_
              exact hp_ir hm at0 rfl (by exact trivial) (pc' := 72) rfl 5 rfl rfl (vp_nar_int _) (fun _ e => e)
          · refine hp_b hm (at1 11 rfl) (L' := [(1, (.int x1)), (2, (.int x2)), (3, (.ref 57))]) (st' := [(.int (0 : Int32))]) rfl (by exact trivial) (pc' := 50) rfl ?_
            refine hp_goto hm 8 rfl (tgt := 72) rfl ?_
            exact hp_ir hm at0 rfl (by exact trivial) (pc' := 72) rfl 5 rfl rfl (vp_nar_int _) (fun _ e => e)
      · refine hp_ic_lt hm (at1 12 rfl) rfl (by exact ⟨og_57, og_60⟩) (pc' := 81) rfl 20 rfl (tgt := 86) rfl (fun c20 => ?_) (fun c20 => ?_)
        · refine hp_ic_ne hm (at1 13 rfl) rfl (by exact trivial) (pc' := 88) rfl 18 rfl (tgt := 103) rfl (fun c19 => ?_) (fun c19 => ?_)
          · refine hp_ic_ne hm (at1 14 rfl) rfl (by exact trivial) (pc' := 105) rfl 16 rfl (tgt := 120) rfl (fun c17 => ?_) (fun c17 => ?_)
            · refine hp_ic_ne hm (at1 15 rfl) rfl (by exact trivial) (pc' := 122) rfl 14 rfl (tgt := 137) rfl (fun c15 => ?_) (fun c15 => ?_)
              · refine hp_ic_ne hm (at1 16 rfl) rfl (by exact trivial) (pc' := 139) rfl 12 rfl (tgt := 154) rfl (fun c13 => ?_) (fun c13 => ?_)
                · refine hp_b hm (at1 17 rfl) (L' := [(3, (.ref 57)), (0, (.ref 1)), (1, (.int x1)), (2, (.int x2))]) (st' := [(.int (0 : Int32))]) rfl (by exact trivial) (pc' := 155) rfl ?_
                  exact hp_ir hm at0 rfl (by exact trivial) (pc' := 155) rfl 10 rfl rfl (vp_nar_int _) (fun _ e => e)
                · refine hp_G hm (at1 18 rfl) (L' := [(3, (.ref 57)), (0, (.ref 1)), (1, (.int x1)), (2, (.int x2))]) (st' := [(.int (rdI h 62 (Int32.toNatClampNeg x2)))]) rfl (fun hP => (by exact ⟨⟨og_57, og_60⟩, ⟨og_62, hP⟩⟩)) (pc' := 151) rfl (fun q12 => ?_)
                  refine hp_goto hm 11 rfl (tgt := 155) rfl ?_
                  exact hp_ir hm at0 rfl (by exact trivial) (pc' := 155) rfl 10 rfl rfl (vp_nar_int _) (fun _ e => e)
              · refine hp_G hm (at1 19 rfl) (L' := [(3, (.ref 57)), (0, (.ref 1)), (1, (.int x1)), (2, (.int x2))]) (st' := [(.int (rdI h 61 (Int32.toNatClampNeg x2)))]) rfl (fun hP => (by exact ⟨⟨og_57, og_60⟩, ⟨og_61, hP⟩⟩)) (pc' := 134) rfl (fun q14 => ?_)
                refine hp_goto hm 13 rfl (tgt := 155) rfl ?_
                exact hp_ir hm at0 rfl (by exact trivial) (pc' := 155) rfl 10 rfl rfl (vp_nar_int _) (fun _ e => e)
            · refine hp_G hm (at1 20 rfl) (L' := [(3, (.ref 57)), (0, (.ref 1)), (1, (.int x1)), (2, (.int x2))]) (st' := [(.int (rdI h 64 (Int32.toNatClampNeg x2)))]) rfl (fun hP => (by exact ⟨⟨og_57, og_60⟩, ⟨og_64, hP⟩⟩)) (pc' := 117) rfl (fun q16 => ?_)
              refine hp_goto hm 15 rfl (tgt := 155) rfl ?_
              exact hp_ir hm at0 rfl (by exact trivial) (pc' := 155) rfl 10 rfl rfl (vp_nar_int _) (fun _ e => e)
          · refine hp_G hm (at1 21 rfl) (L' := [(3, (.ref 57)), (0, (.ref 1)), (1, (.int x1)), (2, (.int x2))]) (st' := [(.int (rdI h 63 (Int32.toNatClampNeg x2)))]) rfl (fun hP => (by exact ⟨⟨og_57, og_60⟩, ⟨og_63, hP⟩⟩)) (pc' := 100) rfl (fun q18 => ?_)
            refine hp_goto hm 17 rfl (tgt := 155) rfl ?_
            exact hp_ir hm at0 rfl (by exact trivial) (pc' := 155) rfl 10 rfl rfl (vp_nar_int _) (fun _ e => e)
        · exact hp_ir hm (at1 22 rfl) rfl (by exact trivial) (pc' := 85) rfl 19 rfl rfl (vp_nar_int _) (fun _ e => e)
    · exact hp_ir hm (at1 1 rfl) rfl (by exact trivial) (pc' := 20) rfl 0 rfl rfl (vp_nar_int _) (fun _ e => e)
