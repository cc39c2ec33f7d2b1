/-! LAYER 2b: methods (printed by gen/dec.py): Fo_areGlyphs Fo_recordOf Fo_isPlainMap Fo_endOf Fo_beginOfSegment Fo_offsetOf Fo_isSegments Fo_isGroups Fo_isMap Fo_isKern Fo_arePrograms Fo_metricsAndGlyphs Fo_load HH_load Fo_what HH_font HH_table Fo_plain Fo_deltaOf Fo_segment Fo_group Fo_glyphOf HH_glyphOf HH_isGlyph JM_min_2 Fo_advance Fo_bearing Fo_sizeOf HH_glyph Fo_kern HH_kern JM_abs HH_over Ma_scaled Zo_place Zo_clear Se_clear -/
/-! HintHouse$Font.areGlyphs()Z -/
def M_Fo_areGlyphs : hM := (2, ⟨"HintHouse$Font", "areGlyphs", "()Z"⟩, prog_3_method_16_code, 3, (Option.some Jvm.ClassFile.FieldType.boolean), [], [(0, [(.iconst 0, 1, 0, 0, 0, (.int (0 : Int32))), (.istore_n 1, 1, 0, 0, 0, .null)]), (2, [(.iload_n 1, 1, 0, 0, 0, .null), (.aload_n 0, 1, 0, 0, 0, .null), (.getfield 109, 3, 2, 8, 0, .null)]), (10, [(.aload_n 0, 1, 0, 0, 0, .null), (.iload_n 1, 1, 0, 0, 0, .null), (.aload_n 0, 1, 0, 0, 0, .null), (.getfield 34, 3, 2, 31, 4, .null)]), (24, [(.aload_n 0, 1, 0, 0, 0, .null), (.getfield 38, 3, 2, 32, 4, .null), (.iload_n 1, 1, 0, 0, 0, .null), (.aload_n 0, 1, 0, 0, 0, .null), (.getfield 34, 3, 2, 31, 4, .null), (.getfield 217, 3, 3, 9, 0, .null)]), (43, [(.iconst (-1), 1, 0, 0, 0, (.int (-1 : Int32)))]), (39, [(.iconst 0, 1, 0, 0, 0, (.int (0 : Int32)))]), (44, [(.iastore, 1, 0, 0, 0, .null)]), (45, [(.iinc 1 1, 3, 0, 0, 0, (.int (1 : Int32)))]), (22, [(.iconst 0, 1, 0, 0, 0, (.int (0 : Int32)))]), (51, [(.iconst 1, 1, 0, 0, 0, (.int (1 : Int32))), (.istore_n 1, 1, 0, 0, 0, .null)]), (53, [(.iload_n 1, 1, 0, 0, 0, .null), (.aload_n 0, 1, 0, 0, 0, .null), (.getfield 194, 3, 2, 15, 0, .null)]), (61, [(.iconst 0, 1, 0, 0, 0, (.int (0 : Int32))), (.istore_n 2, 1, 0, 0, 0, .null)]), (63, [(.iload_n 2, 1, 0, 0, 0, .null), (.aload_n 0, 1, 0, 0, 0, .null), (.getfield 109, 3, 2, 8, 0, .null)]), (71, [(.aload_n 0, 1, 0, 0, 0, .null), (.getfield 38, 3, 2, 32, 4, .null), (.iload_n 2, 1, 0, 0, 0, .null), (.aload_n 0, 1, 0, 0, 0, .null), (.getfield 38, 3, 2, 32, 4, .null), (.iload_n 2, 1, 0, 0, 0, .null), (.iaload, 1, 0, 0, 0, .null), (.iconst (-1), 1, 0, 0, 0, (.int (-1 : Int32)))]), (86, [(.aload_n 0, 1, 0, 0, 0, .null), (.iload_n 2, 1, 0, 0, 0, .null), (.iload_n 1, 1, 0, 0, 0, .null)]), (95, [(.iload_n 1, 1, 0, 0, 0, .null)]), (99, [(.aload_n 0, 1, 0, 0, 0, .null), (.getfield 38, 3, 2, 32, 4, .null), (.iload_n 2, 1, 0, 0, 0, .null), (.iaload, 1, 0, 0, 0, .null)]), (105, [(.iastore, 1, 0, 0, 0, .null)]), (106, [(.iinc 2 1, 3, 0, 0, 0, (.int (1 : Int32)))]), (112, [(.iinc 1 1, 3, 0, 0, 0, (.int (1 : Int32)))]), (118, [(.iconst 1, 1, 0, 0, 0, (.int (1 : Int32))), (.istore_n 1, 1, 0, 0, 0, .null), (.iconst 0, 1, 0, 0, 0, (.int (0 : Int32))), (.istore_n 2, 1, 0, 0, 0, .null)]), (122, [(.iload_n 2, 1, 0, 0, 0, .null), (.aload_n 0, 1, 0, 0, 0, .null), (.getfield 109, 3, 2, 8, 0, .null)]), (130, [(.iload_n 1, 1, 0, 0, 0, .null)]), (148, [(.iconst 0, 1, 0, 0, 0, (.int (0 : Int32)))]), (134, [(.aload_n 0, 1, 0, 0, 0, .null), (.getfield 38, 3, 2, 32, 4, .null), (.iload_n 2, 1, 0, 0, 0, .null), (.iaload, 1, 0, 0, 0, .null), (.iconst (-1), 1, 0, 0, 0, (.int (-1 : Int32)))]), (144, [(.iconst 1, 1, 0, 0, 0, (.int (1 : Int32)))]), (149, [(.istore_n 1, 1, 0, 0, 0, .null), (.iinc 2 1, 3, 0, 0, 0, (.int (1 : Int32)))]), (156, [(.iload_n 1, 1, 0, 0, 0, .null)])], [(16, .invokevirtual 214, 3), (40, .goto 4, 3), (36, .ifCond .ne 7, 3), (48, .goto (-46), 3), (23, .ireturn, 1), (19, .ifCond .ne 5, 3), (7, .if_icmp .ge 44, 3), (89, .invokevirtual 220, 3), (92, .ifCond .eq 7, 3), (83, .if_icmp .ne 16, 3), (96, .goto 9, 3), (109, .goto (-46), 3), (68, .if_icmp .ge 44, 3), (115, .goto (-62), 3), (58, .if_icmp .gt 60, 3), (145, .goto 4, 3), (141, .if_icmp .eq 7, 3), (131, .ifCond .eq 17, 3), (153, .goto (-31), 3), (127, .if_icmp .ge 29, 3), (157, .ireturn, 1)])
set_option maxRecDepth 100000 in
theorem m_Fo_areGlyphs : hx_mok M_Fo_areGlyphs = true := by decide +kernel
theorem pd_Fo_areGlyphs : (parseMethodDescriptor M_Fo_areGlyphs.2.1.desc).map (fun q => q.parameters.length) = some 0 := by decide +kernel
theorem y_Fo_areGlyphs : hx_okV M_Fo_areGlyphs := ⟨⟨lw_g (lw_at lw_m4 147 rfl) rfl, lw_g (lw_at lw_m4 146 rfl) rfl, qs11, lw_g (lw_at lw_m1 3 rfl) rfl, rfl, by decide, by decide, by decide⟩, rfl, by decide, plainFor_of_name (by decide)⟩
noncomputable def f_Fo_areGlyphs (h : hH) : Option (Int32 × hH) :=
  bE (P := hH) (X := (Int32 × hH)) (
    wh (A := (Int32 × hH)) (B := (hH ⊕ (Int32 × hH))) (fun p1 =>
        if (rdI p1.2 4 8) ≤ p1.1 then (
          some (.inr (.inl p1.2))
        ) else (
          bS (f_Fo_read p1.1 11 p1.2) fun a3 h1 =>
          if a3 = 0 then (
            some (.inr (.inr ((0 : Int32), h1)))
          ) else (
            lz (A := Int32) (if (rdI h1 11 9) = 0 then (0 : Int32) else (-1 : Int32)) fun p4 =>
            gd (vp_in p1.1 200) <|
            lz (wrI h1 21 (Int32.toNatClampNeg p1.1) p4) fun h2 =>
            lz (A := Int32) (p1.1 + (1 : Int32)) fun v7 =>
            some (.inl (v7, h2))
          )
        )
    ) ((0 : Int32), h)
  ) fun p2 =>
  bP (A := hH) (
    wh (A := (Int32 × hH)) (B := hH) (fun p10 =>
        if (rdI p10.2 4 15) < p10.1 then (
          some (.inr p10.2)
        ) else (
          bP (A := hH) (
            wh (A := (Int32 × hH)) (B := hH) (fun p12 =>
                if (rdI p12.2 4 8) ≤ p12.1 then (
                  some (.inr p12.2)
                ) else (
                  gd (vp_in p12.1 200) <|
                  bP (A := (Int32 × hH)) (
                    cS (
                      if (rdI p12.2 21 (Int32.toNatClampNeg p12.1)) = (-1 : Int32) then (
                        bS (f_Fo_isBelow p12.1 p10.1 p12.2) fun a16 h3 =>
                        if a16 = 0 then (
                          some (false, h3)
                        ) else (
                          some (true, h3)
                        )
                      ) else (
                        some (false, p12.2)
                      )
                    ) (fun h5 =>
                      some (p10.1, h5)
                    ) (fun h5 =>
                      gd (vp_in p12.1 200) <|
                      some ((rdI h5 21 (Int32.toNatClampNeg p12.1)), h5)
                    )
                  ) fun p15 =>
                  gd (vp_in p12.1 200) <|
                  lz (wrI p15.2 21 (Int32.toNatClampNeg p12.1) p15.1) fun h6 =>
                  lz (A := Int32) (p12.1 + (1 : Int32)) fun v24 =>
                  some (.inl (v24, h6))
                )
            ) ((0 : Int32), p10.2)
          ) fun p13 =>
          lz (A := Int32) (p10.1 + (1 : Int32)) fun v26 =>
          some (.inl (v26, p13))
        )
    ) ((1 : Int32), p2)
  ) fun p11 =>
  bP (A := Int32) (
    wh (A := (Int32 × Int32)) (B := Int32) (fun p28 =>
        if (rdI p11 4 8) ≤ p28.2 then (
          some (.inr p28.1)
        ) else (
          bP (A := Int32) (
            if p28.1 = 0 then (
              some (0 : Int32)
            ) else (
              gd (vp_in p28.2 200) <|
              if (rdI p11 21 (Int32.toNatClampNeg p28.2)) = (-1 : Int32) then (
                some (0 : Int32)
              ) else (
                some (1 : Int32)
              )
            )
          ) fun p30 =>
          lz (A := Int32) (p28.2 + (1 : Int32)) fun v34 =>
          some (.inl (p30, v34))
        )
    ) ((1 : Int32), (0 : Int32))
  ) fun p29 =>
  gd ((p29 = 0 ∨ p29 = 1)) <|
  some (p29, p11)
set_option maxRecDepth 20000 in
theorem k_Fo_areGlyphs (h : hH) : hx_kS S0 M_Fo_areGlyphs 9 NT [(.ref 4)] h (f_Fo_areGlyphs h) cvI := by
  have hm := m_Fo_areGlyphs
  show hx_P S0 M_Fo_areGlyphs 9 0 [(0, (.ref 4))] [] NT h (f_Fo_areGlyphs h) (hx_Rc cvI NT)
  unfold f_Fo_areGlyphs
  refine hp_b hm (at1 0 rfl) (L' := [(1, (.int (0 : Int32))), (0, (.ref 4))]) (st' := []) rfl (by exact trivial) (pc' := 2) rfl ?_
  refine hp_E 51 (fun (p2 : hH) => [(0, (.ref 4))]) (fun (p2 : hH) => []) (fun (p2 : hH) => p2) ?_ (fun p2 => ?_)
  · refine hp_s [1, 0] rfl (L' := [(0, (.ref 4)), (1, (.int (0 : Int32)))]) ?_
    refine hp_wh (fun (p1 : (Int32 × hH)) => [(0, (.ref 4)), (1, (.int p1.1))]) [] (fun (p1 : (Int32 × hH)) => p1.2) (fun p1 => ?_) ((0 : Int32), h)
    refine hp_ic_ge hm (at1 1 rfl) rfl (by exact og_4) (pc' := 7) rfl 6 rfl (tgt := 51) rfl (fun c9 => ?_) (fun c9 => ?_)
    · exact hp_lf [0] rfl (fun _ e => e)
    · refine hp_cVS (M2 := M_Fo_read) hm (at1 2 rfl) (as := [(.int p1.1), (.ref 11)]) (rest := []) (z := 4) rfl (by exact og_4) (pc' := 16) rfl 0 rfl (lw_g (lw_at lw_m4 148 rfl) rfl) y_Fo_read rfl (d2 := 7) ⟨le_b rfl, pd_Fo_read, le_b rfl⟩ (le_b rfl) og_4 (k_Fo_read p1.1 11 p1.2 og_11) (fun a3 h1 => ?_)
      refine hp_if_ne hm at0 rfl (by exact trivial) (pc' := 19) rfl 5 rfl (tgt := 24) rfl (fun c8 => ?_) (fun c8 => ?_)
      · refine hp_JZ 44 (fun (p4 : Int32) => [(0, (.ref 4)), (1, (.int p1.1))]) (fun (p4 : Int32) => [(.int p4), (.int p1.1), (.ref 21)]) (fun (p4 : Int32) => h1) ?_ (fun p4 => ?_)
        · refine hp_sv0 ?_
          refine hp_if_ne hm (at1 3 rfl) rfl (by exact ⟨⟨og_4, og_4⟩, og_11⟩) (pc' := 36) rfl 2 rfl (tgt := 43) rfl (fun c5 => ?_) (fun c5 => ?_)
          · refine hp_b hm (at1 4 rfl) (L' := [(0, (.ref 4)), (1, (.int p1.1))]) (st' := [(.int (-1 : Int32)), (.int p1.1), (.ref 21)]) rfl (by exact trivial) (pc' := 44) rfl ?_
            exact hp_lf [0, 1] rfl (fun _ e => e)
          · refine hp_b hm (at1 5 rfl) (L' := [(0, (.ref 4)), (1, (.int p1.1))]) (st' := [(.int (0 : Int32)), (.int p1.1), (.ref 21)]) rfl (by exact trivial) (pc' := 40) rfl ?_
            refine hp_goto hm 1 rfl (tgt := 44) rfl ?_
            exact hp_lf [0, 1] rfl (fun _ e => e)
        · refine hp_GW hm (at1 6 rfl) (L' := [(0, (.ref 4)), (1, (.int p1.1))]) rfl (fun hP => (by exact ⟨og_21, hP⟩)) (pc' := 45) rfl (fun q6 h2 => ?_)
          refine hp_z hm (at1 7 rfl) (fun (v7 : Int32) => [(1, (.int v7)), (0, (.ref 4))]) (fun (v7 : Int32) => []) rfl (by exact trivial) (pc' := 48) rfl (fun v7 => ?_)
          refine hp_goto hm 3 rfl (tgt := 2) rfl ?_
          exact hp_lf [1, 0] rfl (fun _ e => e)
      · exact hp_ir hm (at1 8 rfl) rfl (by exact trivial) (pc' := 23) rfl 4 rfl rfl rfl (fun _ e => e)
  · refine hp_b hm (at1 9 rfl) (L' := [(1, (.int (1 : Int32))), (0, (.ref 4))]) (st' := []) rfl (by exact trivial) (pc' := 53) rfl ?_
    refine hp_J 118 (fun (p11 : hH) => [(0, (.ref 4))]) (fun (p11 : hH) => []) (fun (p11 : hH) => p11) ?_ (fun p11 => ?_)
    · refine hp_s [1, 0] rfl (L' := [(0, (.ref 4)), (1, (.int (1 : Int32)))]) ?_
      refine hp_wh (fun (p10 : (Int32 × hH)) => [(0, (.ref 4)), (1, (.int p10.1))]) [] (fun (p10 : (Int32 × hH)) => p10.2) (fun p10 => ?_) ((1 : Int32), p2)
      refine hp_ic_gt hm (at1 10 rfl) rfl (by exact og_4) (pc' := 58) rfl 14 rfl (tgt := 118) rfl (fun c27 => ?_) (fun c27 => ?_)
      · exact hp_lf [0] rfl (fun _ e => e)
      · refine hp_b hm (at1 11 rfl) (L' := [(2, (.int (0 : Int32))), (0, (.ref 4)), (1, (.int p10.1))]) (st' := []) rfl (by exact trivial) (pc' := 63) rfl ?_
        refine hp_J 112 (fun (p13 : hH) => [(0, (.ref 4)), (1, (.int p10.1))]) (fun (p13 : hH) => []) (fun (p13 : hH) => p13) ?_ (fun p13 => ?_)
        · refine hp_s [1, 2, 0] rfl (L' := [(0, (.ref 4)), (1, (.int p10.1)), (2, (.int (0 : Int32)))]) ?_
          refine hp_wh (fun (p12 : (Int32 × hH)) => [(0, (.ref 4)), (1, (.int p10.1)), (2, (.int p12.1))]) [] (fun (p12 : (Int32 × hH)) => p12.2) (fun p12 => ?_) ((0 : Int32), p10.2)
          refine hp_ic_ge hm (at1 12 rfl) rfl (by exact og_4) (pc' := 68) rfl 12 rfl (tgt := 112) rfl (fun c25 => ?_) (fun c25 => ?_)
          · exact hp_lf [0, 1] rfl (fun _ e => e)
          · refine hp_G hm (at1 13 rfl) (L' := [(0, (.ref 4)), (1, (.int p10.1)), (2, (.int p12.1))]) (st' := [(.int (-1 : Int32)), (.int (rdI p12.2 21 (Int32.toNatClampNeg p12.1))), (.int p12.1), (.ref 21)]) rfl (fun hP => (by exact ⟨⟨og_4, og_4⟩, ⟨og_21, hP⟩⟩)) (pc' := 83) rfl (fun q14 => ?_)
            refine hp_J 105 (fun (p15 : (Int32 × hH)) => [(0, (.ref 4)), (1, (.int p10.1)), (2, (.int p12.1))]) (fun (p15 : (Int32 × hH)) => [(.int p15.1), (.int p12.1), (.ref 21)]) (fun (p15 : (Int32 × hH)) => p15.2) ?_ (fun p15 => ?_)
            · refine hp_cS (L0 := [(0, (.ref 4)), (1, (.int p10.1)), (2, (.int p12.1))]) (s0 := [(.int p12.1), (.ref 21)]) 95 99 ?_ (fun h5 => ?_) (fun h5 => ?_)
              · refine hp_ic_ne hm at0 rfl (by exact trivial) (pc' := 83) rfl 9 rfl (tgt := 99) rfl (fun c18 => ?_) (fun c18 => ?_)
                · exact hp_l0 (fun _ e => e)
                · refine hp_cVS (M2 := M_Fo_isBelow) hm (at1 14 rfl) (as := [(.int p12.1), (.int p10.1)]) (rest := [(.int p12.1), (.ref 21)]) (z := 4) rfl (by exact trivial) (pc' := 89) rfl 7 rfl (lw_g (lw_at lw_m4 200 rfl) rfl) y_Fo_isBelow rfl (d2 := 8) ⟨le_b rfl, pd_Fo_isBelow, le_b rfl⟩ (le_b rfl) og_4 (k_Fo_isBelow p12.1 p10.1 p12.2) (fun a16 h3 => ?_)
                  refine hp_if_eq hm at0 rfl (by exact trivial) (pc' := 92) rfl 8 rfl (tgt := 99) rfl (fun c17 => ?_) (fun c17 => ?_)
                  · exact hp_l0 (fun _ e => e)
                  · exact hp_l0 (fun _ e => e)
              · refine hp_b hm (at1 15 rfl) (L' := [(0, (.ref 4)), (1, (.int p10.1)), (2, (.int p12.1))]) (st' := [(.int p10.1), (.int p12.1), (.ref 21)]) rfl (by exact trivial) (pc' := 96) rfl ?_
                refine hp_goto hm 10 rfl (tgt := 105) rfl ?_
                exact hp_lf [0, 1, 2] rfl (fun _ e => e)
              · refine hp_G hm (at1 16 rfl) (L' := [(0, (.ref 4)), (1, (.int p10.1)), (2, (.int p12.1))]) (st' := [(.int (rdI h5 21 (Int32.toNatClampNeg p12.1))), (.int p12.1), (.ref 21)]) rfl (fun hP => (by exact ⟨og_4, ⟨og_21, hP⟩⟩)) (pc' := 105) rfl (fun q22 => ?_)
                exact hp_lf [0, 1, 2] rfl (fun _ e => e)
            · refine hp_GW hm (at1 17 rfl) (L' := [(0, (.ref 4)), (1, (.int p10.1)), (2, (.int p12.1))]) rfl (fun hP => (by exact ⟨og_21, hP⟩)) (pc' := 106) rfl (fun q23 h6 => ?_)
              refine hp_z hm (at1 18 rfl) (fun (v24 : Int32) => [(2, (.int v24)), (0, (.ref 4)), (1, (.int p10.1))]) (fun (v24 : Int32) => []) rfl (by exact trivial) (pc' := 109) rfl (fun v24 => ?_)
              refine hp_goto hm 11 rfl (tgt := 63) rfl ?_
              exact hp_lf [1, 2, 0] rfl (fun _ e => e)
        · refine hp_z hm (at1 19 rfl) (fun (v26 : Int32) => [(1, (.int v26)), (0, (.ref 4))]) (fun (v26 : Int32) => []) rfl (by exact trivial) (pc' := 115) rfl (fun v26 => ?_)
          refine hp_goto hm 13 rfl (tgt := 53) rfl ?_
          exact hp_lf [1, 0] rfl (fun _ e => e)
    · refine hp_b hm (at1 20 rfl) (L' := [(2, (.int (0 : Int32))), (1, (.int (1 : Int32))), (0, (.ref 4))]) (st' := []) rfl (by exact trivial) (pc' := 122) rfl ?_
      refine hp_J 156 (fun (p29 : Int32) => [(1, (.int p29))]) (fun (p29 : Int32) => []) (fun (p29 : Int32) => p11) ?_ (fun p29 => ?_)
      · refine hp_s [2, 1, 0] rfl (L' := [(0, (.ref 4)), (1, (.int (1 : Int32))), (2, (.int (0 : Int32)))]) ?_
        refine hp_wh (fun (p28 : (Int32 × Int32)) => [(0, (.ref 4)), (1, (.int p28.1)), (2, (.int p28.2))]) [] (fun (p28 : (Int32 × Int32)) => p11) (fun p28 => ?_) ((1 : Int32), (0 : Int32))
        refine hp_ic_ge hm (at1 21 rfl) rfl (by exact og_4) (pc' := 127) rfl 19 rfl (tgt := 156) rfl (fun c35 => ?_) (fun c35 => ?_)
        · exact hp_lf [1] rfl (fun _ e => e)
        · refine hp_J 149 (fun (p30 : Int32) => [(0, (.ref 4)), (2, (.int p28.2))]) (fun (p30 : Int32) => [(.int p30)]) (fun (p30 : Int32) => p11) ?_ (fun p30 => ?_)
          · refine hp_if_eq hm (at1 22 rfl) rfl (by exact trivial) (pc' := 131) rfl 17 rfl (tgt := 148) rfl (fun c33 => ?_) (fun c33 => ?_)
            · refine hp_b hm (at1 23 rfl) (L' := [(0, (.ref 4)), (1, (.int p28.1)), (2, (.int p28.2))]) (st' := [(.int (0 : Int32))]) rfl (by exact trivial) (pc' := 149) rfl ?_
              exact hp_lf [0, 2] rfl (fun _ e => e)
            · refine hp_G hm (at1 24 rfl) (L' := [(0, (.ref 4)), (1, (.int p28.1)), (2, (.int p28.2))]) (st' := [(.int (-1 : Int32)), (.int (rdI p11 21 (Int32.toNatClampNeg p28.2)))]) rfl (fun hP => (by exact ⟨og_4, ⟨og_21, hP⟩⟩)) (pc' := 141) rfl (fun q31 => ?_)
              refine hp_ic_eq hm at0 rfl (by exact trivial) (pc' := 141) rfl 16 rfl (tgt := 148) rfl (fun c32 => ?_) (fun c32 => ?_)
              · refine hp_b hm (at1 23 rfl) (L' := [(0, (.ref 4)), (1, (.int p28.1)), (2, (.int p28.2))]) (st' := [(.int (0 : Int32))]) rfl (by exact trivial) (pc' := 149) rfl ?_
                exact hp_lf [0, 2] rfl (fun _ e => e)
              · refine hp_b hm (at1 25 rfl) (L' := [(0, (.ref 4)), (1, (.int p28.1)), (2, (.int p28.2))]) (st' := [(.int (1 : Int32))]) rfl (by exact trivial) (pc' := 145) rfl ?_
                refine hp_goto hm 15 rfl (tgt := 149) rfl ?_
                exact hp_lf [0, 2] rfl (fun _ e => e)
          · refine hp_z hm (at1 26 rfl) (fun (v34 : Int32) => [(2, (.int v34)), (1, (.int p30)), (0, (.ref 4))]) (fun (v34 : Int32) => []) rfl (by exact trivial) (pc' := 153) rfl (fun v34 => ?_)
            refine hp_goto hm 18 rfl (tgt := 122) rfl ?_
            exact hp_lf [2, 1, 0] rfl (fun _ e => e)
      · refine hp_G hm (at1 27 rfl) (L' := [(1, (.int p29))]) (st' := [(.int p29)]) rfl (fun hP => (by exact trivial)) (pc' := 157) rfl (fun q36 => ?_)
        exact hp_ir hm at0 rfl (by exact trivial) (pc' := 157) rfl 20 rfl rfl (nar01 q36) (fun _ e => e)
/-! HintHouse$Font.recordOf(IIII)I -/
def M_Fo_recordOf : hM := (2, ⟨"HintHouse$Font", "recordOf", "(IIII)I"⟩, prog_3_method_21_code, 7, (Option.some Jvm.ClassFile.FieldType.int), [], [(0, [(.iconst 0, 1, 0, 0, 0, (.int (0 : Int32))), (.istore 5, 2, 0, 0, 0, .null)]), (3, [(.iload 5, 2, 0, 0, 0, .null), (.iload_n 2, 1, 0, 0, 0, .null)]), (9, [(.iload_n 1, 1, 0, 0, 0, .null), (.iconst 4, 1, 0, 0, 0, (.int (4 : Int32))), (.iadd, 1, 0, 0, 0, .null), (.bipush 8, 2, 0, 0, 0, (.int (8 : Int32))), (.iload 5, 2, 0, 0, 0, .null), (.imul, 1, 0, 0, 0, .null), (.iadd, 1, 0, 0, 0, .null), (.istore 6, 2, 0, 0, 0, .null)]), (20, [(.aload_n 0, 1, 0, 0, 0, .null), (.getfield 12, 3, 2, 0, 4, .null), (.iload 6, 2, 0, 0, 0, .null)]), (29, [(.iload_n 3, 1, 0, 0, 0, .null)]), (33, [(.aload_n 0, 1, 0, 0, 0, .null), (.getfield 12, 3, 2, 0, 4, .null), (.iload 6, 2, 0, 0, 0, .null), (.iconst 2, 1, 0, 0, 0, (.int (2 : Int32))), (.iadd, 1, 0, 0, 0, .null)]), (44, [(.iload 4, 2, 0, 0, 0, .null)]), (49, [(.iload 6, 2, 0, 0, 0, .null)]), (52, [(.iinc 5 1, 3, 0, 0, 0, (.int (1 : Int32)))]), (58, [(.iconst (-1), 1, 0, 0, 0, (.int (-1 : Int32)))])], [(26, .invokevirtual 102, 3), (41, .invokevirtual 102, 3), (46, .if_icmp .ne 6, 3), (30, .if_icmp .ne 22, 3), (51, .ireturn, 1), (55, .goto (-52), 3), (6, .if_icmp .ge 52, 3), (59, .ireturn, 1)])
set_option maxRecDepth 100000 in
theorem m_Fo_recordOf : hx_mok M_Fo_recordOf = true := by decide +kernel
theorem pd_Fo_recordOf : (parseMethodDescriptor M_Fo_recordOf.2.1.desc).map (fun q => q.parameters.length) = some 4 := by decide +kernel
theorem y_Fo_recordOf : hx_okV M_Fo_recordOf := ⟨⟨lw_g (lw_at lw_m4 211 rfl) rfl, lw_g (lw_at lw_m4 210 rfl) rfl, qs22, lw_g (lw_at lw_m1 3 rfl) rfl, rfl, by decide, by decide, by decide⟩, rfl, by decide, plainFor_of_name (by decide)⟩
noncomputable def f_Fo_recordOf (x1 : Int32) (x2 : Int32) (x3 : Int32) (x4 : Int32) (h : hH) : Option Int32 :=
  bE (P := Unit) (X := Int32) (
    wh (A := Int32) (B := (Unit ⊕ Int32)) (fun p1 =>
        if x2 ≤ p1 then (
          some (.inr (.inl ()))
        ) else (
          lz (A := Int32) ((x1 + (4 : Int32)) + ((8 : Int32) * p1)) fun v3 =>
          bP (f_By_u2 5 v3 h) fun a4 =>
          cO (
            if a4 = x3 then (
              bP (f_By_u2 5 (v3 + (2 : Int32)) h) fun a5 =>
              if a5 = x4 then (
                some true
              ) else (
                some false
              )
            ) else (
              some false
            )
          ) (
            some (.inr (.inr v3))
          ) (
            lz (A := Int32) (p1 + (1 : Int32)) fun v11 =>
            some (.inl v11)
          )
        )
    ) (0 : Int32)
  ) fun p2 =>
  some (-1 : Int32)
set_option maxRecDepth 20000 in
theorem k_Fo_recordOf (x1 : Int32) (x2 : Int32) (x3 : Int32) (x4 : Int32) (h : hH) : hx_kP S0 M_Fo_recordOf 3 NT [(.ref 4), (.int x1), (.int x2), (.int x3), (.int x4)] h (f_Fo_recordOf x1 x2 x3 x4 h) cvI := by
  have hm := m_Fo_recordOf
  show hx_P S0 M_Fo_recordOf 3 0 [(0, (.ref 4)), (1, (.int x1)), (2, (.int x2)), (3, (.int x3)), (4, (.int x4))] [] NT h (f_Fo_recordOf x1 x2 x3 x4 h) (hx_Rp cvI NT h)
  unfold f_Fo_recordOf
  refine hp_b hm (at1 0 rfl) (L' := [(5, (.int (0 : Int32))), (0, (.ref 4)), (1, (.int x1)), (2, (.int x2)), (3, (.int x3)), (4, (.int x4))]) (st' := []) rfl (by exact trivial) (pc' := 3) rfl ?_
  refine hp_E 58 (fun (p2 : Unit) => []) (fun (p2 : Unit) => []) (fun (p2 : Unit) => h) ?_ (fun p2 => ?_)
  · refine hp_s [1, 2, 3, 4, 5, 0] rfl (L' := [(0, (.ref 4)), (1, (.int x1)), (2, (.int x2)), (3, (.int x3)), (4, (.int x4)), (5, (.int (0 : Int32)))]) ?_
    refine hp_wh (fun (p1 : Int32) => [(0, (.ref 4)), (1, (.int x1)), (2, (.int x2)), (3, (.int x3)), (4, (.int x4)), (5, (.int p1))]) [] (fun (p1 : Int32) => h) (fun p1 => ?_) (0 : Int32)
    refine hp_ic_ge hm (at1 1 rfl) rfl (by exact trivial) (pc' := 6) rfl 6 rfl (tgt := 58) rfl (fun c12 => ?_) (fun c12 => ?_)
    · exact hp_lf [] rfl (fun _ e => e)
    · refine hp_z hm (at1 2 rfl) (fun (v3 : Int32) => [(6, (.int v3)), (0, (.ref 4)), (1, (.int x1)), (2, (.int x2)), (3, (.int x3)), (4, (.int x4)), (5, (.int p1))]) (fun (v3 : Int32) => []) rfl (by exact trivial) (pc' := 20) rfl (fun v3 => ?_)
      refine hp_cVP (M2 := M_By_u2) hm (at1 3 rfl) (as := [(.int v3)]) (rest := []) (z := 5) rfl (by exact og_4) (pc' := 26) rfl 0 rfl (lw_g (lw_at lw_m4 75 rfl) rfl) y_By_u2 rfl (d2 := 2) ⟨le_b rfl, pd_By_u2, le_b rfl⟩ (le_b rfl) og_5 (k_By_u2 5 v3 h og_5) (fun a4 => ?_)
      refine hp_cO (L0 := [(6, (.int v3)), (0, (.ref 4)), (1, (.int x1)), (2, (.int x2)), (3, (.int x3)), (4, (.int x4)), (5, (.int p1))]) (s0 := []) 49 52 ?_ ?_ ?_
      · refine hp_ic_ne hm (at1 4 rfl) rfl (by exact trivial) (pc' := 30) rfl 3 rfl (tgt := 52) rfl (fun c7 => ?_) (fun c7 => ?_)
        · exact hp_l0 (fun _ e => e)
        · refine hp_cVP (M2 := M_By_u2) hm (at1 5 rfl) (as := [(.int (v3 + (2 : Int32)))]) (rest := []) (z := 5) rfl (by exact og_4) (pc' := 41) rfl 1 rfl (lw_g (lw_at lw_m4 75 rfl) rfl) y_By_u2 rfl (d2 := 2) ⟨le_b rfl, pd_By_u2, le_b rfl⟩ (le_b rfl) og_5 (k_By_u2 5 (v3 + (2 : Int32)) h og_5) (fun a5 => ?_)
          refine hp_ic_ne hm (at1 6 rfl) rfl (by exact trivial) (pc' := 46) rfl 2 rfl (tgt := 52) rfl (fun c6 => ?_) (fun c6 => ?_)
          · exact hp_l0 (fun _ e => e)
          · exact hp_l0 (fun _ e => e)
      · exact hp_ir hm (at1 7 rfl) rfl (by exact trivial) (pc' := 51) rfl 4 rfl rfl (vp_nar_int _) (fun _ e => e)
      · refine hp_z hm (at1 8 rfl) (fun (v11 : Int32) => [(5, (.int v11)), (6, (.int v3)), (0, (.ref 4)), (1, (.int x1)), (2, (.int x2)), (3, (.int x3)), (4, (.int x4))]) (fun (v11 : Int32) => []) rfl (by exact trivial) (pc' := 55) rfl (fun v11 => ?_)
        refine hp_goto hm 5 rfl (tgt := 3) rfl ?_
        exact hp_lf [2, 3, 4, 5, 6, 0] rfl (fun _ e => e)
  · exact hp_ir hm (at1 9 rfl) rfl (by exact trivial) (pc' := 59) rfl 7 rfl rfl (vp_nar_int _) (fun _ e => e)
/-! HintHouse$Font.isPlainMap(I)Z -/
def M_Fo_isPlainMap : hM := (2, ⟨"HintHouse$Font", "isPlainMap", "(I)Z"⟩, prog_3_method_22_code, 2, (Option.some Jvm.ClassFile.FieldType.boolean), [], [(0, [(.aload_n 0, 1, 0, 0, 0, .null), (.sipush 256, 3, 0, 0, 0, (.int (256 : Int32))), (.putfield 253, 3, 2, 22, 0, .null)]), (7, [(.iload_n 1, 1, 0, 0, 0, .null), (.sipush 262, 3, 0, 0, 0, (.int (262 : Int32)))]), (37, [(.iconst 0, 1, 0, 0, 0, (.int (0 : Int32)))]), (14, [(.aload_n 0, 1, 0, 0, 0, .null), (.getfield 12, 3, 2, 0, 4, .null), (.aload_n 0, 1, 0, 0, 0, .null), (.getfield 240, 3, 2, 20, 0, .null), (.iconst 2, 1, 0, 0, 0, (.int (2 : Int32))), (.iadd, 1, 0, 0, 0, .null)]), (27, [(.sipush 262, 3, 0, 0, 0, (.int (262 : Int32)))]), (33, [(.iconst 1, 1, 0, 0, 0, (.int (1 : Int32)))])], [(38, .ireturn, 1), (24, .invokevirtual 102, 3), (34, .goto 4, 3), (30, .if_icmp .ne 7, 3), (11, .if_icmp .lt 26, 3)])
set_option maxRecDepth 100000 in
theorem m_Fo_isPlainMap : hx_mok M_Fo_isPlainMap = true := by decide +kernel
theorem pd_Fo_isPlainMap : (parseMethodDescriptor M_Fo_isPlainMap.2.1.desc).map (fun q => q.parameters.length) = some 1 := by decide +kernel
theorem y_Fo_isPlainMap : hx_okV M_Fo_isPlainMap := ⟨⟨lw_g (lw_at lw_m4 215 rfl) rfl, lw_g (lw_at lw_m4 214 rfl) rfl, qs23, lw_g (lw_at lw_m1 3 rfl) rfl, rfl, by decide, by decide, by decide⟩, rfl, by decide, plainFor_of_name (by decide)⟩
noncomputable def f_Fo_isPlainMap (x1 : Int32) (h : hH) : Option (Int32 × hH) :=
  lz (wrI h 4 22 (256 : Int32)) fun h1 =>
  if x1 < (262 : Int32) then (
    some ((0 : Int32), h1)
  ) else (
    bP (f_By_u2 5 ((rdI h1 4 20) + (2 : Int32)) h1) fun a1 =>
    if a1 = (262 : Int32) then (
      some ((1 : Int32), h1)
    ) else (
      some ((0 : Int32), h1)
    )
  )
set_option maxRecDepth 20000 in
theorem k_Fo_isPlainMap (x1 : Int32) (h : hH) : hx_kS S0 M_Fo_isPlainMap 3 NT [(.ref 4), (.int x1)] h (f_Fo_isPlainMap x1 h) cvI := by
  have hm := m_Fo_isPlainMap
  show hx_P S0 M_Fo_isPlainMap 3 0 [(0, (.ref 4)), (1, (.int x1))] [] NT h (f_Fo_isPlainMap x1 h) (hx_Rc cvI NT)
  unfold f_Fo_isPlainMap
  refine hp_w hm (at1 0 rfl) (L' := [(0, (.ref 4)), (1, (.int x1))]) rfl (by exact og_4) (pc' := 7) rfl (fun h1 => ?_)
  refine hp_ic_lt hm (at1 1 rfl) rfl (by exact trivial) (pc' := 11) rfl 4 rfl (tgt := 37) rfl (fun c3 => ?_) (fun c3 => ?_)
  · refine hp_b hm (at1 2 rfl) (L' := [(0, (.ref 4)), (1, (.int x1))]) (st' := [(.int (0 : Int32))]) rfl (by exact trivial) (pc' := 38) rfl ?_
    exact hp_ir hm at0 rfl (by exact trivial) (pc' := 38) rfl 0 rfl rfl rfl (fun _ e => e)
  · refine hp_cVP (M2 := M_By_u2) hm (at1 3 rfl) (as := [(.int ((rdI h1 4 20) + (2 : Int32)))]) (rest := []) (z := 5) rfl (by exact ⟨og_4, og_4⟩) (pc' := 24) rfl 1 rfl (lw_g (lw_at lw_m4 75 rfl) rfl) y_By_u2 rfl (d2 := 2) ⟨le_b rfl, pd_By_u2, le_b rfl⟩ (le_b rfl) og_5 (k_By_u2 5 ((rdI h1 4 20) + (2 : Int32)) h1 og_5) (fun a1 => ?_)
    refine hp_ic_ne hm (at1 4 rfl) rfl (by exact trivial) (pc' := 30) rfl 3 rfl (tgt := 37) rfl (fun c2 => ?_) (fun c2 => ?_)
    · refine hp_b hm (at1 2 rfl) (L' := [(0, (.ref 4)), (1, (.int x1))]) (st' := [(.int (0 : Int32))]) rfl (by exact trivial) (pc' := 38) rfl ?_
      exact hp_ir hm at0 rfl (by exact trivial) (pc' := 38) rfl 0 rfl rfl rfl (fun _ e => e)
    · refine hp_b hm (at1 5 rfl) (L' := [(0, (.ref 4)), (1, (.int x1))]) (st' := [(.int (1 : Int32))]) rfl (by exact trivial) (pc' := 34) rfl ?_
      refine hp_goto hm 2 rfl (tgt := 38) rfl ?_
      exact hp_ir hm at0 rfl (by exact trivial) (pc' := 38) rfl 0 rfl rfl rfl (fun _ e => e)
/-! HintHouse$Font.endOf(I)I -/
def M_Fo_endOf : hM := (2, ⟨"HintHouse$Font", "endOf", "(I)I"⟩, prog_3_method_24_code, 2, (Option.some Jvm.ClassFile.FieldType.int), [], [(0, [(.aload_n 0, 1, 0, 0, 0, .null), (.getfield 12, 3, 2, 0, 4, .null), (.aload_n 0, 1, 0, 0, 0, .null), (.getfield 240, 3, 2, 20, 0, .null), (.bipush 14, 2, 0, 0, 0, (.int (14 : Int32))), (.iadd, 1, 0, 0, 0, .null), (.iconst 2, 1, 0, 0, 0, (.int (2 : Int32))), (.iload_n 1, 1, 0, 0, 0, .null), (.imul, 1, 0, 0, 0, .null), (.iadd, 1, 0, 0, 0, .null)])], [(15, .invokevirtual 102, 3), (18, .ireturn, 1)])
set_option maxRecDepth 100000 in
theorem m_Fo_endOf : hx_mok M_Fo_endOf = true := by decide +kernel
theorem pd_Fo_endOf : (parseMethodDescriptor M_Fo_endOf.2.1.desc).map (fun q => q.parameters.length) = some 1 := by decide +kernel
theorem y_Fo_endOf : hx_okV M_Fo_endOf := ⟨⟨lw_g (lw_at lw_m4 224 rfl) rfl, lw_g (lw_at lw_m4 223 rfl) rfl, qs25, lw_g (lw_at lw_m1 3 rfl) rfl, rfl, by decide, by decide, by decide⟩, rfl, by decide, plainFor_of_name (by decide)⟩
noncomputable def f_Fo_endOf (x1 : Int32) (h : hH) : Option Int32 :=
  bP (f_By_u2 5 (((rdI h 4 20) + (14 : Int32)) + ((2 : Int32) * x1)) h) fun a1 =>
  some a1
set_option maxRecDepth 20000 in
theorem k_Fo_endOf (x1 : Int32) (h : hH) : hx_kP S0 M_Fo_endOf 3 NT [(.ref 4), (.int x1)] h (f_Fo_endOf x1 h) cvI := by
  have hm := m_Fo_endOf
  show hx_P S0 M_Fo_endOf 3 0 [(0, (.ref 4)), (1, (.int x1))] [] NT h (f_Fo_endOf x1 h) (hx_Rp cvI NT h)
  unfold f_Fo_endOf
  refine hp_cVP (M2 := M_By_u2) hm (at1 0 rfl) (as := [(.int (((rdI h 4 20) + (14 : Int32)) + ((2 : Int32) * x1)))]) (rest := []) (z := 5) rfl (by exact ⟨og_4, og_4⟩) (pc' := 15) rfl 0 rfl (lw_g (lw_at lw_m4 75 rfl) rfl) y_By_u2 rfl (d2 := 2) ⟨le_b rfl, pd_By_u2, le_b rfl⟩ (le_b rfl) og_5 (k_By_u2 5 (((rdI h 4 20) + (14 : Int32)) + ((2 : Int32) * x1)) h og_5) (fun a1 => ?_)
  exact hp_ir hm at0 rfl (by exact trivial) (pc' := 18) rfl 1 rfl rfl (vp_nar_int _) (fun _ e => e)
/-! HintHouse$Font.beginOfSegment(I)I -/
def M_Fo_beginOfSegment : hM := (2, ⟨"HintHouse$Font", "beginOfSegment", "(I)I"⟩, prog_3_method_25_code, 2, (Option.some Jvm.ClassFile.FieldType.int), [], [(0, [(.aload_n 0, 1, 0, 0, 0, .null), (.getfield 12, 3, 2, 0, 4, .null), (.aload_n 0, 1, 0, 0, 0, .null), (.getfield 240, 3, 2, 20, 0, .null), (.bipush 16, 2, 0, 0, 0, (.int (16 : Int32))), (.iadd, 1, 0, 0, 0, .null), (.iconst 2, 1, 0, 0, 0, (.int (2 : Int32))), (.aload_n 0, 1, 0, 0, 0, .null), (.getfield 253, 3, 2, 22, 0, .null), (.iload_n 1, 1, 0, 0, 0, .null), (.iadd, 1, 0, 0, 0, .null), (.imul, 1, 0, 0, 0, .null), (.iadd, 1, 0, 0, 0, .null)])], [(20, .invokevirtual 102, 3), (23, .ireturn, 1)])
set_option maxRecDepth 100000 in
theorem m_Fo_beginOfSegment : hx_mok M_Fo_beginOfSegment = true := by decide +kernel
theorem pd_Fo_beginOfSegment : (parseMethodDescriptor M_Fo_beginOfSegment.2.1.desc).map (fun q => q.parameters.length) = some 1 := by decide +kernel
theorem y_Fo_beginOfSegment : hx_okV M_Fo_beginOfSegment := ⟨⟨lw_g (lw_at lw_m4 228 rfl) rfl, lw_g (lw_at lw_m4 227 rfl) rfl, qs26, lw_g (lw_at lw_m1 3 rfl) rfl, rfl, by decide, by decide, by decide⟩, rfl, by decide, plainFor_of_name (by decide)⟩
noncomputable def f_Fo_beginOfSegment (x1 : Int32) (h : hH) : Option Int32 :=
  bP (f_By_u2 5 (((rdI h 4 20) + (16 : Int32)) + ((2 : Int32) * ((rdI h 4 22) + x1))) h) fun a1 =>
  some a1
set_option maxRecDepth 20000 in
theorem k_Fo_beginOfSegment (x1 : Int32) (h : hH) : hx_kP S0 M_Fo_beginOfSegment 3 NT [(.ref 4), (.int x1)] h (f_Fo_beginOfSegment x1 h) cvI := by
  have hm := m_Fo_beginOfSegment
  show hx_P S0 M_Fo_beginOfSegment 3 0 [(0, (.ref 4)), (1, (.int x1))] [] NT h (f_Fo_beginOfSegment x1 h) (hx_Rp cvI NT h)
  unfold f_Fo_beginOfSegment
  refine hp_cVP (M2 := M_By_u2) hm (at1 0 rfl) (as := [(.int (((rdI h 4 20) + (16 : Int32)) + ((2 : Int32) * ((rdI h 4 22) + x1))))]) (rest := []) (z := 5) rfl (by exact ⟨⟨og_4, og_4⟩, og_4⟩) (pc' := 20) rfl 0 rfl (lw_g (lw_at lw_m4 75 rfl) rfl) y_By_u2 rfl (d2 := 2) ⟨le_b rfl, pd_By_u2, le_b rfl⟩ (le_b rfl) og_5 (k_By_u2 5 (((rdI h 4 20) + (16 : Int32)) + ((2 : Int32) * ((rdI h 4 22) + x1))) h og_5) (fun a1 => ?_)
  exact hp_ir hm at0 rfl (by exact trivial) (pc' := 23) rfl 1 rfl rfl (vp_nar_int _) (fun _ e => e)
/-! HintHouse$Font.offsetOf(I)I -/
def M_Fo_offsetOf : hM := (2, ⟨"HintHouse$Font", "offsetOf", "(I)I"⟩, prog_3_method_27_code, 2, (Option.some Jvm.ClassFile.FieldType.int), [], [(0, [(.aload_n 0, 1, 0, 0, 0, .null), (.getfield 12, 3, 2, 0, 4, .null), (.aload_n 0, 1, 0, 0, 0, .null), (.getfield 240, 3, 2, 20, 0, .null), (.bipush 16, 2, 0, 0, 0, (.int (16 : Int32))), (.iadd, 1, 0, 0, 0, .null), (.iconst 2, 1, 0, 0, 0, (.int (2 : Int32))), (.iconst 3, 1, 0, 0, 0, (.int (3 : Int32))), (.aload_n 0, 1, 0, 0, 0, .null), (.getfield 253, 3, 2, 22, 0, .null), (.imul, 1, 0, 0, 0, .null), (.iload_n 1, 1, 0, 0, 0, .null), (.iadd, 1, 0, 0, 0, .null), (.imul, 1, 0, 0, 0, .null), (.iadd, 1, 0, 0, 0, .null)])], [(22, .invokevirtual 102, 3), (25, .ireturn, 1)])
set_option maxRecDepth 100000 in
theorem m_Fo_offsetOf : hx_mok M_Fo_offsetOf = true := by decide +kernel
theorem pd_Fo_offsetOf : (parseMethodDescriptor M_Fo_offsetOf.2.1.desc).map (fun q => q.parameters.length) = some 1 := by decide +kernel
theorem y_Fo_offsetOf : hx_okV M_Fo_offsetOf := ⟨⟨lw_g (lw_at lw_m4 232 rfl) rfl, lw_g (lw_at lw_m4 231 rfl) rfl, qs27, lw_g (lw_at lw_m1 3 rfl) rfl, rfl, by decide, by decide, by decide⟩, rfl, by decide, plainFor_of_name (by decide)⟩
noncomputable def f_Fo_offsetOf (x1 : Int32) (h : hH) : Option Int32 :=
  bP (f_By_u2 5 (((rdI h 4 20) + (16 : Int32)) + ((2 : Int32) * (((3 : Int32) * (rdI h 4 22)) + x1))) h) fun a1 =>
  some a1
set_option maxRecDepth 20000 in
theorem k_Fo_offsetOf (x1 : Int32) (h : hH) : hx_kP S0 M_Fo_offsetOf 3 NT [(.ref 4), (.int x1)] h (f_Fo_offsetOf x1 h) cvI := by
  have hm := m_Fo_offsetOf
  show hx_P S0 M_Fo_offsetOf 3 0 [(0, (.ref 4)), (1, (.int x1))] [] NT h (f_Fo_offsetOf x1 h) (hx_Rp cvI NT h)
  unfold f_Fo_offsetOf
  refine hp_cVP (M2 := M_By_u2) hm (at1 0 rfl) (as := [(.int (((rdI h 4 20) + (16 : Int32)) + ((2 : Int32) * (((3 : Int32) * (rdI h 4 22)) + x1))))]) (rest := []) (z := 5) rfl (by exact ⟨⟨og_4, og_4⟩, og_4⟩) (pc' := 22) rfl 0 rfl (lw_g (lw_at lw_m4 75 rfl) rfl) y_By_u2 rfl (d2 := 2) ⟨le_b rfl, pd_By_u2, le_b rfl⟩ (le_b rfl) og_5 (k_By_u2 5 (((rdI h 4 20) + (16 : Int32)) + ((2 : Int32) * (((3 : Int32) * (rdI h 4 22)) + x1))) h og_5) (fun a1 => ?_)
  exact hp_ir hm at0 rfl (by exact trivial) (pc' := 25) rfl 1 rfl rfl (vp_nar_int _) (fun _ e => e)
/-! HintHouse$Font.isSegments(I)Z -/
def M_Fo_isSegments : hM := (2, ⟨"HintHouse$Font", "isSegments", "(I)Z"⟩, prog_3_method_23_code, 7, (Option.some Jvm.ClassFile.FieldType.boolean), [], [(0, [(.iload_n 1, 1, 0, 0, 0, .null), (.bipush 14, 2, 0, 0, 0, (.int (14 : Int32)))]), (8, [(.aload_n 0, 1, 0, 0, 0, .null), (.getfield 12, 3, 2, 0, 4, .null), (.aload_n 0, 1, 0, 0, 0, .null), (.getfield 240, 3, 2, 20, 0, .null), (.iconst 2, 1, 0, 0, 0, (.int (2 : Int32))), (.iadd, 1, 0, 0, 0, .null)]), (21, [(.istore_n 2, 1, 0, 0, 0, .null), (.aload_n 0, 1, 0, 0, 0, .null), (.getfield 12, 3, 2, 0, 4, .null), (.aload_n 0, 1, 0, 0, 0, .null), (.getfield 240, 3, 2, 20, 0, .null), (.bipush 6, 2, 0, 0, 0, (.int (6 : Int32))), (.iadd, 1, 0, 0, 0, .null)]), (36, [(.istore_n 3, 1, 0, 0, 0, .null), (.aload_n 0, 1, 0, 0, 0, .null), (.iload_n 3, 1, 0, 0, 0, .null), (.iconst 2, 1, 0, 0, 0, (.int (2 : Int32))), (.idiv, 1, 0, 0, 0, .null), (.putfield 253, 3, 2, 22, 0, .null)]), (44, [(.iload_n 3, 1, 0, 0, 0, .null), (.iconst 2, 1, 0, 0, 0, (.int (2 : Int32))), (.irem, 1, 0, 0, 0, .null)]), (84, [(.iconst 0, 1, 0, 0, 0, (.int (0 : Int32)))]), (50, [(.aload_n 0, 1, 0, 0, 0, .null), (.getfield 253, 3, 2, 22, 0, .null), (.i2l, 1, 0, 0, 0, .null), (.lconst 1, 1, 0, 0, 0, (.long (1 : Int64))), (.ldc2_w 256, 3, 0, 0, 0, (.long (40 : Int64)))]), (65, [(.iload_n 2, 1, 0, 0, 0, .null), (.iload_n 1, 1, 0, 0, 0, .null)]), (70, [(.iload_n 2, 1, 0, 0, 0, .null), (.bipush 16, 2, 0, 0, 0, (.int (16 : Int32))), (.bipush 8, 2, 0, 0, 0, (.int (8 : Int32))), (.aload_n 0, 1, 0, 0, 0, .null), (.getfield 253, 3, 2, 22, 0, .null), (.imul, 1, 0, 0, 0, .null), (.iadd, 1, 0, 0, 0, .null)]), (86, [(.iconst 0, 1, 0, 0, 0, (.int (0 : Int32))), (.istore 4, 2, 0, 0, 0, .null)]), (89, [(.iload 4, 2, 0, 0, 0, .null), (.aload_n 0, 1, 0, 0, 0, .null), (.getfield 253, 3, 2, 22, 0, .null)]), (98, [(.aload_n 0, 1, 0, 0, 0, .null), (.iload 4, 2, 0, 0, 0, .null)]), (104, [(.istore 5, 2, 0, 0, 0, .null), (.iload 4, 2, 0, 0, 0, .null)]), (111, [(.iload 5, 2, 0, 0, 0, .null), (.aload_n 0, 1, 0, 0, 0, .null), (.iload 4, 2, 0, 0, 0, .null), (.iconst 1, 1, 0, 0, 0, (.int (1 : Int32))), (.isub, 1, 0, 0, 0, .null)]), (124, [(.aload_n 0, 1, 0, 0, 0, .null), (.iload 4, 2, 0, 0, 0, .null)]), (130, [(.iload 5, 2, 0, 0, 0, .null)]), (150, [(.iconst 0, 1, 0, 0, 0, (.int (0 : Int32)))]), (135, [(.aload_n 0, 1, 0, 0, 0, .null), (.iload 4, 2, 0, 0, 0, .null)]), (141, [(.iconst 2, 1, 0, 0, 0, (.int (2 : Int32))), (.irem, 1, 0, 0, 0, .null)]), (146, [(.iconst 1, 1, 0, 0, 0, (.int (1 : Int32)))]), (151, [(.istore 6, 2, 0, 0, 0, .null), (.iload 6, 2, 0, 0, 0, .null)]), (160, [(.iinc 4 1, 3, 0, 0, 0, (.int (1 : Int32)))]), (158, [(.iconst 0, 1, 0, 0, 0, (.int (0 : Int32)))]), (166, [(.aload_n 0, 1, 0, 0, 0, .null), (.aload_n 0, 1, 0, 0, 0, .null), (.getfield 253, 3, 2, 22, 0, .null), (.iconst 1, 1, 0, 0, 0, (.int (1 : Int32))), (.isub, 1, 0, 0, 0, .null)]), (176, [(.ldc_w 267, 3, 0, 0, 0, (.int (65535 : Int32)))]), (186, [(.iconst 0, 1, 0, 0, 0, (.int (0 : Int32)))]), (182, [(.iconst 1, 1, 0, 0, 0, (.int (1 : Int32)))]), (6, [(.iconst 0, 1, 0, 0, 0, (.int (0 : Int32)))])], [(18, .invokevirtual 102, 3), (33, .invokevirtual 102, 3), (85, .ireturn, 1), (59, .invokestatic 112, 3), (101, .invokevirtual 258, 3), (118, .invokevirtual 258, 3), (121, .if_icmp .le 29, 3), (108, .ifCond .eq 16, 3), (127, .invokevirtual 261, 3), (138, .invokevirtual 264, 3), (147, .goto 4, 3), (143, .ifCond .ne 7, 3), (132, .if_icmp .gt 18, 3), (163, .goto (-74), 3), (159, .ireturn, 1), (155, .ifCond .ne 5, 3), (95, .if_icmp .ge 71, 3), (173, .invokevirtual 258, 3), (187, .ireturn, 1), (183, .goto 4, 3), (179, .if_icmp .ne 7, 3), (81, .if_icmp .ge 5, 3), (67, .if_icmp .gt 17, 3), (62, .ifCond .eq 22, 3), (47, .ifCond .ne 37, 3), (7, .ireturn, 1), (3, .if_icmp .ge 5, 3)])
set_option maxRecDepth 100000 in
theorem m_Fo_isSegments : hx_mok M_Fo_isSegments = true := by decide +kernel
theorem pd_Fo_isSegments : (parseMethodDescriptor M_Fo_isSegments.2.1.desc).map (fun q => q.parameters.length) = some 1 := by decide +kernel
theorem y_Fo_isSegments : hx_okV M_Fo_isSegments := ⟨⟨lw_g (lw_at lw_m4 219 rfl) rfl, lw_g (lw_at lw_m4 218 rfl) rfl, qs24, lw_g (lw_at lw_m1 3 rfl) rfl, rfl, by decide, by decide, by decide⟩, rfl, by decide, plainFor_of_name (by decide)⟩
noncomputable def f_Fo_isSegments (x1 : Int32) (h : hH) : Option (Int32 × hH) :=
  if (14 : Int32) ≤ x1 then (
    bP (f_By_u2 5 ((rdI h 4 20) + (2 : Int32)) h) fun a1 =>
    bP (f_By_u2 5 ((rdI h 4 20) + (6 : Int32)) h) fun a2 =>
    lz (wrI h 4 22 (a2 / (2 : Int32))) fun h1 =>
    if (hx_rm a2 (2 : Int32)) = 0 then (
      bP (f_HH_within (Int32.toInt64 (rdI h1 4 22)) (1 : Int64) (40 : Int64)) fun a3 =>
      if a3 = 0 then (
        some ((0 : Int32), h1)
      ) else (
        if x1 < a1 then (
          some ((0 : Int32), h1)
        ) else (
          if ((16 : Int32) + ((8 : Int32) * (rdI h1 4 22))) ≤ a1 then (
            bE (P := Unit) (X := (Int32 × hH)) (
              wh (A := Int32) (B := (Unit ⊕ (Int32 × hH))) (fun p4 =>
                  if (rdI h1 4 22) ≤ p4 then (
                    some (.inr (.inl ()))
                  ) else (
                    bP (f_Fo_endOf p4 h1) fun a6 =>
                    bP (A := Int32) (
                      cO (
                        if p4 = 0 then (
                          some true
                        ) else (
                          bP (f_Fo_endOf (p4 - (1 : Int32)) h1) fun a8 =>
                          if a6 ≤ a8 then (
                            some false
                          ) else (
                            some true
                          )
                        )
                      ) (
                        bP (f_Fo_beginOfSegment p4 h1) fun a14 =>
                        if a6 < a14 then (
                          some (0 : Int32)
                        ) else (
                          bP (f_Fo_offsetOf p4 h1) fun a15 =>
                          if (hx_rm a15 (2 : Int32)) = 0 then (
                            some (1 : Int32)
                          ) else (
                            some (0 : Int32)
                          )
                        )
                      ) (
                        some (0 : Int32)
                      )
                    ) fun p7 =>
                    if p7 = 0 then (
                      some (.inr (.inr ((0 : Int32), h1)))
                    ) else (
                      lz (A := Int32) (p4 + (1 : Int32)) fun v18 =>
                      some (.inl v18)
                    )
                  )
              ) (0 : Int32)
            ) fun p5 =>
            bP (f_Fo_endOf ((rdI h1 4 22) - (1 : Int32)) h1) fun a21 =>
            if a21 = (65535 : Int32) then (
              some ((1 : Int32), h1)
            ) else (
              some ((0 : Int32), h1)
            )
          ) else (
            some ((0 : Int32), h1)
          )
        )
      )
    ) else (
      some ((0 : Int32), h1)
    )
  ) else (
    some ((0 : Int32), h)
  )
set_option maxRecDepth 20000 in
theorem k_Fo_isSegments (x1 : Int32) (h : hH) : hx_kS S0 M_Fo_isSegments 4 NT [(.ref 4), (.int x1)] h (f_Fo_isSegments x1 h) cvI := by
  have hm := m_Fo_isSegments
  show hx_P S0 M_Fo_isSegments 4 0 [(0, (.ref 4)), (1, (.int x1))] [] NT h (f_Fo_isSegments x1 h) (hx_Rc cvI NT)
  unfold f_Fo_isSegments
  refine hp_ic_ge hm (at1 0 rfl) rfl (by exact trivial) (pc' := 3) rfl 26 rfl (tgt := 8) rfl (fun c27 => ?_) (fun c27 => ?_)
  · refine hp_cVP (M2 := M_By_u2) hm (at1 1 rfl) (as := [(.int ((rdI h 4 20) + (2 : Int32)))]) (rest := []) (z := 5) rfl (by exact ⟨og_4, og_4⟩) (pc' := 18) rfl 0 rfl (lw_g (lw_at lw_m4 75 rfl) rfl) y_By_u2 rfl (d2 := 2) ⟨le_b rfl, pd_By_u2, le_b rfl⟩ (le_b rfl) og_5 (k_By_u2 5 ((rdI h 4 20) + (2 : Int32)) h og_5) (fun a1 => ?_)
    refine hp_b hm (at1 2 rfl) (L' := [(2, (.int a1)), (0, (.ref 4)), (1, (.int x1))]) (st' := [(.int ((rdI h 4 20) + (6 : Int32))), (.ref 5)]) rfl (by exact ⟨og_4, og_4⟩) (pc' := 33) rfl ?_
    refine hp_cVP (M2 := M_By_u2) hm at0 (as := [(.int ((rdI h 4 20) + (6 : Int32)))]) (rest := []) (z := 5) rfl (by exact trivial) (pc' := 33) rfl 1 rfl (lw_g (lw_at lw_m4 75 rfl) rfl) y_By_u2 rfl (d2 := 2) ⟨le_b rfl, pd_By_u2, le_b rfl⟩ (le_b rfl) og_5 (k_By_u2 5 ((rdI h 4 20) + (6 : Int32)) h og_5) (fun a2 => ?_)
    refine hp_w hm (at1 3 rfl) (L' := [(3, (.int a2)), (2, (.int a1)), (0, (.ref 4)), (1, (.int x1))]) rfl (by exact ⟨(show ¬ (2 : Int32) = 0 by decide), og_4⟩) (pc' := 44) rfl (fun h1 => ?_)
    refine hp_if_ne hm (at1 4 rfl) rfl (by exact (show ¬ (2 : Int32) = 0 by decide)) (pc' := 47) rfl 24 rfl (tgt := 84) rfl (fun c26 => ?_) (fun c26 => ?_)
    · exact hp_ir hm (at1 5 rfl) rfl (by exact trivial) (pc' := 85) rfl 2 rfl rfl rfl (fun _ e => e)
    · refine hp_cNP (M2 := M_HH_within) hm (at1 6 rfl) (as := [(.long (Int32.toInt64 (rdI h1 4 22))), (.long (1 : Int64)), (.long (40 : Int64))]) (rest := []) rfl (by exact og_4) (pc' := 59) rfl 3 rfl (hmn_2_112) y_HH_within rfl (d2 := 1) ⟨le_b rfl, pd_HH_within, le_b rfl⟩ (le_b rfl) (k_HH_within (Int32.toInt64 (rdI h1 4 22)) (1 : Int64) (40 : Int64) h1) (fun a3 => ?_)
      refine hp_if_eq hm at0 rfl (by exact trivial) (pc' := 62) rfl 23 rfl (tgt := 84) rfl (fun c25 => ?_) (fun c25 => ?_)
      · exact hp_ir hm (at1 5 rfl) rfl (by exact trivial) (pc' := 85) rfl 2 rfl rfl rfl (fun _ e => e)
      · refine hp_ic_gt hm (at1 7 rfl) rfl (by exact trivial) (pc' := 67) rfl 22 rfl (tgt := 84) rfl (fun c24 => ?_) (fun c24 => ?_)
        · exact hp_ir hm (at1 5 rfl) rfl (by exact trivial) (pc' := 85) rfl 2 rfl rfl rfl (fun _ e => e)
        · refine hp_ic_ge hm (at1 8 rfl) rfl (by exact og_4) (pc' := 81) rfl 21 rfl (tgt := 86) rfl (fun c23 => ?_) (fun c23 => ?_)
          · refine hp_b hm (at1 9 rfl) (L' := [(4, (.int (0 : Int32))), (3, (.int a2)), (2, (.int a1)), (0, (.ref 4)), (1, (.int x1))]) (st' := []) rfl (by exact trivial) (pc' := 89) rfl ?_
            refine hp_E 166 (fun (p5 : Unit) => [(0, (.ref 4))]) (fun (p5 : Unit) => []) (fun (p5 : Unit) => h1) ?_ (fun p5 => ?_)
            · refine hp_s [3, 0] rfl (L' := [(0, (.ref 4)), (4, (.int (0 : Int32)))]) ?_
              refine hp_wh (fun (p4 : Int32) => [(0, (.ref 4)), (4, (.int p4))]) [] (fun (p4 : Int32) => h1) (fun p4 => ?_) (0 : Int32)
              refine hp_ic_ge hm (at1 10 rfl) rfl (by exact og_4) (pc' := 95) rfl 16 rfl (tgt := 166) rfl (fun c20 => ?_) (fun c20 => ?_)
              · exact hp_lf [0] rfl (fun _ e => e)
              · refine hp_cVP (M2 := M_Fo_endOf) hm (at1 11 rfl) (as := [(.int p4)]) (rest := []) (z := 4) rfl (by exact trivial) (pc' := 101) rfl 4 rfl (lw_g (lw_at lw_m4 221 rfl) rfl) y_Fo_endOf rfl (d2 := 3) ⟨le_b rfl, pd_Fo_endOf, le_b rfl⟩ (le_b rfl) og_4 (k_Fo_endOf p4 h1) (fun a6 => ?_)
                refine hp_b hm (at1 12 rfl) (L' := [(5, (.int a6)), (0, (.ref 4)), (4, (.int p4))]) (st' := [(.int p4)]) rfl (by exact trivial) (pc' := 108) rfl ?_
                refine hp_J 151 (fun (p7 : Int32) => [(0, (.ref 4)), (4, (.int p4))]) (fun (p7 : Int32) => [(.int p7)]) (fun (p7 : Int32) => h1) ?_ (fun p7 => ?_)
                · refine hp_cO (L0 := [(5, (.int a6)), (0, (.ref 4)), (4, (.int p4))]) (s0 := []) 124 150 ?_ ?_ ?_
                  · refine hp_if_eq hm at0 rfl (by exact trivial) (pc' := 108) rfl 7 rfl (tgt := 124) rfl (fun c10 => ?_) (fun c10 => ?_)
                    · exact hp_l0 (fun _ e => e)
                    · refine hp_cVP (M2 := M_Fo_endOf) hm (at1 13 rfl) (as := [(.int (p4 - (1 : Int32)))]) (rest := [(.int a6)]) (z := 4) rfl (by exact trivial) (pc' := 118) rfl 5 rfl (lw_g (lw_at lw_m4 221 rfl) rfl) y_Fo_endOf rfl (d2 := 3) ⟨le_b rfl, pd_Fo_endOf, le_b rfl⟩ (le_b rfl) og_4 (k_Fo_endOf (p4 - (1 : Int32)) h1) (fun a8 => ?_)
                      refine hp_ic_le hm at0 rfl (by exact trivial) (pc' := 121) rfl 6 rfl (tgt := 150) rfl (fun c9 => ?_) (fun c9 => ?_)
                      · exact hp_l0 (fun _ e => e)
                      · exact hp_l0 (fun _ e => e)
                  · refine hp_cVP (M2 := M_Fo_beginOfSegment) hm (at1 14 rfl) (as := [(.int p4)]) (rest := []) (z := 4) rfl (by exact trivial) (pc' := 127) rfl 8 rfl (lw_g (lw_at lw_m4 225 rfl) rfl) y_Fo_beginOfSegment rfl (d2 := 3) ⟨le_b rfl, pd_Fo_beginOfSegment, le_b rfl⟩ (le_b rfl) og_4 (k_Fo_beginOfSegment p4 h1) (fun a14 => ?_)
                    refine hp_ic_gt hm (at1 15 rfl) rfl (by exact trivial) (pc' := 132) rfl 12 rfl (tgt := 150) rfl (fun c17 => ?_) (fun c17 => ?_)
                    · refine hp_b hm (at1 16 rfl) (L' := [(5, (.int a6)), (0, (.ref 4)), (4, (.int p4))]) (st' := [(.int (0 : Int32))]) rfl (by exact trivial) (pc' := 151) rfl ?_
                      exact hp_lf [1, 2] rfl (fun _ e => e)
                    · refine hp_cVP (M2 := M_Fo_offsetOf) hm (at1 17 rfl) (as := [(.int p4)]) (rest := []) (z := 4) rfl (by exact trivial) (pc' := 138) rfl 9 rfl (lw_g (lw_at lw_m4 229 rfl) rfl) y_Fo_offsetOf rfl (d2 := 3) ⟨le_b rfl, pd_Fo_offsetOf, le_b rfl⟩ (le_b rfl) og_4 (k_Fo_offsetOf p4 h1) (fun a15 => ?_)
                      refine hp_if_ne hm (at1 18 rfl) rfl (by exact (show ¬ (2 : Int32) = 0 by decide)) (pc' := 143) rfl 11 rfl (tgt := 150) rfl (fun c16 => ?_) (fun c16 => ?_)
                      · refine hp_b hm (at1 16 rfl) (L' := [(5, (.int a6)), (0, (.ref 4)), (4, (.int p4))]) (st' := [(.int (0 : Int32))]) rfl (by exact trivial) (pc' := 151) rfl ?_
                        exact hp_lf [1, 2] rfl (fun _ e => e)
                      · refine hp_b hm (at1 19 rfl) (L' := [(5, (.int a6)), (0, (.ref 4)), (4, (.int p4))]) (st' := [(.int (1 : Int32))]) rfl (by exact trivial) (pc' := 147) rfl ?_
                        refine hp_goto hm 10 rfl (tgt := 151) rfl ?_
                        exact hp_lf [1, 2] rfl (fun _ e => e)
                  · refine hp_b hm (at1 16 rfl) (L' := [(5, (.int a6)), (0, (.ref 4)), (4, (.int p4))]) (st' := [(.int (0 : Int32))]) rfl (by exact trivial) (pc' := 151) rfl ?_
                    exact hp_lf [1, 2] rfl (fun _ e => e)
                · refine hp_b hm (at1 20 rfl) (L' := [(6, (.int p7)), (0, (.ref 4)), (4, (.int p4))]) (st' := [(.int p7)]) rfl (by exact trivial) (pc' := 155) rfl ?_
                  refine hp_if_ne hm at0 rfl (by exact trivial) (pc' := 155) rfl 15 rfl (tgt := 160) rfl (fun c19 => ?_) (fun c19 => ?_)
                  · refine hp_z hm (at1 21 rfl) (fun (v18 : Int32) => [(4, (.int v18)), (6, (.int p7)), (0, (.ref 4))]) (fun (v18 : Int32) => []) rfl (by exact trivial) (pc' := 163) rfl (fun v18 => ?_)
                    refine hp_goto hm 13 rfl (tgt := 89) rfl ?_
                    exact hp_lf [2, 0] rfl (fun _ e => e)
                  · exact hp_ir hm (at1 22 rfl) rfl (by exact trivial) (pc' := 159) rfl 14 rfl rfl rfl (fun _ e => e)
            · refine hp_cVP (M2 := M_Fo_endOf) hm (at1 23 rfl) (as := [(.int ((rdI h1 4 22) - (1 : Int32)))]) (rest := []) (z := 4) rfl (by exact og_4) (pc' := 173) rfl 17 rfl (lw_g (lw_at lw_m4 221 rfl) rfl) y_Fo_endOf rfl (d2 := 3) ⟨le_b rfl, pd_Fo_endOf, le_b rfl⟩ (le_b rfl) og_4 (k_Fo_endOf ((rdI h1 4 22) - (1 : Int32)) h1) (fun a21 => ?_)
              refine hp_ic_ne hm (at1 24 rfl) rfl (by exact trivial) (pc' := 179) rfl 20 rfl (tgt := 186) rfl (fun c22 => ?_) (fun c22 => ?_)
              · refine hp_b hm (at1 25 rfl) (L' := [(0, (.ref 4))]) (st' := [(.int (0 : Int32))]) rfl (by exact trivial) (pc' := 187) rfl ?_
                exact hp_ir hm at0 rfl (by exact trivial) (pc' := 187) rfl 18 rfl rfl rfl (fun _ e => e)
              · refine hp_b hm (at1 26 rfl) (L' := [(0, (.ref 4))]) (st' := [(.int (1 : Int32))]) rfl (by exact trivial) (pc' := 183) rfl ?_
                refine hp_goto hm 19 rfl (tgt := 187) rfl ?_
                exact hp_ir hm at0 rfl (by exact trivial) (pc' := 187) rfl 18 rfl rfl rfl (fun _ e => e)
          · exact hp_ir hm (at1 5 rfl) rfl (by exact trivial) (pc' := 85) rfl 2 rfl rfl rfl (fun _ e => e)
  · exact hp_ir hm (at1 27 rfl) rfl (by exact trivial) (pc' := 7) rfl 25 rfl rfl rfl (fun _ e => e)
/-! HintHouse$Font.isGroups(I)Z -/
def M_Fo_isGroups : hM := (2, ⟨"HintHouse$Font", "isGroups", "(I)Z"⟩, prog_3_method_28_code, 11, (Option.some Jvm.ClassFile.FieldType.boolean), [], [(0, [(.iload_n 1, 1, 0, 0, 0, .null), (.bipush 16, 2, 0, 0, 0, (.int (16 : Int32)))]), (25, [(.iconst 0, 1, 0, 0, 0, (.int (0 : Int32)))]), (6, [(.aload_n 0, 1, 0, 0, 0, .null), (.getfield 12, 3, 2, 0, 4, .null), (.aload_n 0, 1, 0, 0, 0, .null), (.getfield 240, 3, 2, 20, 0, .null), (.iconst 4, 1, 0, 0, 0, (.int (4 : Int32))), (.iadd, 1, 0, 0, 0, .null)]), (19, [(.iload_n 1, 1, 0, 0, 0, .null), (.i2l, 1, 0, 0, 0, .null), (.lcmp, 1, 0, 0, 0, .null)]), (27, [(.aload_n 0, 1, 0, 0, 0, .null), (.getfield 12, 3, 2, 0, 4, .null), (.aload_n 0, 1, 0, 0, 0, .null), (.getfield 240, 3, 2, 20, 0, .null), (.bipush 12, 2, 0, 0, 0, (.int (12 : Int32))), (.iadd, 1, 0, 0, 0, .null)]), (41, [(.lstore_n 2, 1, 0, 0, 0, .null), (.lload_n 2, 1, 0, 0, 0, .null), (.lconst 1, 1, 0, 0, 0, (.long (1 : Int64))), (.ldc2_w 256, 3, 0, 0, 0, (.long (40 : Int64)))]), (79, [(.iconst 0, 1, 0, 0, 0, (.int (0 : Int32)))]), (53, [(.ldc2_w 143, 3, 0, 0, 0, (.long (16 : Int64))), (.ldc2_w 268, 3, 0, 0, 0, (.long (12 : Int64))), (.lload_n 2, 1, 0, 0, 0, .null), (.lmul, 1, 0, 0, 0, .null), (.ladd, 1, 0, 0, 0, .null), (.aload_n 0, 1, 0, 0, 0, .null), (.getfield 12, 3, 2, 0, 4, .null), (.aload_n 0, 1, 0, 0, 0, .null), (.getfield 240, 3, 2, 20, 0, .null), (.iconst 4, 1, 0, 0, 0, (.int (4 : Int32))), (.iadd, 1, 0, 0, 0, .null)]), (75, [(.lcmp, 1, 0, 0, 0, .null)]), (81, [(.aload_n 0, 1, 0, 0, 0, .null), (.lload_n 2, 1, 0, 0, 0, .null), (.l2i, 1, 0, 0, 0, .null), (.putfield 253, 3, 2, 22, 0, .null)]), (87, [(.ldc2_w 270, 3, 0, 0, 0, (.long (-1 : Int64))), (.lstore 4, 2, 0, 0, 0, .null), (.iconst 0, 1, 0, 0, 0, (.int (0 : Int32))), (.istore 6, 2, 0, 0, 0, .null)]), (95, [(.iload 6, 2, 0, 0, 0, .null), (.aload_n 0, 1, 0, 0, 0, .null), (.getfield 253, 3, 2, 22, 0, .null)]), (104, [(.aload_n 0, 1, 0, 0, 0, .null), (.getfield 12, 3, 2, 0, 4, .null), (.aload_n 0, 1, 0, 0, 0, .null), (.getfield 240, 3, 2, 20, 0, .null), (.bipush 16, 2, 0, 0, 0, (.int (16 : Int32))), (.iadd, 1, 0, 0, 0, .null), (.bipush 12, 2, 0, 0, 0, (.int (12 : Int32))), (.iload 6, 2, 0, 0, 0, .null), (.imul, 1, 0, 0, 0, .null), (.iadd, 1, 0, 0, 0, .null)]), (124, [(.lstore 7, 2, 0, 0, 0, .null), (.aload_n 0, 1, 0, 0, 0, .null), (.getfield 12, 3, 2, 0, 4, .null), (.aload_n 0, 1, 0, 0, 0, .null), (.getfield 240, 3, 2, 20, 0, .null), (.bipush 20, 2, 0, 0, 0, (.int (20 : Int32))), (.iadd, 1, 0, 0, 0, .null), (.bipush 12, 2, 0, 0, 0, (.int (12 : Int32))), (.iload 6, 2, 0, 0, 0, .null), (.imul, 1, 0, 0, 0, .null), (.iadd, 1, 0, 0, 0, .null)]), (146, [(.lstore 9, 2, 0, 0, 0, .null), (.lload 7, 2, 0, 0, 0, .null), (.lload 9, 2, 0, 0, 0, .null), (.lcmp, 1, 0, 0, 0, .null)]), (164, [(.iconst 0, 1, 0, 0, 0, (.int (0 : Int32)))]), (156, [(.lload 7, 2, 0, 0, 0, .null), (.lload 4, 2, 0, 0, 0, .null), (.lcmp, 1, 0, 0, 0, .null)]), (166, [(.lload 9, 2, 0, 0, 0, .null), (.lstore 4, 2, 0, 0, 0, .null), (.iinc 6 1, 3, 0, 0, 0, (.int (1 : Int32)))]), (176, [(.iconst 1, 1, 0, 0, 0, (.int (1 : Int32)))])], [(26, .ireturn, 1), (16, .invokevirtual 137, 3), (38, .invokevirtual 137, 3), (47, .invokestatic 112, 3), (80, .ireturn, 1), (72, .invokevirtual 137, 3), (121, .invokevirtual 137, 3), (143, .invokevirtual 137, 3), (165, .ireturn, 1), (173, .goto (-78), 3), (161, .ifCond .gt 5, 3), (153, .ifCond .gt 11, 3), (101, .if_icmp .ge 75, 3), (177, .ireturn, 1), (76, .ifCond .le 5, 3), (50, .ifCond .eq 29, 3), (22, .ifCond .le 5, 3), (3, .if_icmp .lt 22, 3)])
set_option maxRecDepth 100000 in
theorem m_Fo_isGroups : hx_mok M_Fo_isGroups = true := by decide +kernel
theorem pd_Fo_isGroups : (parseMethodDescriptor M_Fo_isGroups.2.1.desc).map (fun q => q.parameters.length) = some 1 := by decide +kernel
theorem y_Fo_isGroups : hx_okV M_Fo_isGroups := ⟨⟨lw_g (lw_at lw_m4 237 rfl) rfl, lw_g (lw_at lw_m4 236 rfl) rfl, qs28, lw_g (lw_at lw_m1 3 rfl) rfl, rfl, by decide, by decide, by decide⟩, rfl, by decide, plainFor_of_name (by decide)⟩
noncomputable def f_Fo_isGroups (x1 : Int32) (h : hH) : Option (Int32 × hH) :=
  if x1 < (16 : Int32) then (
    some ((0 : Int32), h)
  ) else (
    bP (f_By_u4 5 ((rdI h 4 20) + (4 : Int32)) h) fun a1 =>
    if a1 ≤ (Int32.toInt64 x1) then (
      bP (f_By_u4 5 ((rdI h 4 20) + (12 : Int32)) h) fun a2 =>
      bP (f_HH_within a2 (1 : Int64) (40 : Int64)) fun a3 =>
      if a3 = 0 then (
        some ((0 : Int32), h)
      ) else (
        bP (f_By_u4 5 ((rdI h 4 20) + (4 : Int32)) h) fun a4 =>
        if ((16 : Int64) + ((12 : Int64) * a2)) ≤ a4 then (
          lz (wrI h 4 22 (Int64.toInt32 a2)) fun h1 =>
          bE (P := Unit) (X := (Int32 × hH)) (
            wh (A := (Int64 × Int32)) (B := (Unit ⊕ (Int32 × hH))) (fun p5 =>
                if (rdI h1 4 22) ≤ p5.2 then (
                  some (.inr (.inl ()))
                ) else (
                  bP (f_By_u4 5 (((rdI h1 4 20) + (16 : Int32)) + ((12 : Int32) * p5.2)) h1) fun a7 =>
                  bP (f_By_u4 5 (((rdI h1 4 20) + (20 : Int32)) + ((12 : Int32) * p5.2)) h1) fun a8 =>
                  if a8 < a7 then (
                    some (.inr (.inr ((0 : Int32), h1)))
                  ) else (
                    if p5.1 < a7 then (
                      lz (A := Int32) (p5.2 + (1 : Int32)) fun v9 =>
                      some (.inl (a8, v9))
                    ) else (
                      some (.inr (.inr ((0 : Int32), h1)))
                    )
                  )
                )
            ) ((-1 : Int64), (0 : Int32))
          ) fun p6 =>
          some ((1 : Int32), h1)
        ) else (
          some ((0 : Int32), h)
        )
      )
    ) else (
      some ((0 : Int32), h)
    )
  )
set_option maxRecDepth 20000 in
theorem k_Fo_isGroups (x1 : Int32) (h : hH) : hx_kS S0 M_Fo_isGroups 4 NT [(.ref 4), (.int x1)] h (f_Fo_isGroups x1 h) cvI := by
  have hm := m_Fo_isGroups
  show hx_P S0 M_Fo_isGroups 4 0 [(0, (.ref 4)), (1, (.int x1))] [] NT h (f_Fo_isGroups x1 h) (hx_Rc cvI NT)
  unfold f_Fo_isGroups
  refine hp_ic_lt hm (at1 0 rfl) rfl (by exact trivial) (pc' := 3) rfl 17 rfl (tgt := 25) rfl (fun c16 => ?_) (fun c16 => ?_)
  · exact hp_ir hm (at1 1 rfl) rfl (by exact trivial) (pc' := 26) rfl 0 rfl rfl rfl (fun _ e => e)
  · refine hp_cVP (M2 := M_By_u4) hm (at1 2 rfl) (as := [(.int ((rdI h 4 20) + (4 : Int32)))]) (rest := []) (z := 5) rfl (by exact ⟨og_4, og_4⟩) (pc' := 16) rfl 1 rfl (lw_g (lw_at lw_m4 62 rfl) rfl) y_By_u4 rfl (d2 := 3) ⟨le_b rfl, pd_By_u4, le_b rfl⟩ (le_b rfl) og_5 (k_By_u4 5 ((rdI h 4 20) + (4 : Int32)) h og_5) (fun a1 => ?_)
    refine hp_lc_le hm (at1 3 rfl) rfl (by exact trivial) (pc' := 22) rfl 16 rfl (tgt := 27) rfl (fun c15 => ?_) (fun c15 => ?_)
    · refine hp_cVP (M2 := M_By_u4) hm (at1 4 rfl) (as := [(.int ((rdI h 4 20) + (12 : Int32)))]) (rest := []) (z := 5) rfl (by exact ⟨og_4, og_4⟩) (pc' := 38) rfl 2 rfl (lw_g (lw_at lw_m4 62 rfl) rfl) y_By_u4 rfl (d2 := 3) ⟨le_b rfl, pd_By_u4, le_b rfl⟩ (le_b rfl) og_5 (k_By_u4 5 ((rdI h 4 20) + (12 : Int32)) h og_5) (fun a2 => ?_)
      refine hp_b hm (at1 5 rfl) (L' := [(2, (.long a2)), (0, (.ref 4)), (1, (.int x1))]) (st' := [(.long (40 : Int64)), (.long (1 : Int64)), (.long a2)]) rfl (by exact trivial) (pc' := 47) rfl ?_
      refine hp_cNP (M2 := M_HH_within) hm at0 (as := [(.long a2), (.long (1 : Int64)), (.long (40 : Int64))]) (rest := []) rfl (by exact trivial) (pc' := 47) rfl 3 rfl (hmn_2_112) y_HH_within rfl (d2 := 1) ⟨le_b rfl, pd_HH_within, le_b rfl⟩ (le_b rfl) (k_HH_within a2 (1 : Int64) (40 : Int64) h) (fun a3 => ?_)
      refine hp_if_eq hm at0 rfl (by exact trivial) (pc' := 50) rfl 15 rfl (tgt := 79) rfl (fun c14 => ?_) (fun c14 => ?_)
      · exact hp_ir hm (at1 6 rfl) rfl (by exact trivial) (pc' := 80) rfl 4 rfl rfl rfl (fun _ e => e)
      · refine hp_cVP (M2 := M_By_u4) hm (at1 7 rfl) (as := [(.int ((rdI h 4 20) + (4 : Int32)))]) (rest := [(.long ((16 : Int64) + ((12 : Int64) * a2)))]) (z := 5) rfl (by exact ⟨og_4, og_4⟩) (pc' := 72) rfl 5 rfl (lw_g (lw_at lw_m4 62 rfl) rfl) y_By_u4 rfl (d2 := 3) ⟨le_b rfl, pd_By_u4, le_b rfl⟩ (le_b rfl) og_5 (k_By_u4 5 ((rdI h 4 20) + (4 : Int32)) h og_5) (fun a4 => ?_)
        refine hp_lc_le hm (at1 8 rfl) rfl (by exact trivial) (pc' := 76) rfl 14 rfl (tgt := 81) rfl (fun c13 => ?_) (fun c13 => ?_)
        · refine hp_w hm (at1 9 rfl) (L' := [(2, (.long a2)), (0, (.ref 4)), (1, (.int x1))]) rfl (by exact og_4) (pc' := 87) rfl (fun h1 => ?_)
          refine hp_b hm (at1 10 rfl) (L' := [(6, (.int (0 : Int32))), (4, (.long (-1 : Int64))), (2, (.long a2)), (0, (.ref 4)), (1, (.int x1))]) (st' := []) rfl (by exact trivial) (pc' := 95) rfl ?_
          refine hp_E 176 (fun (p6 : Unit) => []) (fun (p6 : Unit) => []) (fun (p6 : Unit) => h1) ?_ (fun p6 => ?_)
          · refine hp_s [3, 1, 0] rfl (L' := [(0, (.ref 4)), (4, (.long (-1 : Int64))), (6, (.int (0 : Int32)))]) ?_
            refine hp_wh (fun (p5 : (Int64 × Int32)) => [(0, (.ref 4)), (4, (.long p5.1)), (6, (.int p5.2))]) [] (fun (p5 : (Int64 × Int32)) => h1) (fun p5 => ?_) ((-1 : Int64), (0 : Int32))
            refine hp_ic_ge hm (at1 11 rfl) rfl (by exact og_4) (pc' := 101) rfl 12 rfl (tgt := 176) rfl (fun c12 => ?_) (fun c12 => ?_)
            · exact hp_lf [] rfl (fun _ e => e)
            · refine hp_cVP (M2 := M_By_u4) hm (at1 12 rfl) (as := [(.int (((rdI h1 4 20) + (16 : Int32)) + ((12 : Int32) * p5.2)))]) (rest := []) (z := 5) rfl (by exact ⟨og_4, og_4⟩) (pc' := 121) rfl 6 rfl (lw_g (lw_at lw_m4 62 rfl) rfl) y_By_u4 rfl (d2 := 3) ⟨le_b rfl, pd_By_u4, le_b rfl⟩ (le_b rfl) og_5 (k_By_u4 5 (((rdI h1 4 20) + (16 : Int32)) + ((12 : Int32) * p5.2)) h1 og_5) (fun a7 => ?_)
              refine hp_b hm (at1 13 rfl) (L' := [(7, (.long a7)), (0, (.ref 4)), (4, (.long p5.1)), (6, (.int p5.2))]) (st' := [(.int (((rdI h1 4 20) + (20 : Int32)) + ((12 : Int32) * p5.2))), (.ref 5)]) rfl (by exact ⟨og_4, og_4⟩) (pc' := 143) rfl ?_
              refine hp_cVP (M2 := M_By_u4) hm at0 (as := [(.int (((rdI h1 4 20) + (20 : Int32)) + ((12 : Int32) * p5.2)))]) (rest := []) (z := 5) rfl (by exact trivial) (pc' := 143) rfl 7 rfl (lw_g (lw_at lw_m4 62 rfl) rfl) y_By_u4 rfl (d2 := 3) ⟨le_b rfl, pd_By_u4, le_b rfl⟩ (le_b rfl) og_5 (k_By_u4 5 (((rdI h1 4 20) + (20 : Int32)) + ((12 : Int32) * p5.2)) h1 og_5) (fun a8 => ?_)
              refine hp_b hm (at1 14 rfl) (L' := [(9, (.long a8)), (7, (.long a7)), (0, (.ref 4)), (4, (.long p5.1)), (6, (.int p5.2))]) (st' := [(.int (lg_cmp a7 a8))]) rfl (by exact trivial) (pc' := 153) rfl ?_
              refine hp_lc_gt hm at0 rfl (by exact trivial) (pc' := 153) rfl 11 rfl (tgt := 164) rfl (fun c11 => ?_) (fun c11 => ?_)
              · exact hp_ir hm (at1 15 rfl) rfl (by exact trivial) (pc' := 165) rfl 8 rfl rfl rfl (fun _ e => e)
              · refine hp_lc_gt hm (at1 16 rfl) rfl (by exact trivial) (pc' := 161) rfl 10 rfl (tgt := 166) rfl (fun c10 => ?_) (fun c10 => ?_)
                · refine hp_z hm (at1 17 rfl) (fun (v9 : Int32) => [(6, (.int v9)), (4, (.long a8)), (9, (.long a8)), (7, (.long a7)), (0, (.ref 4))]) (fun (v9 : Int32) => []) rfl (by exact trivial) (pc' := 173) rfl (fun v9 => ?_)
                  refine hp_goto hm 9 rfl (tgt := 95) rfl ?_
                  exact hp_lf [4, 1, 0] rfl (fun _ e => e)
                · exact hp_ir hm (at1 15 rfl) rfl (by exact trivial) (pc' := 165) rfl 8 rfl rfl rfl (fun _ e => e)
          · exact hp_ir hm (at1 18 rfl) rfl (by exact trivial) (pc' := 177) rfl 13 rfl rfl rfl (fun _ e => e)
        · exact hp_ir hm (at1 6 rfl) rfl (by exact trivial) (pc' := 80) rfl 4 rfl rfl rfl (fun _ e => e)
    · exact hp_ir hm (at1 1 rfl) rfl (by exact trivial) (pc' := 26) rfl 0 rfl rfl rfl (fun _ e => e)
/-! HintHouse$Font.isMap()Z -/
def M_Fo_isMap : hM := (2, ⟨"HintHouse$Font", "isMap", "()Z"⟩, prog_3_method_20_code, 8, (Option.some Jvm.ClassFile.FieldType.boolean), [], [(0, [(.aload_n 0, 1, 0, 0, 0, .null), (.ldc2_w 72, 3, 0, 0, 0, (.long (1668112752 : Int64)))]), (7, [(.istore_n 1, 1, 0, 0, 0, .null), (.aload_n 0, 1, 0, 0, 0, .null), (.ldc2_w 72, 3, 0, 0, 0, (.long (1668112752 : Int64)))]), (15, [(.istore_n 2, 1, 0, 0, 0, .null), (.iload_n 2, 1, 0, 0, 0, .null), (.iconst 4, 1, 0, 0, 0, (.int (4 : Int32)))]), (32, [(.iconst 0, 1, 0, 0, 0, (.int (0 : Int32)))]), (21, [(.aload_n 0, 1, 0, 0, 0, .null), (.getfield 12, 3, 2, 0, 4, .null), (.iload_n 1, 1, 0, 0, 0, .null)]), (34, [(.aload_n 0, 1, 0, 0, 0, .null), (.getfield 12, 3, 2, 0, 4, .null), (.iload_n 1, 1, 0, 0, 0, .null), (.iconst 2, 1, 0, 0, 0, (.int (2 : Int32))), (.iadd, 1, 0, 0, 0, .null)]), (44, [(.istore_n 3, 1, 0, 0, 0, .null), (.iload_n 3, 1, 0, 0, 0, .null), (.i2l, 1, 0, 0, 0, .null), (.lconst 1, 1, 0, 0, 0, (.long (1 : Int64))), (.ldc2_w 156, 3, 0, 0, 0, (.long (8 : Int64)))]), (67, [(.iconst 0, 1, 0, 0, 0, (.int (0 : Int32)))]), (57, [(.iload_n 2, 1, 0, 0, 0, .null), (.iconst 4, 1, 0, 0, 0, (.int (4 : Int32))), (.bipush 8, 2, 0, 0, 0, (.int (8 : Int32))), (.iload_n 3, 1, 0, 0, 0, .null), (.imul, 1, 0, 0, 0, .null), (.iadd, 1, 0, 0, 0, .null)]), (69, [(.aload_n 0, 1, 0, 0, 0, .null), (.iload_n 1, 1, 0, 0, 0, .null), (.iload_n 3, 1, 0, 0, 0, .null), (.iconst 3, 1, 0, 0, 0, (.int (3 : Int32))), (.bipush 10, 2, 0, 0, 0, (.int (10 : Int32)))]), (78, [(.istore 4, 2, 0, 0, 0, .null), (.aload_n 0, 1, 0, 0, 0, .null), (.bipush 12, 2, 0, 0, 0, (.int (12 : Int32))), (.putfield 237, 3, 2, 21, 0, .null)]), (86, [(.iload 4, 2, 0, 0, 0, .null), (.iconst (-1), 1, 0, 0, 0, (.int (-1 : Int32)))]), (92, [(.aload_n 0, 1, 0, 0, 0, .null), (.iload_n 1, 1, 0, 0, 0, .null), (.iload_n 3, 1, 0, 0, 0, .null), (.iconst 3, 1, 0, 0, 0, (.int (3 : Int32))), (.iconst 1, 1, 0, 0, 0, (.int (1 : Int32)))]), (100, [(.istore 4, 2, 0, 0, 0, .null), (.aload_n 0, 1, 0, 0, 0, .null), (.iconst 4, 1, 0, 0, 0, (.int (4 : Int32))), (.putfield 237, 3, 2, 21, 0, .null)]), (107, [(.iload 4, 2, 0, 0, 0, .null), (.iconst (-1), 1, 0, 0, 0, (.int (-1 : Int32)))]), (113, [(.aload_n 0, 1, 0, 0, 0, .null), (.iload_n 1, 1, 0, 0, 0, .null), (.iload_n 3, 1, 0, 0, 0, .null), (.iconst 1, 1, 0, 0, 0, (.int (1 : Int32))), (.iconst 0, 1, 0, 0, 0, (.int (0 : Int32)))]), (121, [(.istore 4, 2, 0, 0, 0, .null), (.aload_n 0, 1, 0, 0, 0, .null), (.iconst 0, 1, 0, 0, 0, (.int (0 : Int32))), (.putfield 237, 3, 2, 21, 0, .null)]), (128, [(.iload 4, 2, 0, 0, 0, .null), (.iconst (-1), 1, 0, 0, 0, (.int (-1 : Int32)))]), (136, [(.aload_n 0, 1, 0, 0, 0, .null), (.getfield 12, 3, 2, 0, 4, .null), (.iload 4, 2, 0, 0, 0, .null), (.iconst 4, 1, 0, 0, 0, (.int (4 : Int32))), (.iadd, 1, 0, 0, 0, .null)]), (147, [(.lstore 5, 2, 0, 0, 0, .null), (.lload 5, 2, 0, 0, 0, .null), (.iload_n 2, 1, 0, 0, 0, .null), (.iconst 2, 1, 0, 0, 0, (.int (2 : Int32))), (.isub, 1, 0, 0, 0, .null), (.i2l, 1, 0, 0, 0, .null), (.lcmp, 1, 0, 0, 0, .null)]), (161, [(.aload_n 0, 1, 0, 0, 0, .null), (.iload_n 1, 1, 0, 0, 0, .null), (.lload 5, 2, 0, 0, 0, .null), (.l2i, 1, 0, 0, 0, .null), (.iadd, 1, 0, 0, 0, .null), (.putfield 240, 3, 2, 20, 0, .null)]), (170, [(.iload_n 2, 1, 0, 0, 0, .null), (.lload 5, 2, 0, 0, 0, .null), (.l2i, 1, 0, 0, 0, .null), (.isub, 1, 0, 0, 0, .null), (.istore 7, 2, 0, 0, 0, .null)]), (177, [(.aload_n 0, 1, 0, 0, 0, .null), (.getfield 12, 3, 2, 0, 4, .null), (.aload_n 0, 1, 0, 0, 0, .null), (.getfield 240, 3, 2, 20, 0, .null)]), (188, [(.aload_n 0, 1, 0, 0, 0, .null), (.getfield 237, 3, 2, 21, 0, .null)]), (247, [(.iconst 0, 1, 0, 0, 0, (.int (0 : Int32)))]), (195, [(.aload_n 0, 1, 0, 0, 0, .null), (.getfield 237, 3, 2, 21, 0, .null)]), (214, [(.aload_n 0, 1, 0, 0, 0, .null), (.getfield 237, 3, 2, 21, 0, .null), (.iconst 4, 1, 0, 0, 0, (.int (4 : Int32)))]), (234, [(.aload_n 0, 1, 0, 0, 0, .null), (.iload 7, 2, 0, 0, 0, .null)]), (243, [(.iconst 1, 1, 0, 0, 0, (.int (1 : Int32)))]), (222, [(.aload_n 0, 1, 0, 0, 0, .null), (.iload 7, 2, 0, 0, 0, .null)]), (202, [(.aload_n 0, 1, 0, 0, 0, .null), (.iload 7, 2, 0, 0, 0, .null)]), (159, [(.iconst 0, 1, 0, 0, 0, (.int (0 : Int32)))]), (134, [(.iconst 0, 1, 0, 0, 0, (.int (0 : Int32)))])], [(4, .invokevirtual 99, 3), (12, .invokevirtual 96, 3), (33, .ireturn, 1), (26, .invokevirtual 102, 3), (41, .invokevirtual 102, 3), (51, .invokestatic 112, 3), (68, .ireturn, 1), (75, .invokevirtual 233, 3), (97, .invokevirtual 233, 3), (89, .if_icmp .ne 18, 3), (118, .invokevirtual 233, 3), (110, .if_icmp .ne 18, 3), (144, .invokevirtual 137, 3), (185, .invokevirtual 102, 3), (248, .ireturn, 1), (237, .invokevirtual 250, 3), (244, .goto 4, 3), (240, .ifCond .eq 7, 3), (225, .invokevirtual 247, 3), (231, .goto 12, 3), (228, .ifCond .eq 19, 3), (219, .if_icmp .ne 15, 3), (205, .invokevirtual 243, 3), (211, .goto 32, 3), (208, .ifCond .eq 39, 3), (199, .ifCond .ne 15, 3), (192, .if_icmp .ne 55, 3), (160, .ireturn, 1), (156, .ifCond .le 5, 3), (135, .ireturn, 1), (131, .if_icmp .ne 5, 3), (64, .if_icmp .ge 5, 3), (54, .ifCond .eq 13, 3), (29, .ifCond .eq 5, 3), (18, .if_icmp .lt 14, 3)])
set_option maxRecDepth 100000 in
theorem m_Fo_isMap : hx_mok M_Fo_isMap = true := by decide +kernel
theorem pd_Fo_isMap : (parseMethodDescriptor M_Fo_isMap.2.1.desc).map (fun q => q.parameters.length) = some 0 := by decide +kernel
theorem y_Fo_isMap : hx_okV M_Fo_isMap := ⟨⟨lw_g (lw_at lw_m4 207 rfl) rfl, lw_g (lw_at lw_m4 206 rfl) rfl, qs21, lw_g (lw_at lw_m1 3 rfl) rfl, rfl, by decide, by decide, by decide⟩, rfl, by decide, plainFor_of_name (by decide)⟩
noncomputable def f_Fo_isMap (h : hH) : Option (Int32 × hH) :=
  bP (f_Fo_beginOf (1668112752 : Int64) h) fun a1 =>
  bP (f_Fo_lengthOf (1668112752 : Int64) h) fun a2 =>
  if a2 < (4 : Int32) then (
    some ((0 : Int32), h)
  ) else (
    bP (f_By_u2 5 a1 h) fun a3 =>
    if a3 = 0 then (
      bP (f_By_u2 5 (a1 + (2 : Int32)) h) fun a4 =>
      bP (f_HH_within (Int32.toInt64 a4) (1 : Int64) (8 : Int64)) fun a5 =>
      if a5 = 0 then (
        some ((0 : Int32), h)
      ) else (
        if ((4 : Int32) + ((8 : Int32) * a4)) ≤ a2 then (
          bP (f_Fo_recordOf a1 a4 (3 : Int32) (10 : Int32) h) fun a6 =>
          lz (wrI h 4 21 (12 : Int32)) fun h1 =>
          bP (A := (Int32 × hH)) (
            if a6 = (-1 : Int32) then (
              bP (f_Fo_recordOf a1 a4 (3 : Int32) (1 : Int32) h1) fun a8 =>
              lz (wrI h1 4 21 (4 : Int32)) fun h2 =>
              some (a8, h2)
            ) else (
              some (a6, h1)
            )
          ) fun p7 =>
          bP (A := (Int32 × hH)) (
            if p7.1 = (-1 : Int32) then (
              bP (f_Fo_recordOf a1 a4 (1 : Int32) (0 : Int32) p7.2) fun a11 =>
              lz (wrI p7.2 4 21 (0 : Int32)) fun h3 =>
              some (a11, h3)
            ) else (
              some (p7.1, p7.2)
            )
          ) fun p10 =>
          if p10.1 = (-1 : Int32) then (
            some ((0 : Int32), p10.2)
          ) else (
            bP (f_By_u4 5 (p10.1 + (4 : Int32)) p10.2) fun a13 =>
            if a13 ≤ (Int32.toInt64 (a2 - (2 : Int32))) then (
              lz (wrI p10.2 4 20 (a1 + (Int64.toInt32 a13))) fun h4 =>
              lz (A := Int32) (a2 - (Int64.toInt32 a13)) fun v14 =>
              bP (f_By_u2 5 (rdI h4 4 20) h4) fun a15 =>
              if a15 = (rdI h4 4 21) then (
                if (rdI h4 4 21) = 0 then (
                  bS (f_Fo_isPlainMap v14 h4) fun a21 h7 =>
                  if a21 = 0 then (
                    some ((0 : Int32), h7)
                  ) else (
                    some ((1 : Int32), h7)
                  )
                ) else (
                  if (rdI h4 4 21) = (4 : Int32) then (
                    bS (f_Fo_isSegments v14 h4) fun a18 h6 =>
                    if a18 = 0 then (
                      some ((0 : Int32), h6)
                    ) else (
                      some ((1 : Int32), h6)
                    )
                  ) else (
                    bS (f_Fo_isGroups v14 h4) fun a16 h5 =>
                    if a16 = 0 then (
                      some ((0 : Int32), h5)
                    ) else (
                      some ((1 : Int32), h5)
                    )
                  )
                )
              ) else (
                some ((0 : Int32), h4)
              )
            ) else (
              some ((0 : Int32), p10.2)
            )
          )
        ) else (
          some ((0 : Int32), h)
        )
      )
    ) else (
      some ((0 : Int32), h)
    )
  )
set_option maxRecDepth 20000 in
theorem k_Fo_isMap (h : hH) : hx_kS S0 M_Fo_isMap 5 NT [(.ref 4)] h (f_Fo_isMap h) cvI := by
  have hm := m_Fo_isMap
  show hx_P S0 M_Fo_isMap 5 0 [(0, (.ref 4))] [] NT h (f_Fo_isMap h) (hx_Rc cvI NT)
  unfold f_Fo_isMap
  refine hp_cVP (M2 := M_Fo_beginOf) hm (at1 0 rfl) (as := [(.long (1668112752 : Int64))]) (rest := []) (z := 4) rfl (by exact trivial) (pc' := 4) rfl 0 rfl (lw_g (lw_at lw_m4 114 rfl) rfl) y_Fo_beginOf rfl (d2 := 2) ⟨le_b rfl, pd_Fo_beginOf, le_b rfl⟩ (le_b rfl) og_4 (k_Fo_beginOf (1668112752 : Int64) h) (fun a1 => ?_)
  refine hp_b hm (at1 1 rfl) (L' := [(1, (.int a1)), (0, (.ref 4))]) (st' := [(.long (1668112752 : Int64)), (.ref 4)]) rfl (by exact trivial) (pc' := 12) rfl ?_
  refine hp_cVP (M2 := M_Fo_lengthOf) hm at0 (as := [(.long (1668112752 : Int64))]) (rest := []) (z := 4) rfl (by exact trivial) (pc' := 12) rfl 1 rfl (lw_g (lw_at lw_m4 118 rfl) rfl) y_Fo_lengthOf rfl (d2 := 2) ⟨le_b rfl, pd_Fo_lengthOf, le_b rfl⟩ (le_b rfl) og_4 (k_Fo_lengthOf (1668112752 : Int64) h) (fun a2 => ?_)
  refine hp_b hm (at1 2 rfl) (L' := [(2, (.int a2)), (1, (.int a1)), (0, (.ref 4))]) (st' := [(.int (4 : Int32)), (.int a2)]) rfl (by exact trivial) (pc' := 18) rfl ?_
  refine hp_ic_lt hm at0 rfl (by exact trivial) (pc' := 18) rfl 34 rfl (tgt := 32) rfl (fun c30 => ?_) (fun c30 => ?_)
  · exact hp_ir hm (at1 3 rfl) rfl (by exact trivial) (pc' := 33) rfl 2 rfl rfl rfl (fun _ e => e)
  · refine hp_cVP (M2 := M_By_u2) hm (at1 4 rfl) (as := [(.int a1)]) (rest := []) (z := 5) rfl (by exact og_4) (pc' := 26) rfl 3 rfl (lw_g (lw_at lw_m4 75 rfl) rfl) y_By_u2 rfl (d2 := 2) ⟨le_b rfl, pd_By_u2, le_b rfl⟩ (le_b rfl) og_5 (k_By_u2 5 a1 h og_5) (fun a3 => ?_)
    refine hp_if_eq hm at0 rfl (by exact trivial) (pc' := 29) rfl 33 rfl (tgt := 34) rfl (fun c29 => ?_) (fun c29 => ?_)
    · refine hp_cVP (M2 := M_By_u2) hm (at1 5 rfl) (as := [(.int (a1 + (2 : Int32)))]) (rest := []) (z := 5) rfl (by exact og_4) (pc' := 41) rfl 4 rfl (lw_g (lw_at lw_m4 75 rfl) rfl) y_By_u2 rfl (d2 := 2) ⟨le_b rfl, pd_By_u2, le_b rfl⟩ (le_b rfl) og_5 (k_By_u2 5 (a1 + (2 : Int32)) h og_5) (fun a4 => ?_)
      refine hp_b hm (at1 6 rfl) (L' := [(3, (.int a4)), (2, (.int a2)), (1, (.int a1)), (0, (.ref 4))]) (st' := [(.long (8 : Int64)), (.long (1 : Int64)), (.long (Int32.toInt64 a4))]) rfl (by exact trivial) (pc' := 51) rfl ?_
      refine hp_cNP (M2 := M_HH_within) hm at0 (as := [(.long (Int32.toInt64 a4)), (.long (1 : Int64)), (.long (8 : Int64))]) (rest := []) rfl (by exact trivial) (pc' := 51) rfl 5 rfl (hmn_2_112) y_HH_within rfl (d2 := 1) ⟨le_b rfl, pd_HH_within, le_b rfl⟩ (le_b rfl) (k_HH_within (Int32.toInt64 a4) (1 : Int64) (8 : Int64) h) (fun a5 => ?_)
      refine hp_if_eq hm at0 rfl (by exact trivial) (pc' := 54) rfl 32 rfl (tgt := 67) rfl (fun c28 => ?_) (fun c28 => ?_)
      · exact hp_ir hm (at1 7 rfl) rfl (by exact trivial) (pc' := 68) rfl 6 rfl rfl rfl (fun _ e => e)
      · refine hp_ic_ge hm (at1 8 rfl) rfl (by exact trivial) (pc' := 64) rfl 31 rfl (tgt := 69) rfl (fun c27 => ?_) (fun c27 => ?_)
        · refine hp_cVP (M2 := M_Fo_recordOf) hm (at1 9 rfl) (as := [(.int a1), (.int a4), (.int (3 : Int32)), (.int (10 : Int32))]) (rest := []) (z := 4) rfl (by exact trivial) (pc' := 75) rfl 7 rfl (lw_g (lw_at lw_m4 208 rfl) rfl) y_Fo_recordOf rfl (d2 := 3) ⟨le_b rfl, pd_Fo_recordOf, le_b rfl⟩ (le_b rfl) og_4 (k_Fo_recordOf a1 a4 (3 : Int32) (10 : Int32) h) (fun a6 => ?_)
          refine hp_w hm (at1 10 rfl) (L' := [(4, (.int a6)), (3, (.int a4)), (2, (.int a2)), (1, (.int a1)), (0, (.ref 4))]) rfl (by exact og_4) (pc' := 86) rfl (fun h1 => ?_)
          refine hp_J 107 (fun (p7 : (Int32 × hH)) => [(0, (.ref 4)), (1, (.int a1)), (2, (.int a2)), (3, (.int a4)), (4, (.int p7.1))]) (fun (p7 : (Int32 × hH)) => []) (fun (p7 : (Int32 × hH)) => p7.2) ?_ (fun p7 => ?_)
          · refine hp_ic_ne hm (at1 11 rfl) rfl (by exact trivial) (pc' := 89) rfl 9 rfl (tgt := 107) rfl (fun c9 => ?_) (fun c9 => ?_)
            · exact hp_lf [4, 3, 2, 1, 0] rfl (fun _ e => e)
            · refine hp_cVP (M2 := M_Fo_recordOf) hm (at1 12 rfl) (as := [(.int a1), (.int a4), (.int (3 : Int32)), (.int (1 : Int32))]) (rest := []) (z := 4) rfl (by exact trivial) (pc' := 97) rfl 8 rfl (lw_g (lw_at lw_m4 208 rfl) rfl) y_Fo_recordOf rfl (d2 := 3) ⟨le_b rfl, pd_Fo_recordOf, le_b rfl⟩ (le_b rfl) og_4 (k_Fo_recordOf a1 a4 (3 : Int32) (1 : Int32) h1) (fun a8 => ?_)
              refine hp_w hm (at1 13 rfl) (L' := [(4, (.int a8)), (3, (.int a4)), (2, (.int a2)), (1, (.int a1)), (0, (.ref 4))]) rfl (by exact og_4) (pc' := 107) rfl (fun h2 => ?_)
              exact hp_lf [4, 3, 2, 1, 0] rfl (fun _ e => e)
          · refine hp_J 128 (fun (p10 : (Int32 × hH)) => [(0, (.ref 4)), (1, (.int a1)), (2, (.int a2)), (4, (.int p10.1))]) (fun (p10 : (Int32 × hH)) => []) (fun (p10 : (Int32 × hH)) => p10.2) ?_ (fun p10 => ?_)
            · refine hp_ic_ne hm (at1 14 rfl) rfl (by exact trivial) (pc' := 110) rfl 11 rfl (tgt := 128) rfl (fun c12 => ?_) (fun c12 => ?_)
              · exact hp_lf [0, 1, 2, 4] rfl (fun _ e => e)
              · refine hp_cVP (M2 := M_Fo_recordOf) hm (at1 15 rfl) (as := [(.int a1), (.int a4), (.int (1 : Int32)), (.int (0 : Int32))]) (rest := []) (z := 4) rfl (by exact trivial) (pc' := 118) rfl 10 rfl (lw_g (lw_at lw_m4 208 rfl) rfl) y_Fo_recordOf rfl (d2 := 3) ⟨le_b rfl, pd_Fo_recordOf, le_b rfl⟩ (le_b rfl) og_4 (k_Fo_recordOf a1 a4 (1 : Int32) (0 : Int32) p7.2) (fun a11 => ?_)
                refine hp_w hm (at1 16 rfl) (L' := [(4, (.int a11)), (0, (.ref 4)), (1, (.int a1)), (2, (.int a2)), (3, (.int a4))]) rfl (by exact og_4) (pc' := 128) rfl (fun h3 => ?_)
                exact hp_lf [1, 2, 3, 0] rfl (fun _ e => e)
            · refine hp_ic_ne hm (at1 17 rfl) rfl (by exact trivial) (pc' := 131) rfl 30 rfl (tgt := 136) rfl (fun c26 => ?_) (fun c26 => ?_)
              · refine hp_cVP (M2 := M_By_u4) hm (at1 18 rfl) (as := [(.int (p10.1 + (4 : Int32)))]) (rest := []) (z := 5) rfl (by exact og_4) (pc' := 144) rfl 12 rfl (lw_g (lw_at lw_m4 62 rfl) rfl) y_By_u4 rfl (d2 := 3) ⟨le_b rfl, pd_By_u4, le_b rfl⟩ (le_b rfl) og_5 (k_By_u4 5 (p10.1 + (4 : Int32)) p10.2 og_5) (fun a13 => ?_)
                refine hp_b hm (at1 19 rfl) (L' := [(5, (.long a13)), (0, (.ref 4)), (1, (.int a1)), (2, (.int a2)), (4, (.int p10.1))]) (st' := [(.int (lg_cmp a13 (Int32.toInt64 (a2 - (2 : Int32)))))]) rfl (by exact trivial) (pc' := 156) rfl ?_
                refine hp_lc_le hm at0 rfl (by exact trivial) (pc' := 156) rfl 28 rfl (tgt := 161) rfl (fun c25 => ?_) (fun c25 => ?_)
                · refine hp_w hm (at1 20 rfl) (L' := [(5, (.long a13)), (0, (.ref 4)), (1, (.int a1)), (2, (.int a2)), (4, (.int p10.1))]) rfl (by exact og_4) (pc' := 170) rfl (fun h4 => ?_)
                  refine hp_z hm (at1 21 rfl) (fun (v14 : Int32) => [(7, (.int v14)), (5, (.long a13)), (0, (.ref 4)), (1, (.int a1)), (2, (.int a2)), (4, (.int p10.1))]) (fun (v14 : Int32) => []) rfl (by exact trivial) (pc' := 177) rfl (fun v14 => ?_)
                  refine hp_cVP (M2 := M_By_u2) hm (at1 22 rfl) (as := [(.int (rdI h4 4 20))]) (rest := []) (z := 5) rfl (by exact ⟨og_4, og_4⟩) (pc' := 185) rfl 13 rfl (lw_g (lw_at lw_m4 75 rfl) rfl) y_By_u2 rfl (d2 := 2) ⟨le_b rfl, pd_By_u2, le_b rfl⟩ (le_b rfl) og_5 (k_By_u2 5 (rdI h4 4 20) h4 og_5) (fun a15 => ?_)
                  refine hp_ic_ne hm (at1 23 rfl) rfl (by exact og_4) (pc' := 192) rfl 26 rfl (tgt := 247) rfl (fun c24 => ?_) (fun c24 => ?_)
                  · refine hp_b hm (at1 24 rfl) (L' := [(7, (.int v14)), (5, (.long a13)), (0, (.ref 4)), (1, (.int a1)), (2, (.int a2)), (4, (.int p10.1))]) (st' := [(.int (0 : Int32))]) rfl (by exact trivial) (pc' := 248) rfl ?_
                    exact hp_ir hm at0 rfl (by exact trivial) (pc' := 248) rfl 14 rfl rfl rfl (fun _ e => e)
                  · refine hp_if_ne hm (at1 25 rfl) rfl (by exact og_4) (pc' := 199) rfl 25 rfl (tgt := 214) rfl (fun c23 => ?_) (fun c23 => ?_)
                    · refine hp_ic_ne hm (at1 26 rfl) rfl (by exact og_4) (pc' := 219) rfl 21 rfl (tgt := 234) rfl (fun c20 => ?_) (fun c20 => ?_)
                      · refine hp_cVS (M2 := M_Fo_isGroups) hm (at1 27 rfl) (as := [(.int v14)]) (rest := []) (z := 4) rfl (by exact trivial) (pc' := 237) rfl 15 rfl (lw_g (lw_at lw_m4 234 rfl) rfl) y_Fo_isGroups rfl (d2 := 4) ⟨le_b rfl, pd_Fo_isGroups, le_b rfl⟩ (le_b rfl) og_4 (k_Fo_isGroups v14 h4) (fun a16 h5 => ?_)
                        refine hp_if_eq hm at0 rfl (by exact trivial) (pc' := 240) rfl 17 rfl (tgt := 247) rfl (fun c17 => ?_) (fun c17 => ?_)
                        · refine hp_b hm (at1 24 rfl) (L' := [(7, (.int v14)), (5, (.long a13)), (0, (.ref 4)), (1, (.int a1)), (2, (.int a2)), (4, (.int p10.1))]) (st' := [(.int (0 : Int32))]) rfl (by exact trivial) (pc' := 248) rfl ?_
                          exact hp_ir hm at0 rfl (by exact trivial) (pc' := 248) rfl 14 rfl rfl rfl (fun _ e => e)
                        · refine hp_b hm (at1 28 rfl) (L' := [(7, (.int v14)), (5, (.long a13)), (0, (.ref 4)), (1, (.int a1)), (2, (.int a2)), (4, (.int p10.1))]) (st' := [(.int (1 : Int32))]) rfl (by exact trivial) (pc' := 244) rfl ?_
                          refine hp_goto hm 16 rfl (tgt := 248) rfl ?_
                          exact hp_ir hm at0 rfl (by exact trivial) (pc' := 248) rfl 14 rfl rfl rfl (fun _ e => e)
                      · refine hp_cVS (M2 := M_Fo_isSegments) hm (at1 29 rfl) (as := [(.int v14)]) (rest := []) (z := 4) rfl (by exact trivial) (pc' := 225) rfl 18 rfl (lw_g (lw_at lw_m4 216 rfl) rfl) y_Fo_isSegments rfl (d2 := 4) ⟨le_b rfl, pd_Fo_isSegments, le_b rfl⟩ (le_b rfl) og_4 (k_Fo_isSegments v14 h4) (fun a18 h6 => ?_)
                        refine hp_if_eq hm at0 rfl (by exact trivial) (pc' := 228) rfl 20 rfl (tgt := 247) rfl (fun c19 => ?_) (fun c19 => ?_)
                        · refine hp_b hm (at1 24 rfl) (L' := [(7, (.int v14)), (5, (.long a13)), (0, (.ref 4)), (1, (.int a1)), (2, (.int a2)), (4, (.int p10.1))]) (st' := [(.int (0 : Int32))]) rfl (by exact trivial) (pc' := 248) rfl ?_
                          exact hp_ir hm at0 rfl (by exact trivial) (pc' := 248) rfl 14 rfl rfl rfl (fun _ e => e)
                        · refine hp_goto hm 19 rfl (tgt := 243) rfl ?_
                          refine hp_b hm (at1 28 rfl) (L' := [(7, (.int v14)), (5, (.long a13)), (0, (.ref 4)), (1, (.int a1)), (2, (.int a2)), (4, (.int p10.1))]) (st' := [(.int (1 : Int32))]) rfl (by exact trivial) (pc' := 244) rfl ?_
                          refine hp_goto hm 16 rfl (tgt := 248) rfl ?_
                          exact hp_ir hm at0 rfl (by exact trivial) (pc' := 248) rfl 14 rfl rfl rfl (fun _ e => e)
                    · refine hp_cVS (M2 := M_Fo_isPlainMap) hm (at1 30 rfl) (as := [(.int v14)]) (rest := []) (z := 4) rfl (by exact trivial) (pc' := 205) rfl 22 rfl (lw_g (lw_at lw_m4 212 rfl) rfl) y_Fo_isPlainMap rfl (d2 := 3) ⟨le_b rfl, pd_Fo_isPlainMap, le_b rfl⟩ (le_b rfl) og_4 (k_Fo_isPlainMap v14 h4) (fun a21 h7 => ?_)
                      refine hp_if_eq hm at0 rfl (by exact trivial) (pc' := 208) rfl 24 rfl (tgt := 247) rfl (fun c22 => ?_) (fun c22 => ?_)
                      · refine hp_b hm (at1 24 rfl) (L' := [(7, (.int v14)), (5, (.long a13)), (0, (.ref 4)), (1, (.int a1)), (2, (.int a2)), (4, (.int p10.1))]) (st' := [(.int (0 : Int32))]) rfl (by exact trivial) (pc' := 248) rfl ?_
                        exact hp_ir hm at0 rfl (by exact trivial) (pc' := 248) rfl 14 rfl rfl rfl (fun _ e => e)
                      · refine hp_goto hm 23 rfl (tgt := 243) rfl ?_
                        refine hp_b hm (at1 28 rfl) (L' := [(7, (.int v14)), (5, (.long a13)), (0, (.ref 4)), (1, (.int a1)), (2, (.int a2)), (4, (.int p10.1))]) (st' := [(.int (1 : Int32))]) rfl (by exact trivial) (pc' := 244) rfl ?_
                        refine hp_goto hm 16 rfl (tgt := 248) rfl ?_
                        exact hp_ir hm at0 rfl (by exact trivial) (pc' := 248) rfl 14 rfl rfl rfl (fun _ e => e)
                · exact hp_ir hm (at1 31 rfl) rfl (by exact trivial) (pc' := 160) rfl 27 rfl rfl rfl (fun _ e => e)
              · exact hp_ir hm (at1 32 rfl) rfl (by exact trivial) (pc' := 135) rfl 29 rfl rfl rfl (fun _ e => e)
        · exact hp_ir hm (at1 7 rfl) rfl (by exact trivial) (pc' := 68) rfl 6 rfl rfl rfl (fun _ e => e)
    · exact hp_ir hm (at1 3 rfl) rfl (by exact trivial) (pc' := 33) rfl 2 rfl rfl rfl (fun _ e => e)
/-! HintHouse$Font.isKern()Z -/
def M_Fo_isKern : hM := (2, ⟨"HintHouse$Font", "isKern", "()Z"⟩, prog_3_method_33_code, 5, (Option.some Jvm.ClassFile.FieldType.boolean), [], [(0, [(.aload_n 0, 1, 0, 0, 0, .null), (.ldc2_w 287, 3, 0, 0, 0, (.long (1801810542 : Int64)))]), (7, [(.istore_n 1, 1, 0, 0, 0, .null), (.aload_n 0, 1, 0, 0, 0, .null), (.ldc2_w 287, 3, 0, 0, 0, (.long (1801810542 : Int64)))]), (15, [(.istore_n 2, 1, 0, 0, 0, .null), (.aload_n 0, 1, 0, 0, 0, .null), (.ldc2_w 287, 3, 0, 0, 0, (.long (1801810542 : Int64)))]), (23, [(.iconst (-1), 1, 0, 0, 0, (.int (-1 : Int32)))]), (29, [(.iload_n 2, 1, 0, 0, 0, .null), (.bipush 18, 2, 0, 0, 0, (.int (18 : Int32)))]), (75, [(.iconst 0, 1, 0, 0, 0, (.int (0 : Int32)))]), (35, [(.aload_n 0, 1, 0, 0, 0, .null), (.getfield 12, 3, 2, 0, 4, .null), (.iload_n 1, 1, 0, 0, 0, .null)]), (46, [(.aload_n 0, 1, 0, 0, 0, .null), (.getfield 12, 3, 2, 0, 4, .null), (.iload_n 1, 1, 0, 0, 0, .null), (.iconst 2, 1, 0, 0, 0, (.int (2 : Int32))), (.iadd, 1, 0, 0, 0, .null)]), (56, [(.iconst 1, 1, 0, 0, 0, (.int (1 : Int32)))]), (60, [(.aload_n 0, 1, 0, 0, 0, .null), (.getfield 12, 3, 2, 0, 4, .null), (.iload_n 1, 1, 0, 0, 0, .null), (.bipush 8, 2, 0, 0, 0, (.int (8 : Int32))), (.iadd, 1, 0, 0, 0, .null)]), (71, [(.iconst 1, 1, 0, 0, 0, (.int (1 : Int32)))]), (77, [(.aload_n 0, 1, 0, 0, 0, .null), (.getfield 12, 3, 2, 0, 4, .null), (.iload_n 1, 1, 0, 0, 0, .null), (.bipush 10, 2, 0, 0, 0, (.int (10 : Int32))), (.iadd, 1, 0, 0, 0, .null)]), (88, [(.istore_n 3, 1, 0, 0, 0, .null), (.iload_n 3, 1, 0, 0, 0, .null), (.sipush 500, 3, 0, 0, 0, (.int (500 : Int32)))]), (107, [(.iconst 0, 1, 0, 0, 0, (.int (0 : Int32)))]), (96, [(.iload_n 2, 1, 0, 0, 0, .null), (.bipush 18, 2, 0, 0, 0, (.int (18 : Int32))), (.bipush 6, 2, 0, 0, 0, (.int (6 : Int32))), (.iload_n 3, 1, 0, 0, 0, .null), (.imul, 1, 0, 0, 0, .null), (.iadd, 1, 0, 0, 0, .null)]), (109, [(.aload_n 0, 1, 0, 0, 0, .null), (.iload_n 1, 1, 0, 0, 0, .null), (.bipush 18, 2, 0, 0, 0, (.int (18 : Int32))), (.iadd, 1, 0, 0, 0, .null), (.putfield 289, 3, 2, 24, 0, .null)]), (117, [(.iconst 1, 1, 0, 0, 0, (.int (1 : Int32))), (.istore 4, 2, 0, 0, 0, .null)]), (120, [(.iload 4, 2, 0, 0, 0, .null), (.iload_n 3, 1, 0, 0, 0, .null)]), (126, [(.aload_n 0, 1, 0, 0, 0, .null), (.getfield 12, 3, 2, 0, 4, .null), (.aload_n 0, 1, 0, 0, 0, .null), (.getfield 289, 3, 2, 24, 0, .null), (.bipush 6, 2, 0, 0, 0, (.int (6 : Int32))), (.iload 4, 2, 0, 0, 0, .null), (.imul, 1, 0, 0, 0, .null), (.iadd, 1, 0, 0, 0, .null)]), (143, [(.aload_n 0, 1, 0, 0, 0, .null), (.getfield 12, 3, 2, 0, 4, .null), (.aload_n 0, 1, 0, 0, 0, .null), (.getfield 289, 3, 2, 24, 0, .null), (.bipush 6, 2, 0, 0, 0, (.int (6 : Int32))), (.iload 4, 2, 0, 0, 0, .null), (.imul, 1, 0, 0, 0, .null), (.iadd, 1, 0, 0, 0, .null), (.bipush 6, 2, 0, 0, 0, (.int (6 : Int32))), (.isub, 1, 0, 0, 0, .null)]), (163, [(.lcmp, 1, 0, 0, 0, .null)]), (169, [(.iinc 4 1, 3, 0, 0, 0, (.int (1 : Int32)))]), (167, [(.iconst 0, 1, 0, 0, 0, (.int (0 : Int32)))]), (175, [(.aload_n 0, 1, 0, 0, 0, .null), (.iload_n 3, 1, 0, 0, 0, .null), (.putfield 50, 3, 2, 23, 0, .null)]), (180, [(.iconst 1, 1, 0, 0, 0, (.int (1 : Int32)))]), (27, [(.iconst 1, 1, 0, 0, 0, (.int (1 : Int32)))])], [(4, .invokevirtual 99, 3), (12, .invokevirtual 96, 3), (20, .invokevirtual 46, 3), (76, .ireturn, 1), (40, .invokevirtual 102, 3), (53, .invokevirtual 102, 3), (68, .invokevirtual 102, 3), (85, .invokevirtual 102, 3), (108, .ireturn, 1), (140, .invokevirtual 137, 3), (160, .invokevirtual 137, 3), (172, .goto (-52), 3), (168, .ireturn, 1), (164, .ifCond .gt 5, 3), (123, .if_icmp .ge 52, 3), (181, .ireturn, 1), (104, .if_icmp .ge 5, 3), (93, .if_icmp .gt 14, 3), (72, .if_icmp .eq 5, 3), (57, .if_icmp .lt 18, 3), (43, .ifCond .ne 32, 3), (32, .if_icmp .lt 43, 3), (28, .ireturn, 1), (24, .if_icmp .ne 5, 3)])
set_option maxRecDepth 100000 in
theorem m_Fo_isKern : hx_mok M_Fo_isKern = true := by decide +kernel
theorem pd_Fo_isKern : (parseMethodDescriptor M_Fo_isKern.2.1.desc).map (fun q => q.parameters.length) = some 0 := by decide +kernel
theorem y_Fo_isKern : hx_okV M_Fo_isKern := ⟨⟨lw_g (lw_at lw_m5 3 rfl) rfl, lw_g (lw_at lw_m5 2 rfl) rfl, qs29, lw_g (lw_at lw_m1 3 rfl) rfl, rfl, by decide, by decide, by decide⟩, rfl, by decide, plainFor_of_name (by decide)⟩
noncomputable def f_Fo_isKern (h : hH) : Option (Int32 × hH) :=
  bP (f_Fo_beginOf (1801810542 : Int64) h) fun a1 =>
  bP (f_Fo_lengthOf (1801810542 : Int64) h) fun a2 =>
  bP (f_Fo_find (1801810542 : Int64) h) fun a3 =>
  if a3 = (-1 : Int32) then (
    some ((1 : Int32), h)
  ) else (
    if a2 < (18 : Int32) then (
      some ((0 : Int32), h)
    ) else (
      bP (f_By_u2 5 a1 h) fun a4 =>
      if a4 = 0 then (
        bP (f_By_u2 5 (a1 + (2 : Int32)) h) fun a5 =>
        if a5 < (1 : Int32) then (
          some ((0 : Int32), h)
        ) else (
          bP (f_By_u2 5 (a1 + (8 : Int32)) h) fun a6 =>
          if a6 = (1 : Int32) then (
            bP (f_By_u2 5 (a1 + (10 : Int32)) h) fun a7 =>
            if (500 : Int32) < a7 then (
              some ((0 : Int32), h)
            ) else (
              if ((18 : Int32) + ((6 : Int32) * a7)) ≤ a2 then (
                lz (wrI h 4 24 (a1 + (18 : Int32))) fun h1 =>
                bE (P := Unit) (X := (Int32 × hH)) (
                  wh (A := Int32) (B := (Unit ⊕ (Int32 × hH))) (fun p8 =>
                      if a7 ≤ p8 then (
                        some (.inr (.inl ()))
                      ) else (
                        bP (f_By_u4 5 ((rdI h1 4 24) + ((6 : Int32) * p8)) h1) fun a10 =>
                        bP (f_By_u4 5 (((rdI h1 4 24) + ((6 : Int32) * p8)) - (6 : Int32)) h1) fun a11 =>
                        if a11 < a10 then (
                          lz (A := Int32) (p8 + (1 : Int32)) fun v12 =>
                          some (.inl v12)
                        ) else (
                          some (.inr (.inr ((0 : Int32), h1)))
                        )
                      )
                  ) (1 : Int32)
                ) fun p9 =>
                lz (wrI h1 4 23 a7) fun h2 =>
                some ((1 : Int32), h2)
              ) else (
                some ((0 : Int32), h)
              )
            )
          ) else (
            some ((0 : Int32), h)
          )
        )
      ) else (
        some ((0 : Int32), h)
      )
    )
  )
set_option maxRecDepth 20000 in
theorem k_Fo_isKern (h : hH) : hx_kS S0 M_Fo_isKern 4 NT [(.ref 4)] h (f_Fo_isKern h) cvI := by
  have hm := m_Fo_isKern
  show hx_P S0 M_Fo_isKern 4 0 [(0, (.ref 4))] [] NT h (f_Fo_isKern h) (hx_Rc cvI NT)
  unfold f_Fo_isKern
  refine hp_cVP (M2 := M_Fo_beginOf) hm (at1 0 rfl) (as := [(.long (1801810542 : Int64))]) (rest := []) (z := 4) rfl (by exact trivial) (pc' := 4) rfl 0 rfl (lw_g (lw_at lw_m4 114 rfl) rfl) y_Fo_beginOf rfl (d2 := 2) ⟨le_b rfl, pd_Fo_beginOf, le_b rfl⟩ (le_b rfl) og_4 (k_Fo_beginOf (1801810542 : Int64) h) (fun a1 => ?_)
  refine hp_b hm (at1 1 rfl) (L' := [(1, (.int a1)), (0, (.ref 4))]) (st' := [(.long (1801810542 : Int64)), (.ref 4)]) rfl (by exact trivial) (pc' := 12) rfl ?_
  refine hp_cVP (M2 := M_Fo_lengthOf) hm at0 (as := [(.long (1801810542 : Int64))]) (rest := []) (z := 4) rfl (by exact trivial) (pc' := 12) rfl 1 rfl (lw_g (lw_at lw_m4 118 rfl) rfl) y_Fo_lengthOf rfl (d2 := 2) ⟨le_b rfl, pd_Fo_lengthOf, le_b rfl⟩ (le_b rfl) og_4 (k_Fo_lengthOf (1801810542 : Int64) h) (fun a2 => ?_)
  refine hp_b hm (at1 2 rfl) (L' := [(2, (.int a2)), (1, (.int a1)), (0, (.ref 4))]) (st' := [(.long (1801810542 : Int64)), (.ref 4)]) rfl (by exact trivial) (pc' := 20) rfl ?_
  refine hp_cVP (M2 := M_Fo_find) hm at0 (as := [(.long (1801810542 : Int64))]) (rest := []) (z := 4) rfl (by exact trivial) (pc' := 20) rfl 2 rfl (lw_g (lw_at lw_m4 101 rfl) rfl) y_Fo_find rfl (d2 := 1) ⟨le_b rfl, pd_Fo_find, le_b rfl⟩ (le_b rfl) og_4 (k_Fo_find (1801810542 : Int64) h) (fun a3 => ?_)
  refine hp_ic_ne hm (at1 3 rfl) rfl (by exact trivial) (pc' := 24) rfl 23 rfl (tgt := 29) rfl (fun c21 => ?_) (fun c21 => ?_)
  · refine hp_ic_lt hm (at1 4 rfl) rfl (by exact trivial) (pc' := 32) rfl 21 rfl (tgt := 75) rfl (fun c20 => ?_) (fun c20 => ?_)
    · exact hp_ir hm (at1 5 rfl) rfl (by exact trivial) (pc' := 76) rfl 3 rfl rfl rfl (fun _ e => e)
    · refine hp_cVP (M2 := M_By_u2) hm (at1 6 rfl) (as := [(.int a1)]) (rest := []) (z := 5) rfl (by exact og_4) (pc' := 40) rfl 4 rfl (lw_g (lw_at lw_m4 75 rfl) rfl) y_By_u2 rfl (d2 := 2) ⟨le_b rfl, pd_By_u2, le_b rfl⟩ (le_b rfl) og_5 (k_By_u2 5 a1 h og_5) (fun a4 => ?_)
      refine hp_if_ne hm at0 rfl (by exact trivial) (pc' := 43) rfl 20 rfl (tgt := 75) rfl (fun c19 => ?_) (fun c19 => ?_)
      · exact hp_ir hm (at1 5 rfl) rfl (by exact trivial) (pc' := 76) rfl 3 rfl rfl rfl (fun _ e => e)
      · refine hp_cVP (M2 := M_By_u2) hm (at1 7 rfl) (as := [(.int (a1 + (2 : Int32)))]) (rest := []) (z := 5) rfl (by exact og_4) (pc' := 53) rfl 5 rfl (lw_g (lw_at lw_m4 75 rfl) rfl) y_By_u2 rfl (d2 := 2) ⟨le_b rfl, pd_By_u2, le_b rfl⟩ (le_b rfl) og_5 (k_By_u2 5 (a1 + (2 : Int32)) h og_5) (fun a5 => ?_)
        refine hp_ic_lt hm (at1 8 rfl) rfl (by exact trivial) (pc' := 57) rfl 19 rfl (tgt := 75) rfl (fun c18 => ?_) (fun c18 => ?_)
        · exact hp_ir hm (at1 5 rfl) rfl (by exact trivial) (pc' := 76) rfl 3 rfl rfl rfl (fun _ e => e)
        · refine hp_cVP (M2 := M_By_u2) hm (at1 9 rfl) (as := [(.int (a1 + (8 : Int32)))]) (rest := []) (z := 5) rfl (by exact og_4) (pc' := 68) rfl 6 rfl (lw_g (lw_at lw_m4 75 rfl) rfl) y_By_u2 rfl (d2 := 2) ⟨le_b rfl, pd_By_u2, le_b rfl⟩ (le_b rfl) og_5 (k_By_u2 5 (a1 + (8 : Int32)) h og_5) (fun a6 => ?_)
          refine hp_ic_eq hm (at1 10 rfl) rfl (by exact trivial) (pc' := 72) rfl 18 rfl (tgt := 77) rfl (fun c17 => ?_) (fun c17 => ?_)
          · refine hp_cVP (M2 := M_By_u2) hm (at1 11 rfl) (as := [(.int (a1 + (10 : Int32)))]) (rest := []) (z := 5) rfl (by exact og_4) (pc' := 85) rfl 7 rfl (lw_g (lw_at lw_m4 75 rfl) rfl) y_By_u2 rfl (d2 := 2) ⟨le_b rfl, pd_By_u2, le_b rfl⟩ (le_b rfl) og_5 (k_By_u2 5 (a1 + (10 : Int32)) h og_5) (fun a7 => ?_)
            refine hp_b hm (at1 12 rfl) (L' := [(3, (.int a7)), (2, (.int a2)), (1, (.int a1)), (0, (.ref 4))]) (st' := [(.int (500 : Int32)), (.int a7)]) rfl (by exact trivial) (pc' := 93) rfl ?_
            refine hp_ic_gt hm at0 rfl (by exact trivial) (pc' := 93) rfl 17 rfl (tgt := 107) rfl (fun c16 => ?_) (fun c16 => ?_)
            · exact hp_ir hm (at1 13 rfl) rfl (by exact trivial) (pc' := 108) rfl 8 rfl rfl rfl (fun _ e => e)
            · refine hp_ic_ge hm (at1 14 rfl) rfl (by exact trivial) (pc' := 104) rfl 16 rfl (tgt := 109) rfl (fun c15 => ?_) (fun c15 => ?_)
              · refine hp_w hm (at1 15 rfl) (L' := [(3, (.int a7)), (2, (.int a2)), (1, (.int a1)), (0, (.ref 4))]) rfl (by exact og_4) (pc' := 117) rfl (fun h1 => ?_)
                refine hp_b hm (at1 16 rfl) (L' := [(4, (.int (1 : Int32))), (3, (.int a7)), (2, (.int a2)), (1, (.int a1)), (0, (.ref 4))]) (st' := []) rfl (by exact trivial) (pc' := 120) rfl ?_
                refine hp_E 175 (fun (p9 : Unit) => [(0, (.ref 4)), (3, (.int a7))]) (fun (p9 : Unit) => []) (fun (p9 : Unit) => h1) ?_ (fun p9 => ?_)
                · refine hp_s [4, 1, 0] rfl (L' := [(0, (.ref 4)), (3, (.int a7)), (4, (.int (1 : Int32)))]) ?_
                  refine hp_wh (fun (p8 : Int32) => [(0, (.ref 4)), (3, (.int a7)), (4, (.int p8))]) [] (fun (p8 : Int32) => h1) (fun p8 => ?_) (1 : Int32)
                  refine hp_ic_ge hm (at1 17 rfl) rfl (by exact trivial) (pc' := 123) rfl 14 rfl (tgt := 175) rfl (fun c14 => ?_) (fun c14 => ?_)
                  · exact hp_lf [0, 1] rfl (fun _ e => e)
                  · refine hp_cVP (M2 := M_By_u4) hm (at1 18 rfl) (as := [(.int ((rdI h1 4 24) + ((6 : Int32) * p8)))]) (rest := []) (z := 5) rfl (by exact ⟨og_4, og_4⟩) (pc' := 140) rfl 9 rfl (lw_g (lw_at lw_m4 62 rfl) rfl) y_By_u4 rfl (d2 := 3) ⟨le_b rfl, pd_By_u4, le_b rfl⟩ (le_b rfl) og_5 (k_By_u4 5 ((rdI h1 4 24) + ((6 : Int32) * p8)) h1 og_5) (fun a10 => ?_)
                    refine hp_cVP (M2 := M_By_u4) hm (at1 19 rfl) (as := [(.int (((rdI h1 4 24) + ((6 : Int32) * p8)) - (6 : Int32)))]) (rest := [(.long a10)]) (z := 5) rfl (by exact ⟨og_4, og_4⟩) (pc' := 160) rfl 10 rfl (lw_g (lw_at lw_m4 62 rfl) rfl) y_By_u4 rfl (d2 := 3) ⟨le_b rfl, pd_By_u4, le_b rfl⟩ (le_b rfl) og_5 (k_By_u4 5 (((rdI h1 4 24) + ((6 : Int32) * p8)) - (6 : Int32)) h1 og_5) (fun a11 => ?_)
                    refine hp_lc_gt hm (at1 20 rfl) rfl (by exact trivial) (pc' := 164) rfl 13 rfl (tgt := 169) rfl (fun c13 => ?_) (fun c13 => ?_)
                    · refine hp_z hm (at1 21 rfl) (fun (v12 : Int32) => [(4, (.int v12)), (0, (.ref 4)), (3, (.int a7))]) (fun (v12 : Int32) => []) rfl (by exact trivial) (pc' := 172) rfl (fun v12 => ?_)
                      refine hp_goto hm 11 rfl (tgt := 120) rfl ?_
                      exact hp_lf [1, 2, 0] rfl (fun _ e => e)
                    · exact hp_ir hm (at1 22 rfl) rfl (by exact trivial) (pc' := 168) rfl 12 rfl rfl rfl (fun _ e => e)
                · refine hp_w hm (at1 23 rfl) (L' := [(0, (.ref 4)), (3, (.int a7))]) rfl (by exact og_4) (pc' := 180) rfl (fun h2 => ?_)
                  exact hp_ir hm (at1 24 rfl) rfl (by exact trivial) (pc' := 181) rfl 15 rfl rfl rfl (fun _ e => e)
              · exact hp_ir hm (at1 13 rfl) rfl (by exact trivial) (pc' := 108) rfl 8 rfl rfl rfl (fun _ e => e)
          · exact hp_ir hm (at1 5 rfl) rfl (by exact trivial) (pc' := 76) rfl 3 rfl rfl rfl (fun _ e => e)
  · exact hp_ir hm (at1 25 rfl) rfl (by exact trivial) (pc' := 28) rfl 22 rfl rfl rfl (fun _ e => e)
/-! HintHouse$Font.arePrograms()Z -/
def M_Fo_arePrograms : hM := (2, ⟨"HintHouse$Font", "arePrograms", "()Z"⟩, prog_3_method_35_code, 2, (Option.some Jvm.ClassFile.FieldType.boolean), [], [(0, [(.aload_n 0, 1, 0, 0, 0, .null), (.aload_n 0, 1, 0, 0, 0, .null), (.ldc2_w 292, 3, 0, 0, 0, (.long (1668707360 : Int64)))]), (8, [(.putfield 294, 3, 2, 25, 0, .null)]), (11, [(.aload_n 0, 1, 0, 0, 0, .null), (.aload_n 0, 1, 0, 0, 0, .null), (.ldc2_w 297, 3, 0, 0, 0, (.long (1718642541 : Int64)))]), (19, [(.putfield 299, 3, 2, 27, 0, .null)]), (22, [(.aload_n 0, 1, 0, 0, 0, .null), (.aload_n 0, 1, 0, 0, 0, .null), (.ldc2_w 302, 3, 0, 0, 0, (.long (1886545264 : Int64)))]), (30, [(.putfield 304, 3, 2, 29, 0, .null)]), (33, [(.aload_n 0, 1, 0, 0, 0, .null), (.ldc2_w 292, 3, 0, 0, 0, (.long (1668707360 : Int64)))]), (40, [(.istore_n 1, 1, 0, 0, 0, .null), (.aload_n 0, 1, 0, 0, 0, .null), (.iload_n 1, 1, 0, 0, 0, .null), (.iconst 2, 1, 0, 0, 0, (.int (2 : Int32))), (.idiv, 1, 0, 0, 0, .null), (.putfield 53, 3, 2, 26, 0, .null)]), (48, [(.aload_n 0, 1, 0, 0, 0, .null), (.aload_n 0, 1, 0, 0, 0, .null), (.ldc2_w 297, 3, 0, 0, 0, (.long (1718642541 : Int64)))]), (56, [(.putfield 56, 3, 2, 28, 0, .null)]), (59, [(.aload_n 0, 1, 0, 0, 0, .null), (.aload_n 0, 1, 0, 0, 0, .null), (.ldc2_w 302, 3, 0, 0, 0, (.long (1886545264 : Int64)))]), (67, [(.putfield 59, 3, 2, 30, 0, .null)]), (70, [(.iload_n 1, 1, 0, 0, 0, .null), (.iconst 2, 1, 0, 0, 0, (.int (2 : Int32))), (.irem, 1, 0, 0, 0, .null)]), (107, [(.iconst 0, 1, 0, 0, 0, (.int (0 : Int32)))]), (76, [(.iload_n 1, 1, 0, 0, 0, .null), (.sipush 512, 3, 0, 0, 0, (.int (512 : Int32)))]), (83, [(.aload_n 0, 1, 0, 0, 0, .null), (.getfield 56, 3, 2, 28, 0, .null), (.sipush 2000, 3, 0, 0, 0, (.int (2000 : Int32)))]), (93, [(.aload_n 0, 1, 0, 0, 0, .null), (.getfield 59, 3, 2, 30, 0, .null), (.sipush 2000, 3, 0, 0, 0, (.int (2000 : Int32)))]), (103, [(.iconst 1, 1, 0, 0, 0, (.int (1 : Int32)))])], [(5, .invokevirtual 99, 3), (16, .invokevirtual 99, 3), (27, .invokevirtual 99, 3), (37, .invokevirtual 96, 3), (53, .invokevirtual 96, 3), (64, .invokevirtual 96, 3), (108, .ireturn, 1), (104, .goto 4, 3), (100, .if_icmp .gt 7, 3), (90, .if_icmp .gt 17, 3), (80, .if_icmp .gt 27, 3), (73, .ifCond .ne 34, 3)])
set_option maxRecDepth 100000 in
theorem m_Fo_arePrograms : hx_mok M_Fo_arePrograms = true := by decide +kernel
theorem pd_Fo_arePrograms : (parseMethodDescriptor M_Fo_arePrograms.2.1.desc).map (fun q => q.parameters.length) = some 0 := by decide +kernel
theorem y_Fo_arePrograms : hx_okV M_Fo_arePrograms := ⟨⟨lw_g (lw_at lw_m5 8 rfl) rfl, lw_g (lw_at lw_m5 7 rfl) rfl, qs30, lw_g (lw_at lw_m1 3 rfl) rfl, rfl, by decide, by decide, by decide⟩, rfl, by decide, plainFor_of_name (by decide)⟩
noncomputable def f_Fo_arePrograms (h : hH) : Option (Int32 × hH) :=
  bP (f_Fo_beginOf (1668707360 : Int64) h) fun a1 =>
  lz (wrI h 4 25 a1) fun h1 =>
  bP (f_Fo_beginOf (1718642541 : Int64) h1) fun a2 =>
  lz (wrI h1 4 27 a2) fun h2 =>
  bP (f_Fo_beginOf (1886545264 : Int64) h2) fun a3 =>
  lz (wrI h2 4 29 a3) fun h3 =>
  bP (f_Fo_lengthOf (1668707360 : Int64) h3) fun a4 =>
  lz (wrI h3 4 26 (a4 / (2 : Int32))) fun h4 =>
  bP (f_Fo_lengthOf (1718642541 : Int64) h4) fun a5 =>
  lz (wrI h4 4 28 a5) fun h5 =>
  bP (f_Fo_lengthOf (1886545264 : Int64) h5) fun a6 =>
  lz (wrI h5 4 30 a6) fun h6 =>
  if (hx_rm a4 (2 : Int32)) = 0 then (
    if (512 : Int32) < a4 then (
      some ((0 : Int32), h6)
    ) else (
      if (2000 : Int32) < (rdI h6 4 28) then (
        some ((0 : Int32), h6)
      ) else (
        if (2000 : Int32) < (rdI h6 4 30) then (
          some ((0 : Int32), h6)
        ) else (
          some ((1 : Int32), h6)
        )
      )
    )
  ) else (
    some ((0 : Int32), h6)
  )
set_option maxRecDepth 20000 in
theorem k_Fo_arePrograms (h : hH) : hx_kS S0 M_Fo_arePrograms 3 NT [(.ref 4)] h (f_Fo_arePrograms h) cvI := by
  have hm := m_Fo_arePrograms
  show hx_P S0 M_Fo_arePrograms 3 0 [(0, (.ref 4))] [] NT h (f_Fo_arePrograms h) (hx_Rc cvI NT)
  unfold f_Fo_arePrograms
  refine hp_cVP (M2 := M_Fo_beginOf) hm (at1 0 rfl) (as := [(.long (1668707360 : Int64))]) (rest := [(.ref 4)]) (z := 4) rfl (by exact trivial) (pc' := 5) rfl 0 rfl (lw_g (lw_at lw_m4 114 rfl) rfl) y_Fo_beginOf rfl (d2 := 2) ⟨le_b rfl, pd_Fo_beginOf, le_b rfl⟩ (le_b rfl) og_4 (k_Fo_beginOf (1668707360 : Int64) h) (fun a1 => ?_)
  refine hp_w hm (at1 1 rfl) (L' := [(0, (.ref 4))]) rfl (by exact og_4) (pc' := 11) rfl (fun h1 => ?_)
  refine hp_cVP (M2 := M_Fo_beginOf) hm (at1 2 rfl) (as := [(.long (1718642541 : Int64))]) (rest := [(.ref 4)]) (z := 4) rfl (by exact trivial) (pc' := 16) rfl 1 rfl (lw_g (lw_at lw_m4 114 rfl) rfl) y_Fo_beginOf rfl (d2 := 2) ⟨le_b rfl, pd_Fo_beginOf, le_b rfl⟩ (le_b rfl) og_4 (k_Fo_beginOf (1718642541 : Int64) h1) (fun a2 => ?_)
  refine hp_w hm (at1 3 rfl) (L' := [(0, (.ref 4))]) rfl (by exact og_4) (pc' := 22) rfl (fun h2 => ?_)
  refine hp_cVP (M2 := M_Fo_beginOf) hm (at1 4 rfl) (as := [(.long (1886545264 : Int64))]) (rest := [(.ref 4)]) (z := 4) rfl (by exact trivial) (pc' := 27) rfl 2 rfl (lw_g (lw_at lw_m4 114 rfl) rfl) y_Fo_beginOf rfl (d2 := 2) ⟨le_b rfl, pd_Fo_beginOf, le_b rfl⟩ (le_b rfl) og_4 (k_Fo_beginOf (1886545264 : Int64) h2) (fun a3 => ?_)
  refine hp_w hm (at1 5 rfl) (L' := [(0, (.ref 4))]) rfl (by exact og_4) (pc' := 33) rfl (fun h3 => ?_)
  refine hp_cVP (M2 := M_Fo_lengthOf) hm (at1 6 rfl) (as := [(.long (1668707360 : Int64))]) (rest := []) (z := 4) rfl (by exact trivial) (pc' := 37) rfl 3 rfl (lw_g (lw_at lw_m4 118 rfl) rfl) y_Fo_lengthOf rfl (d2 := 2) ⟨le_b rfl, pd_Fo_lengthOf, le_b rfl⟩ (le_b rfl) og_4 (k_Fo_lengthOf (1668707360 : Int64) h3) (fun a4 => ?_)
  refine hp_w hm (at1 7 rfl) (L' := [(1, (.int a4)), (0, (.ref 4))]) rfl (by exact ⟨(show ¬ (2 : Int32) = 0 by decide), og_4⟩) (pc' := 48) rfl (fun h4 => ?_)
  refine hp_cVP (M2 := M_Fo_lengthOf) hm (at1 8 rfl) (as := [(.long (1718642541 : Int64))]) (rest := [(.ref 4)]) (z := 4) rfl (by exact trivial) (pc' := 53) rfl 4 rfl (lw_g (lw_at lw_m4 118 rfl) rfl) y_Fo_lengthOf rfl (d2 := 2) ⟨le_b rfl, pd_Fo_lengthOf, le_b rfl⟩ (le_b rfl) og_4 (k_Fo_lengthOf (1718642541 : Int64) h4) (fun a5 => ?_)
  refine hp_w hm (at1 9 rfl) (L' := [(1, (.int a4)), (0, (.ref 4))]) rfl (by exact og_4) (pc' := 59) rfl (fun h5 => ?_)
  refine hp_cVP (M2 := M_Fo_lengthOf) hm (at1 10 rfl) (as := [(.long (1886545264 : Int64))]) (rest := [(.ref 4)]) (z := 4) rfl (by exact trivial) (pc' := 64) rfl 5 rfl (lw_g (lw_at lw_m4 118 rfl) rfl) y_Fo_lengthOf rfl (d2 := 2) ⟨le_b rfl, pd_Fo_lengthOf, le_b rfl⟩ (le_b rfl) og_4 (k_Fo_lengthOf (1886545264 : Int64) h5) (fun a6 => ?_)
  refine hp_w hm (at1 11 rfl) (L' := [(1, (.int a4)), (0, (.ref 4))]) rfl (by exact og_4) (pc' := 70) rfl (fun h6 => ?_)
  refine hp_if_ne hm (at1 12 rfl) rfl (by exact (show ¬ (2 : Int32) = 0 by decide)) (pc' := 73) rfl 11 rfl (tgt := 107) rfl (fun c10 => ?_) (fun c10 => ?_)
  · refine hp_b hm (at1 13 rfl) (L' := [(1, (.int a4)), (0, (.ref 4))]) (st' := [(.int (0 : Int32))]) rfl (by exact trivial) (pc' := 108) rfl ?_
    exact hp_ir hm at0 rfl (by exact trivial) (pc' := 108) rfl 6 rfl rfl rfl (fun _ e => e)
  · refine hp_ic_gt hm (at1 14 rfl) rfl (by exact trivial) (pc' := 80) rfl 10 rfl (tgt := 107) rfl (fun c9 => ?_) (fun c9 => ?_)
    · refine hp_b hm (at1 13 rfl) (L' := [(1, (.int a4)), (0, (.ref 4))]) (st' := [(.int (0 : Int32))]) rfl (by exact trivial) (pc' := 108) rfl ?_
      exact hp_ir hm at0 rfl (by exact trivial) (pc' := 108) rfl 6 rfl rfl rfl (fun _ e => e)
    · refine hp_ic_gt hm (at1 15 rfl) rfl (by exact og_4) (pc' := 90) rfl 9 rfl (tgt := 107) rfl (fun c8 => ?_) (fun c8 => ?_)
      · refine hp_b hm (at1 13 rfl) (L' := [(1, (.int a4)), (0, (.ref 4))]) (st' := [(.int (0 : Int32))]) rfl (by exact trivial) (pc' := 108) rfl ?_
        exact hp_ir hm at0 rfl (by exact trivial) (pc' := 108) rfl 6 rfl rfl rfl (fun _ e => e)
      · refine hp_ic_gt hm (at1 16 rfl) rfl (by exact og_4) (pc' := 100) rfl 8 rfl (tgt := 107) rfl (fun c7 => ?_) (fun c7 => ?_)
        · refine hp_b hm (at1 13 rfl) (L' := [(1, (.int a4)), (0, (.ref 4))]) (st' := [(.int (0 : Int32))]) rfl (by exact trivial) (pc' := 108) rfl ?_
          exact hp_ir hm at0 rfl (by exact trivial) (pc' := 108) rfl 6 rfl rfl rfl (fun _ e => e)
        · refine hp_b hm (at1 17 rfl) (L' := [(1, (.int a4)), (0, (.ref 4))]) (st' := [(.int (1 : Int32))]) rfl (by exact trivial) (pc' := 104) rfl ?_
          refine hp_goto hm 7 rfl (tgt := 108) rfl ?_
          exact hp_ir hm at0 rfl (by exact trivial) (pc' := 108) rfl 6 rfl rfl rfl (fun _ e => e)
/-! HintHouse$Font.metricsAndGlyphs()I -/
def M_Fo_metricsAndGlyphs : hM := (2, ⟨"HintHouse$Font", "metricsAndGlyphs", "()I"⟩, prog_3_method_6_code, 1, (Option.some Jvm.ClassFile.FieldType.int), [], [(0, [(.aload_n 0, 1, 0, 0, 0, .null), (.aload_n 0, 1, 0, 0, 0, .null), (.ldc2_w 78, 3, 0, 0, 0, (.long (1751672161 : Int64)))]), (8, [(.bipush 36, 2, 0, 0, 0, (.int (36 : Int32)))]), (33, [(.iconst 0, 1, 0, 0, 0, (.int (0 : Int32)))]), (13, [(.aload_n 0, 1, 0, 0, 0, .null), (.getfield 12, 3, 2, 0, 4, .null), (.aload_n 0, 1, 0, 0, 0, .null), (.ldc2_w 78, 3, 0, 0, 0, (.long (1751672161 : Int64)))]), (24, [(.bipush 34, 2, 0, 0, 0, (.int (34 : Int32))), (.iadd, 1, 0, 0, 0, .null)]), (34, [(.putfield 106, 3, 2, 16, 0, .null)]), (37, [(.aload_n 0, 1, 0, 0, 0, .null), (.getfield 106, 3, 2, 16, 0, .null), (.i2l, 1, 0, 0, 0, .null), (.lconst 1, 1, 0, 0, 0, (.long (1 : Int64))), (.aload_n 0, 1, 0, 0, 0, .null), (.getfield 109, 3, 2, 8, 0, .null), (.i2l, 1, 0, 0, 0, .null)]), (57, [(.aload_n 0, 1, 0, 0, 0, .null), (.aload_n 0, 1, 0, 0, 0, .null), (.ldc2_w 80, 3, 0, 0, 0, (.long (1752003704 : Int64)))]), (65, [(.putfield 116, 3, 2, 17, 0, .null)]), (68, [(.aload_n 0, 1, 0, 0, 0, .null), (.ldc2_w 80, 3, 0, 0, 0, (.long (1752003704 : Int64)))]), (75, [(.iconst 4, 1, 0, 0, 0, (.int (4 : Int32))), (.aload_n 0, 1, 0, 0, 0, .null), (.getfield 106, 3, 2, 16, 0, .null), (.imul, 1, 0, 0, 0, .null), (.iconst 2, 1, 0, 0, 0, (.int (2 : Int32))), (.aload_n 0, 1, 0, 0, 0, .null), (.getfield 109, 3, 2, 8, 0, .null), (.aload_n 0, 1, 0, 0, 0, .null), (.getfield 106, 3, 2, 16, 0, .null), (.isub, 1, 0, 0, 0, .null), (.imul, 1, 0, 0, 0, .null), (.iadd, 1, 0, 0, 0, .null)]), (99, [(.aload_n 0, 1, 0, 0, 0, .null)]), (109, [(.aload_n 0, 1, 0, 0, 0, .null)]), (119, [(.aload_n 0, 1, 0, 0, 0, .null)]), (129, [(.aload_n 0, 1, 0, 0, 0, .null)]), (139, [(.aload_n 0, 1, 0, 0, 0, .null)]), (150, [(.bipush 14, 2, 0, 0, 0, (.int (14 : Int32)))]), (146, [(.iconst 0, 1, 0, 0, 0, (.int (0 : Int32)))]), (136, [(.bipush 13, 2, 0, 0, 0, (.int (13 : Int32)))]), (126, [(.bipush 12, 2, 0, 0, 0, (.int (12 : Int32)))]), (116, [(.bipush 11, 2, 0, 0, 0, (.int (11 : Int32)))]), (106, [(.bipush 10, 2, 0, 0, 0, (.int (10 : Int32)))]), (96, [(.bipush 9, 2, 0, 0, 0, (.int (9 : Int32)))]), (54, [(.bipush 8, 2, 0, 0, 0, (.int (8 : Int32)))])], [(5, .invokevirtual 96, 3), (21, .invokevirtual 99, 3), (27, .invokevirtual 102, 3), (30, .goto 4, 3), (10, .if_icmp .ne 23, 3), (48, .invokestatic 112, 3), (62, .invokevirtual 99, 3), (72, .invokevirtual 96, 3), (100, .invokevirtual 119, 3), (110, .invokevirtual 122, 3), (120, .invokevirtual 125, 3), (130, .invokevirtual 128, 3), (140, .invokevirtual 131, 3), (152, .ireturn, 1), (147, .goto 5, 3), (143, .ifCond .eq 7, 3), (138, .ireturn, 1), (133, .ifCond .ne 6, 3), (128, .ireturn, 1), (123, .ifCond .ne 6, 3), (118, .ireturn, 1), (113, .ifCond .ne 6, 3), (108, .ireturn, 1), (103, .ifCond .ne 6, 3), (98, .ireturn, 1), (93, .if_icmp .ge 6, 3), (56, .ireturn, 1), (51, .ifCond .ne 6, 3)])
set_option maxRecDepth 100000 in
theorem m_Fo_metricsAndGlyphs : hx_mok M_Fo_metricsAndGlyphs = true := by decide +kernel
theorem pd_Fo_metricsAndGlyphs : (parseMethodDescriptor M_Fo_metricsAndGlyphs.2.1.desc).map (fun q => q.parameters.length) = some 0 := by decide +kernel
theorem y_Fo_metricsAndGlyphs : hx_okV M_Fo_metricsAndGlyphs := ⟨⟨lw_g (lw_at lw_m4 135 rfl) rfl, lw_g (lw_at lw_m4 134 rfl) rfl, qs8, lw_g (lw_at lw_m1 3 rfl) rfl, rfl, by decide, by decide, by decide⟩, rfl, by decide, plainFor_of_name (by decide)⟩
noncomputable def f_Fo_metricsAndGlyphs (h : hH) : Option (Int32 × hH) :=
  bP (f_Fo_lengthOf (1751672161 : Int64) h) fun a1 =>
  bP (A := Int32) (
    if a1 = (36 : Int32) then (
      bP (f_Fo_beginOf (1751672161 : Int64) h) fun a3 =>
      bP (f_By_u2 5 (a3 + (34 : Int32)) h) fun a4 =>
      some a4
    ) else (
      some (0 : Int32)
    )
  ) fun p2 =>
  lz (wrI h 4 16 p2) fun h1 =>
  bP (f_HH_within (Int32.toInt64 (rdI h1 4 16)) (1 : Int64) (Int32.toInt64 (rdI h1 4 8))) fun a6 =>
  if a6 = 0 then (
    some ((8 : Int32), h1)
  ) else (
    bP (f_Fo_beginOf (1752003704 : Int64) h1) fun a7 =>
    lz (wrI h1 4 17 a7) fun h2 =>
    bP (f_Fo_lengthOf (1752003704 : Int64) h2) fun a8 =>
    if (((4 : Int32) * (rdI h2 4 16)) + ((2 : Int32) * ((rdI h2 4 8) - (rdI h2 4 16)))) ≤ a8 then (
      bS (f_Fo_isLoca h2) fun a9 h3 =>
      if a9 = 0 then (
        some ((10 : Int32), h3)
      ) else (
        bS (f_Fo_areGlyphs h3) fun a10 h4 =>
        if a10 = 0 then (
          some ((11 : Int32), h4)
        ) else (
          bS (f_Fo_isMap h4) fun a11 h5 =>
          if a11 = 0 then (
            some ((12 : Int32), h5)
          ) else (
            bS (f_Fo_isKern h5) fun a12 h6 =>
            if a12 = 0 then (
              some ((13 : Int32), h6)
            ) else (
              bS (f_Fo_arePrograms h6) fun a13 h7 =>
              if a13 = 0 then (
                some ((14 : Int32), h7)
              ) else (
                some ((0 : Int32), h7)
              )
            )
          )
        )
      )
    ) else (
      some ((9 : Int32), h2)
    )
  )
set_option maxRecDepth 20000 in
theorem k_Fo_metricsAndGlyphs (h : hH) : hx_kS S0 M_Fo_metricsAndGlyphs 10 NT [(.ref 4)] h (f_Fo_metricsAndGlyphs h) cvI := by
  have hm := m_Fo_metricsAndGlyphs
  show hx_P S0 M_Fo_metricsAndGlyphs 10 0 [(0, (.ref 4))] [] NT h (f_Fo_metricsAndGlyphs h) (hx_Rc cvI NT)
  unfold f_Fo_metricsAndGlyphs
  refine hp_cVP (M2 := M_Fo_lengthOf) hm (at1 0 rfl) (as := [(.long (1751672161 : Int64))]) (rest := [(.ref 4)]) (z := 4) rfl (by exact trivial) (pc' := 5) rfl 0 rfl (lw_g (lw_at lw_m4 118 rfl) rfl) y_Fo_lengthOf rfl (d2 := 2) ⟨le_b rfl, pd_Fo_lengthOf, le_b rfl⟩ (le_b rfl) og_4 (k_Fo_lengthOf (1751672161 : Int64) h) (fun a1 => ?_)
  refine hp_J 34 (fun (p2 : Int32) => [(0, (.ref 4))]) (fun (p2 : Int32) => [(.int p2), (.ref 4)]) (fun (p2 : Int32) => h) ?_ (fun p2 => ?_)
  · refine hp_ic_ne hm (at1 1 rfl) rfl (by exact trivial) (pc' := 10) rfl 4 rfl (tgt := 33) rfl (fun c5 => ?_) (fun c5 => ?_)
    · refine hp_b hm (at1 2 rfl) (L' := [(0, (.ref 4))]) (st' := [(.int (0 : Int32)), (.ref 4)]) rfl (by exact trivial) (pc' := 34) rfl ?_
      exact hp_lf [0] rfl (fun _ e => e)
    · refine hp_cVP (M2 := M_Fo_beginOf) hm (at1 3 rfl) (as := [(.long (1751672161 : Int64))]) (rest := [(.ref 5), (.ref 4)]) (z := 4) rfl (by exact og_4) (pc' := 21) rfl 1 rfl (lw_g (lw_at lw_m4 114 rfl) rfl) y_Fo_beginOf rfl (d2 := 2) ⟨le_b rfl, pd_Fo_beginOf, le_b rfl⟩ (le_b rfl) og_4 (k_Fo_beginOf (1751672161 : Int64) h) (fun a3 => ?_)
      refine hp_cVP (M2 := M_By_u2) hm (at1 4 rfl) (as := [(.int (a3 + (34 : Int32)))]) (rest := [(.ref 4)]) (z := 5) rfl (by exact trivial) (pc' := 27) rfl 2 rfl (lw_g (lw_at lw_m4 75 rfl) rfl) y_By_u2 rfl (d2 := 2) ⟨le_b rfl, pd_By_u2, le_b rfl⟩ (le_b rfl) og_5 (k_By_u2 5 (a3 + (34 : Int32)) h og_5) (fun a4 => ?_)
      refine hp_goto hm 3 rfl (tgt := 34) rfl ?_
      exact hp_lf [0] rfl (fun _ e => e)
  · refine hp_w hm (at1 5 rfl) (L' := [(0, (.ref 4))]) rfl (by exact og_4) (pc' := 37) rfl (fun h1 => ?_)
    refine hp_cNP (M2 := M_HH_within) hm (at1 6 rfl) (as := [(.long (Int32.toInt64 (rdI h1 4 16))), (.long (1 : Int64)), (.long (Int32.toInt64 (rdI h1 4 8)))]) (rest := []) rfl (by exact ⟨og_4, og_4⟩) (pc' := 48) rfl 5 rfl (hmn_2_112) y_HH_within rfl (d2 := 1) ⟨le_b rfl, pd_HH_within, le_b rfl⟩ (le_b rfl) (k_HH_within (Int32.toInt64 (rdI h1 4 16)) (1 : Int64) (Int32.toInt64 (rdI h1 4 8)) h1) (fun a6 => ?_)
    refine hp_if_ne hm at0 rfl (by exact trivial) (pc' := 51) rfl 27 rfl (tgt := 57) rfl (fun c20 => ?_) (fun c20 => ?_)
    · refine hp_cVP (M2 := M_Fo_beginOf) hm (at1 7 rfl) (as := [(.long (1752003704 : Int64))]) (rest := [(.ref 4)]) (z := 4) rfl (by exact trivial) (pc' := 62) rfl 6 rfl (lw_g (lw_at lw_m4 114 rfl) rfl) y_Fo_beginOf rfl (d2 := 2) ⟨le_b rfl, pd_Fo_beginOf, le_b rfl⟩ (le_b rfl) og_4 (k_Fo_beginOf (1752003704 : Int64) h1) (fun a7 => ?_)
      refine hp_w hm (at1 8 rfl) (L' := [(0, (.ref 4))]) rfl (by exact og_4) (pc' := 68) rfl (fun h2 => ?_)
      refine hp_cVP (M2 := M_Fo_lengthOf) hm (at1 9 rfl) (as := [(.long (1752003704 : Int64))]) (rest := []) (z := 4) rfl (by exact trivial) (pc' := 72) rfl 7 rfl (lw_g (lw_at lw_m4 118 rfl) rfl) y_Fo_lengthOf rfl (d2 := 2) ⟨le_b rfl, pd_Fo_lengthOf, le_b rfl⟩ (le_b rfl) og_4 (k_Fo_lengthOf (1752003704 : Int64) h2) (fun a8 => ?_)
      refine hp_ic_ge hm (at1 10 rfl) rfl (by exact ⟨⟨og_4, og_4⟩, og_4⟩) (pc' := 93) rfl 25 rfl (tgt := 99) rfl (fun c19 => ?_) (fun c19 => ?_)
      · refine hp_cVS (M2 := M_Fo_isLoca) hm (at1 11 rfl) (as := []) (rest := []) (z := 4) rfl (by exact trivial) (pc' := 100) rfl 8 rfl (lw_g (lw_at lw_m4 136 rfl) rfl) y_Fo_isLoca rfl (d2 := 5) ⟨le_b rfl, pd_Fo_isLoca, le_b rfl⟩ (le_b rfl) og_4 (k_Fo_isLoca h2) (fun a9 h3 => ?_)
        refine hp_if_ne hm at0 rfl (by exact trivial) (pc' := 103) rfl 23 rfl (tgt := 109) rfl (fun c18 => ?_) (fun c18 => ?_)
        · refine hp_cVS (M2 := M_Fo_areGlyphs) hm (at1 12 rfl) (as := []) (rest := []) (z := 4) rfl (by exact trivial) (pc' := 110) rfl 9 rfl (lw_g (lw_at lw_m4 144 rfl) rfl) y_Fo_areGlyphs rfl (d2 := 9) ⟨le_b rfl, pd_Fo_areGlyphs, le_b rfl⟩ (le_b rfl) og_4 (k_Fo_areGlyphs h3) (fun a10 h4 => ?_)
          refine hp_if_ne hm at0 rfl (by exact trivial) (pc' := 113) rfl 21 rfl (tgt := 119) rfl (fun c17 => ?_) (fun c17 => ?_)
          · refine hp_cVS (M2 := M_Fo_isMap) hm (at1 13 rfl) (as := []) (rest := []) (z := 4) rfl (by exact trivial) (pc' := 120) rfl 10 rfl (lw_g (lw_at lw_m4 204 rfl) rfl) y_Fo_isMap rfl (d2 := 5) ⟨le_b rfl, pd_Fo_isMap, le_b rfl⟩ (le_b rfl) og_4 (k_Fo_isMap h4) (fun a11 h5 => ?_)
            refine hp_if_ne hm at0 rfl (by exact trivial) (pc' := 123) rfl 19 rfl (tgt := 129) rfl (fun c16 => ?_) (fun c16 => ?_)
            · refine hp_cVS (M2 := M_Fo_isKern) hm (at1 14 rfl) (as := []) (rest := []) (z := 4) rfl (by exact trivial) (pc' := 130) rfl 11 rfl (lw_g (lw_at lw_m5 0 rfl) rfl) y_Fo_isKern rfl (d2 := 4) ⟨le_b rfl, pd_Fo_isKern, le_b rfl⟩ (le_b rfl) og_4 (k_Fo_isKern h5) (fun a12 h6 => ?_)
              refine hp_if_ne hm at0 rfl (by exact trivial) (pc' := 133) rfl 17 rfl (tgt := 139) rfl (fun c15 => ?_) (fun c15 => ?_)
              · refine hp_cVS (M2 := M_Fo_arePrograms) hm (at1 15 rfl) (as := []) (rest := []) (z := 4) rfl (by exact trivial) (pc' := 140) rfl 12 rfl (lw_g (lw_at lw_m5 5 rfl) rfl) y_Fo_arePrograms rfl (d2 := 3) ⟨le_b rfl, pd_Fo_arePrograms, le_b rfl⟩ (le_b rfl) og_4 (k_Fo_arePrograms h6) (fun a13 h7 => ?_)
                refine hp_if_eq hm at0 rfl (by exact trivial) (pc' := 143) rfl 15 rfl (tgt := 150) rfl (fun c14 => ?_) (fun c14 => ?_)
                · refine hp_b hm (at1 16 rfl) (L' := [(0, (.ref 4))]) (st' := [(.int (14 : Int32))]) rfl (by exact trivial) (pc' := 152) rfl ?_
                  exact hp_ir hm at0 rfl (by exact trivial) (pc' := 152) rfl 13 rfl rfl (vp_nar_int _) (fun _ e => e)
                · refine hp_b hm (at1 17 rfl) (L' := [(0, (.ref 4))]) (st' := [(.int (0 : Int32))]) rfl (by exact trivial) (pc' := 147) rfl ?_
                  refine hp_goto hm 14 rfl (tgt := 152) rfl ?_
                  exact hp_ir hm at0 rfl (by exact trivial) (pc' := 152) rfl 13 rfl rfl (vp_nar_int _) (fun _ e => e)
              · exact hp_ir hm (at1 18 rfl) rfl (by exact trivial) (pc' := 138) rfl 16 rfl rfl (vp_nar_int _) (fun _ e => e)
            · exact hp_ir hm (at1 19 rfl) rfl (by exact trivial) (pc' := 128) rfl 18 rfl rfl (vp_nar_int _) (fun _ e => e)
          · exact hp_ir hm (at1 20 rfl) rfl (by exact trivial) (pc' := 118) rfl 20 rfl rfl (vp_nar_int _) (fun _ e => e)
        · exact hp_ir hm (at1 21 rfl) rfl (by exact trivial) (pc' := 108) rfl 22 rfl rfl (vp_nar_int _) (fun _ e => e)
      · exact hp_ir hm (at1 22 rfl) rfl (by exact trivial) (pc' := 98) rfl 24 rfl rfl (vp_nar_int _) (fun _ e => e)
    · exact hp_ir hm (at1 23 rfl) rfl (by exact trivial) (pc' := 56) rfl 26 rfl rfl (vp_nar_int _) (fun _ e => e)
/-! HintHouse$Font.load()I -/
def M_Fo_load : hM := (2, ⟨"HintHouse$Font", "load", "()I"⟩, prog_3_method_5_code, 2, (Option.some Jvm.ClassFile.FieldType.int), [], [(0, [(.aload_n 0, 1, 0, 0, 0, .null), (.iconst 0, 1, 0, 0, 0, (.int (0 : Int32))), (.putfield 50, 3, 2, 23, 0, .null)]), (5, [(.aload_n 0, 1, 0, 0, 0, .null), (.iconst 0, 1, 0, 0, 0, (.int (0 : Int32))), (.putfield 53, 3, 2, 26, 0, .null)]), (10, [(.aload_n 0, 1, 0, 0, 0, .null), (.iconst 0, 1, 0, 0, 0, (.int (0 : Int32))), (.putfield 56, 3, 2, 28, 0, .null)]), (15, [(.aload_n 0, 1, 0, 0, 0, .null), (.iconst 0, 1, 0, 0, 0, (.int (0 : Int32))), (.putfield 59, 3, 2, 30, 0, .null)]), (20, [(.aload_n 0, 1, 0, 0, 0, .null)]), (29, [(.iconst 1, 1, 0, 0, 0, (.int (1 : Int32))), (.istore_n 1, 1, 0, 0, 0, .null)]), (31, [(.iload_n 1, 1, 0, 0, 0, .null), (.aload_n 0, 1, 0, 0, 0, .null), (.getfield 42, 3, 2, 1, 0, .null)]), (39, [(.aload_n 0, 1, 0, 0, 0, .null), (.getfield 18, 3, 2, 2, 4, .null), (.iload_n 1, 1, 0, 0, 0, .null), (.laload, 1, 0, 0, 0, .null), (.aload_n 0, 1, 0, 0, 0, .null), (.getfield 18, 3, 2, 2, 4, .null), (.iload_n 1, 1, 0, 0, 0, .null), (.iconst 1, 1, 0, 0, 0, (.int (1 : Int32))), (.isub, 1, 0, 0, 0, .null), (.laload, 1, 0, 0, 0, .null), (.lcmp, 1, 0, 0, 0, .null)]), (59, [(.iinc 1 1, 3, 0, 0, 0, (.int (1 : Int32)))]), (57, [(.iconst 2, 1, 0, 0, 0, (.int (2 : Int32)))]), (65, [(.aload_n 0, 1, 0, 0, 0, .null)]), (74, [(.aload_n 0, 1, 0, 0, 0, .null)]), (83, [(.aload_n 0, 1, 0, 0, 0, .null), (.ldc2_w 72, 3, 0, 0, 0, (.long (1668112752 : Int64)))]), (153, [(.iconst 5, 1, 0, 0, 0, (.int (5 : Int32)))]), (93, [(.aload_n 0, 1, 0, 0, 0, .null), (.ldc2_w 74, 3, 0, 0, 0, (.long (1735162214 : Int64)))]), (103, [(.aload_n 0, 1, 0, 0, 0, .null), (.ldc2_w 76, 3, 0, 0, 0, (.long (1751474532 : Int64)))]), (113, [(.aload_n 0, 1, 0, 0, 0, .null), (.ldc2_w 78, 3, 0, 0, 0, (.long (1751672161 : Int64)))]), (123, [(.aload_n 0, 1, 0, 0, 0, .null), (.ldc2_w 80, 3, 0, 0, 0, (.long (1752003704 : Int64)))]), (133, [(.aload_n 0, 1, 0, 0, 0, .null), (.ldc2_w 82, 3, 0, 0, 0, (.long (1819239265 : Int64)))]), (143, [(.aload_n 0, 1, 0, 0, 0, .null), (.ldc2_w 84, 3, 0, 0, 0, (.long (1835104368 : Int64)))]), (155, [(.aload_n 0, 1, 0, 0, 0, .null)]), (165, [(.aload_n 0, 1, 0, 0, 0, .null)]), (175, [(.aload_n 0, 1, 0, 0, 0, .null)]), (172, [(.bipush 7, 2, 0, 0, 0, (.int (7 : Int32)))]), (162, [(.bipush 6, 2, 0, 0, 0, (.int (6 : Int32)))]), (81, [(.iconst 4, 1, 0, 0, 0, (.int (4 : Int32)))]), (72, [(.iconst 3, 1, 0, 0, 0, (.int (3 : Int32)))]), (27, [(.iconst 1, 1, 0, 0, 0, (.int (1 : Int32)))])], [(21, .invokevirtual 62, 3), (62, .goto (-31), 3), (58, .ireturn, 1), (54, .ifCond .gt 5, 3), (36, .if_icmp .ge 29, 3), (66, .invokevirtual 66, 3), (75, .invokevirtual 69, 3), (87, .invokevirtual 46, 3), (154, .ireturn, 1), (97, .invokevirtual 46, 3), (107, .invokevirtual 46, 3), (117, .invokevirtual 46, 3), (127, .invokevirtual 46, 3), (137, .invokevirtual 46, 3), (147, .invokevirtual 46, 3), (156, .invokevirtual 86, 3), (166, .invokevirtual 89, 3), (176, .invokevirtual 92, 3), (179, .ireturn, 1), (174, .ireturn, 1), (169, .ifCond .ne 6, 3), (164, .ireturn, 1), (159, .ifCond .ne 6, 3), (150, .ifCond .ge 5, 3), (140, .ifCond .lt 13, 3), (130, .ifCond .lt 23, 3), (120, .ifCond .lt 33, 3), (110, .ifCond .lt 43, 3), (100, .ifCond .lt 53, 3), (90, .ifCond .lt 63, 3), (82, .ireturn, 1), (78, .ifCond .ne 5, 3), (73, .ireturn, 1), (69, .ifCond .ne 5, 3), (28, .ireturn, 1), (24, .ifCond .ne 5, 3)])
set_option maxRecDepth 100000 in
theorem m_Fo_load : hx_mok M_Fo_load = true := by decide +kernel
theorem pd_Fo_load : (parseMethodDescriptor M_Fo_load.2.1.desc).map (fun q => q.parameters.length) = some 0 := by decide +kernel
theorem y_Fo_load : hx_okV M_Fo_load := ⟨⟨lw_g (lw_at lw_m4 57 rfl) rfl, lw_g (lw_at lw_m4 55 rfl) rfl, lw_g (lw_at lw_m4 56 rfl) rfl, lw_g (lw_at lw_m1 3 rfl) rfl, rfl, by decide, by decide, by decide⟩, rfl, by decide, plainFor_of_name (by decide)⟩
noncomputable def f_Fo_load (h : hH) : Option (Int32 × hH) :=
  lz (wrI h 4 23 (0 : Int32)) fun h1 =>
  lz (wrI h1 4 26 (0 : Int32)) fun h2 =>
  lz (wrI h2 4 28 (0 : Int32)) fun h3 =>
  lz (wrI h3 4 30 (0 : Int32)) fun h4 =>
  bS (f_Fo_isDirectory h4) fun a1 h5 =>
  if a1 = 0 then (
    some ((1 : Int32), h5)
  ) else (
    bE (P := Unit) (X := (Int32 × hH)) (
      wh (A := Int32) (B := (Unit ⊕ (Int32 × hH))) (fun p2 =>
          if (rdI h5 4 1) ≤ p2 then (
            some (.inr (.inl ()))
          ) else (
            gd (vp_in p2 16 ∧ vp_in (p2 - (1 : Int32)) 16) <|
            if (rdL h5 7 (Int32.toNatClampNeg (p2 - (1 : Int32)))) < (rdL h5 7 (Int32.toNatClampNeg p2)) then (
              lz (A := Int32) (p2 + (1 : Int32)) fun v5 =>
              some (.inl v5)
            ) else (
              some (.inr (.inr ((2 : Int32), h5)))
            )
          )
      ) (1 : Int32)
    ) fun p3 =>
    bP (f_Fo_arePlaced h5) fun a8 =>
    if a8 = 0 then (
      some ((3 : Int32), h5)
    ) else (
      bP (f_Fo_areSums h5) fun a9 =>
      if a9 = 0 then (
        some ((4 : Int32), h5)
      ) else (
        bP (f_Fo_find (1668112752 : Int64) h5) fun a10 =>
        if a10 < 0 then (
          some ((5 : Int32), h5)
        ) else (
          bP (f_Fo_find (1735162214 : Int64) h5) fun a11 =>
          if a11 < 0 then (
            some ((5 : Int32), h5)
          ) else (
            bP (f_Fo_find (1751474532 : Int64) h5) fun a12 =>
            if a12 < 0 then (
              some ((5 : Int32), h5)
            ) else (
              bP (f_Fo_find (1751672161 : Int64) h5) fun a13 =>
              if a13 < 0 then (
                some ((5 : Int32), h5)
              ) else (
                bP (f_Fo_find (1752003704 : Int64) h5) fun a14 =>
                if a14 < 0 then (
                  some ((5 : Int32), h5)
                ) else (
                  bP (f_Fo_find (1819239265 : Int64) h5) fun a15 =>
                  if a15 < 0 then (
                    some ((5 : Int32), h5)
                  ) else (
                    bP (f_Fo_find (1835104368 : Int64) h5) fun a16 =>
                    if 0 ≤ a16 then (
                      bS (f_Fo_isHead h5) fun a17 h6 =>
                      if a17 = 0 then (
                        some ((6 : Int32), h6)
                      ) else (
                        bS (f_Fo_isMaxp h6) fun a18 h7 =>
                        if a18 = 0 then (
                          some ((7 : Int32), h7)
                        ) else (
                          bS (f_Fo_metricsAndGlyphs h7) fun a19 h8 =>
                          some (a19, h8)
                        )
                      )
                    ) else (
                      some ((5 : Int32), h5)
                    )
                  )
                )
              )
            )
          )
        )
      )
    )
  )
set_option maxRecDepth 20000 in
theorem k_Fo_load (h : hH) : hx_kS S0 M_Fo_load 11 NT [(.ref 4)] h (f_Fo_load h) cvI := by
  have hm := m_Fo_load
  show hx_P S0 M_Fo_load 11 0 [(0, (.ref 4))] [] NT h (f_Fo_load h) (hx_Rc cvI NT)
  unfold f_Fo_load
  refine hp_w hm (at1 0 rfl) (L' := [(0, (.ref 4))]) rfl (by exact og_4) (pc' := 5) rfl (fun h1 => ?_)
  refine hp_w hm (at1 1 rfl) (L' := [(0, (.ref 4))]) rfl (by exact og_4) (pc' := 10) rfl (fun h2 => ?_)
  refine hp_w hm (at1 2 rfl) (L' := [(0, (.ref 4))]) rfl (by exact og_4) (pc' := 15) rfl (fun h3 => ?_)
  refine hp_w hm (at1 3 rfl) (L' := [(0, (.ref 4))]) rfl (by exact og_4) (pc' := 20) rfl (fun h4 => ?_)
  refine hp_cVS (M2 := M_Fo_isDirectory) hm (at1 4 rfl) (as := []) (rest := []) (z := 4) rfl (by exact trivial) (pc' := 21) rfl 0 rfl (lw_g (lw_at lw_m4 58 rfl) rfl) y_Fo_isDirectory rfl (d2 := 4) ⟨le_b rfl, pd_Fo_isDirectory, le_b rfl⟩ (le_b rfl) og_4 (k_Fo_isDirectory h4) (fun a1 h5 => ?_)
  refine hp_if_ne hm at0 rfl (by exact trivial) (pc' := 24) rfl 35 rfl (tgt := 29) rfl (fun c31 => ?_) (fun c31 => ?_)
  · refine hp_b hm (at1 5 rfl) (L' := [(1, (.int (1 : Int32))), (0, (.ref 4))]) (st' := []) rfl (by exact trivial) (pc' := 31) rfl ?_
    refine hp_E 65 (fun (p3 : Unit) => [(0, (.ref 4))]) (fun (p3 : Unit) => []) (fun (p3 : Unit) => h5) ?_ (fun p3 => ?_)
    · refine hp_s [1, 0] rfl (L' := [(0, (.ref 4)), (1, (.int (1 : Int32)))]) ?_
      refine hp_wh (fun (p2 : Int32) => [(0, (.ref 4)), (1, (.int p2))]) [] (fun (p2 : Int32) => h5) (fun p2 => ?_) (1 : Int32)
      refine hp_ic_ge hm (at1 6 rfl) rfl (by exact og_4) (pc' := 36) rfl 4 rfl (tgt := 65) rfl (fun c7 => ?_) (fun c7 => ?_)
      · exact hp_lf [0] rfl (fun _ e => e)
      · refine hp_G hm (at1 7 rfl) (L' := [(0, (.ref 4)), (1, (.int p2))]) (st' := [(.int (lg_cmp (rdL h5 7 (Int32.toNatClampNeg p2)) (rdL h5 7 (Int32.toNatClampNeg (p2 - (1 : Int32))))))]) rfl (fun hP => (by exact ⟨⟨⟨og_4, ⟨og_7, hP.1⟩⟩, og_4⟩, ⟨og_7, hP.2⟩⟩)) (pc' := 54) rfl (fun q4 => ?_)
        refine hp_lc_gt hm at0 rfl (by exact trivial) (pc' := 54) rfl 3 rfl (tgt := 59) rfl (fun c6 => ?_) (fun c6 => ?_)
        · refine hp_z hm (at1 8 rfl) (fun (v5 : Int32) => [(1, (.int v5)), (0, (.ref 4))]) (fun (v5 : Int32) => []) rfl (by exact trivial) (pc' := 62) rfl (fun v5 => ?_)
          refine hp_goto hm 1 rfl (tgt := 31) rfl ?_
          exact hp_lf [1, 0] rfl (fun _ e => e)
        · exact hp_ir hm (at1 9 rfl) rfl (by exact trivial) (pc' := 58) rfl 2 rfl rfl (vp_nar_int _) (fun _ e => e)
    · refine hp_cVP (M2 := M_Fo_arePlaced) hm (at1 10 rfl) (as := []) (rest := []) (z := 4) rfl (by exact trivial) (pc' := 66) rfl 5 rfl (lw_g (lw_at lw_m4 78 rfl) rfl) y_Fo_arePlaced rfl (d2 := 2) ⟨le_b rfl, pd_Fo_arePlaced, le_b rfl⟩ (le_b rfl) og_4 (k_Fo_arePlaced h5) (fun a8 => ?_)
      refine hp_if_ne hm at0 rfl (by exact trivial) (pc' := 69) rfl 33 rfl (tgt := 74) rfl (fun c30 => ?_) (fun c30 => ?_)
      · refine hp_cVP (M2 := M_Fo_areSums) hm (at1 11 rfl) (as := []) (rest := []) (z := 4) rfl (by exact trivial) (pc' := 75) rfl 6 rfl (lw_g (lw_at lw_m4 89 rfl) rfl) y_Fo_areSums rfl (d2 := 3) ⟨le_b rfl, pd_Fo_areSums, le_b rfl⟩ (le_b rfl) og_4 (k_Fo_areSums h5) (fun a9 => ?_)
        refine hp_if_ne hm at0 rfl (by exact trivial) (pc' := 78) rfl 31 rfl (tgt := 83) rfl (fun c29 => ?_) (fun c29 => ?_)
        · refine hp_cVP (M2 := M_Fo_find) hm (at1 12 rfl) (as := [(.long (1668112752 : Int64))]) (rest := []) (z := 4) rfl (by exact trivial) (pc' := 87) rfl 7 rfl (lw_g (lw_at lw_m4 101 rfl) rfl) y_Fo_find rfl (d2 := 1) ⟨le_b rfl, pd_Fo_find, le_b rfl⟩ (le_b rfl) og_4 (k_Fo_find (1668112752 : Int64) h5) (fun a10 => ?_)
          refine hp_if_lt hm at0 rfl (by exact trivial) (pc' := 90) rfl 29 rfl (tgt := 153) rfl (fun c28 => ?_) (fun c28 => ?_)
          · exact hp_ir hm (at1 13 rfl) rfl (by exact trivial) (pc' := 154) rfl 8 rfl rfl (vp_nar_int _) (fun _ e => e)
          · refine hp_cVP (M2 := M_Fo_find) hm (at1 14 rfl) (as := [(.long (1735162214 : Int64))]) (rest := []) (z := 4) rfl (by exact trivial) (pc' := 97) rfl 9 rfl (lw_g (lw_at lw_m4 101 rfl) rfl) y_Fo_find rfl (d2 := 1) ⟨le_b rfl, pd_Fo_find, le_b rfl⟩ (le_b rfl) og_4 (k_Fo_find (1735162214 : Int64) h5) (fun a11 => ?_)
            refine hp_if_lt hm at0 rfl (by exact trivial) (pc' := 100) rfl 28 rfl (tgt := 153) rfl (fun c27 => ?_) (fun c27 => ?_)
            · exact hp_ir hm (at1 13 rfl) rfl (by exact trivial) (pc' := 154) rfl 8 rfl rfl (vp_nar_int _) (fun _ e => e)
            · refine hp_cVP (M2 := M_Fo_find) hm (at1 15 rfl) (as := [(.long (1751474532 : Int64))]) (rest := []) (z := 4) rfl (by exact trivial) (pc' := 107) rfl 10 rfl (lw_g (lw_at lw_m4 101 rfl) rfl) y_Fo_find rfl (d2 := 1) ⟨le_b rfl, pd_Fo_find, le_b rfl⟩ (le_b rfl) og_4 (k_Fo_find (1751474532 : Int64) h5) (fun a12 => ?_)
              refine hp_if_lt hm at0 rfl (by exact trivial) (pc' := 110) rfl 27 rfl (tgt := 153) rfl (fun c26 => ?_) (fun c26 => ?_)
              · exact hp_ir hm (at1 13 rfl) rfl (by exact trivial) (pc' := 154) rfl 8 rfl rfl (vp_nar_int _) (fun _ e => e)
              · refine hp_cVP (M2 := M_Fo_find) hm (at1 16 rfl) (as := [(.long (1751672161 : Int64))]) (rest := []) (z := 4) rfl (by exact trivial) (pc' := 117) rfl 11 rfl (lw_g (lw_at lw_m4 101 rfl) rfl) y_Fo_find rfl (d2 := 1) ⟨le_b rfl, pd_Fo_find, le_b rfl⟩ (le_b rfl) og_4 (k_Fo_find (1751672161 : Int64) h5) (fun a13 => ?_)
                refine hp_if_lt hm at0 rfl (by exact trivial) (pc' := 120) rfl 26 rfl (tgt := 153) rfl (fun c25 => ?_) (fun c25 => ?_)
                · exact hp_ir hm (at1 13 rfl) rfl (by exact trivial) (pc' := 154) rfl 8 rfl rfl (vp_nar_int _) (fun _ e => e)
                · refine hp_cVP (M2 := M_Fo_find) hm (at1 17 rfl) (as := [(.long (1752003704 : Int64))]) (rest := []) (z := 4) rfl (by exact trivial) (pc' := 127) rfl 12 rfl (lw_g (lw_at lw_m4 101 rfl) rfl) y_Fo_find rfl (d2 := 1) ⟨le_b rfl, pd_Fo_find, le_b rfl⟩ (le_b rfl) og_4 (k_Fo_find (1752003704 : Int64) h5) (fun a14 => ?_)
                  refine hp_if_lt hm at0 rfl (by exact trivial) (pc' := 130) rfl 25 rfl (tgt := 153) rfl (fun c24 => ?_) (fun c24 => ?_)
                  · exact hp_ir hm (at1 13 rfl) rfl (by exact trivial) (pc' := 154) rfl 8 rfl rfl (vp_nar_int _) (fun _ e => e)
                  · refine hp_cVP (M2 := M_Fo_find) hm (at1 18 rfl) (as := [(.long (1819239265 : Int64))]) (rest := []) (z := 4) rfl (by exact trivial) (pc' := 137) rfl 13 rfl (lw_g (lw_at lw_m4 101 rfl) rfl) y_Fo_find rfl (d2 := 1) ⟨le_b rfl, pd_Fo_find, le_b rfl⟩ (le_b rfl) og_4 (k_Fo_find (1819239265 : Int64) h5) (fun a15 => ?_)
                    refine hp_if_lt hm at0 rfl (by exact trivial) (pc' := 140) rfl 24 rfl (tgt := 153) rfl (fun c23 => ?_) (fun c23 => ?_)
                    · exact hp_ir hm (at1 13 rfl) rfl (by exact trivial) (pc' := 154) rfl 8 rfl rfl (vp_nar_int _) (fun _ e => e)
                    · refine hp_cVP (M2 := M_Fo_find) hm (at1 19 rfl) (as := [(.long (1835104368 : Int64))]) (rest := []) (z := 4) rfl (by exact trivial) (pc' := 147) rfl 14 rfl (lw_g (lw_at lw_m4 101 rfl) rfl) y_Fo_find rfl (d2 := 1) ⟨le_b rfl, pd_Fo_find, le_b rfl⟩ (le_b rfl) og_4 (k_Fo_find (1835104368 : Int64) h5) (fun a16 => ?_)
                      refine hp_if_ge hm at0 rfl (by exact trivial) (pc' := 150) rfl 23 rfl (tgt := 155) rfl (fun c22 => ?_) (fun c22 => ?_)
                      · refine hp_cVS (M2 := M_Fo_isHead) hm (at1 20 rfl) (as := []) (rest := []) (z := 4) rfl (by exact trivial) (pc' := 156) rfl 15 rfl (lw_g (lw_at lw_m4 110 rfl) rfl) y_Fo_isHead rfl (d2 := 4) ⟨le_b rfl, pd_Fo_isHead, le_b rfl⟩ (le_b rfl) og_4 (k_Fo_isHead h5) (fun a17 h6 => ?_)
                        refine hp_if_ne hm at0 rfl (by exact trivial) (pc' := 159) rfl 22 rfl (tgt := 165) rfl (fun c21 => ?_) (fun c21 => ?_)
                        · refine hp_cVS (M2 := M_Fo_isMaxp) hm (at1 21 rfl) (as := []) (rest := []) (z := 4) rfl (by exact trivial) (pc' := 166) rfl 16 rfl (lw_g (lw_at lw_m4 126 rfl) rfl) y_Fo_isMaxp rfl (d2 := 4) ⟨le_b rfl, pd_Fo_isMaxp, le_b rfl⟩ (le_b rfl) og_4 (k_Fo_isMaxp h6) (fun a18 h7 => ?_)
                          refine hp_if_ne hm at0 rfl (by exact trivial) (pc' := 169) rfl 20 rfl (tgt := 175) rfl (fun c20 => ?_) (fun c20 => ?_)
                          · refine hp_cVS (M2 := M_Fo_metricsAndGlyphs) hm (at1 22 rfl) (as := []) (rest := []) (z := 4) rfl (by exact trivial) (pc' := 176) rfl 17 rfl (lw_g (lw_at lw_m4 132 rfl) rfl) y_Fo_metricsAndGlyphs rfl (d2 := 10) ⟨le_b rfl, pd_Fo_metricsAndGlyphs, le_b rfl⟩ (le_b rfl) og_4 (k_Fo_metricsAndGlyphs h7) (fun a19 h8 => ?_)
                            exact hp_ir hm at0 rfl (by exact trivial) (pc' := 179) rfl 18 rfl rfl (vp_nar_int _) (fun _ e => e)
                          · exact hp_ir hm (at1 23 rfl) rfl (by exact trivial) (pc' := 174) rfl 19 rfl rfl (vp_nar_int _) (fun _ e => e)
                        · exact hp_ir hm (at1 24 rfl) rfl (by exact trivial) (pc' := 164) rfl 21 rfl rfl (vp_nar_int _) (fun _ e => e)
                      · exact hp_ir hm (at1 13 rfl) rfl (by exact trivial) (pc' := 154) rfl 8 rfl rfl (vp_nar_int _) (fun _ e => e)
        · exact hp_ir hm (at1 25 rfl) rfl (by exact trivial) (pc' := 82) rfl 30 rfl rfl (vp_nar_int _) (fun _ e => e)
      · exact hp_ir hm (at1 26 rfl) rfl (by exact trivial) (pc' := 73) rfl 32 rfl rfl (vp_nar_int _) (fun _ e => e)
  · exact hp_ir hm (at1 27 rfl) rfl (by exact trivial) (pc' := 28) rfl 34 rfl rfl (vp_nar_int _) (fun _ e => e)
/-! HintHouse.load()I -/
def M_HH_load : hM := (0, ⟨"HintHouse", "load", "()I"⟩, prog_1_method_8_code, 2, (Option.some Jvm.ClassFile.FieldType.int), [], [(0, [(.aload_n 0, 1, 0, 0, 0, .null), (.getfield 29, 3, 0, 1, 4, .null), (.getfield 90, 3, 2, 0, 4, .null), (.aload_n 0, 1, 0, 0, 0, .null), (.getfield 20, 3, 0, 0, 4, .null)]), (14, [(.aload_n 0, 1, 0, 0, 0, .null), (.iconst 0, 1, 0, 0, 0, (.int (0 : Int32))), (.putfield 97, 3, 0, 6, 0, .null)]), (19, [(.aload_n 0, 1, 0, 0, 0, .null), (.aconst_null, 1, 0, 0, 0, .null), (.putfield 100, 3, 0, 7, 3, .null)]), (24, [(.aload_n 0, 1, 0, 0, 0, .null), (.getfield 38, 3, 0, 3, 4, .null), (.iconst 0, 1, 0, 0, 0, (.int (0 : Int32))), (.putfield 104, 3, 4, 6, 0, .null)]), (32, [(.aload_n 0, 1, 0, 0, 0, .null), (.getfield 29, 3, 0, 1, 4, .null)]), (39, [(.istore_n 1, 1, 0, 0, 0, .null), (.aload_n 0, 1, 0, 0, 0, .null), (.iload_n 1, 1, 0, 0, 0, .null)]), (49, [(.iconst 0, 1, 0, 0, 0, (.int (0 : Int32)))]), (45, [(.iconst 1, 1, 0, 0, 0, (.int (1 : Int32)))]), (50, [(.putfield 111, 3, 0, 2, 1, .null)]), (53, [(.aload_n 0, 1, 0, 0, 0, .null), (.getfield 111, 3, 0, 2, 1, .null)]), (70, [(.bipush (-100), 2, 0, 0, 0, (.int (-100 : Int32))), (.iload_n 1, 1, 0, 0, 0, .null), (.isub, 1, 0, 0, 0, .null)]), (60, [(.aload_n 0, 1, 0, 0, 0, .null), (.getfield 29, 3, 0, 1, 4, .null), (.getfield 115, 3, 2, 8, 0, .null)])], [(11, .invokevirtual 93, 3), (36, .invokevirtual 107, 3), (46, .goto 4, 3), (42, .ifCond .ne 7, 3), (74, .ireturn, 1), (67, .goto 7, 3), (57, .ifCond .eq 13, 3)])
set_option maxRecDepth 100000 in
theorem m_HH_load : hx_mok M_HH_load = true := by decide +kernel
theorem pd_HH_load : (parseMethodDescriptor M_HH_load.2.1.desc).map (fun q => q.parameters.length) = some 0 := by decide +kernel
theorem y_HH_load : hx_okV M_HH_load := ⟨⟨lw_g (lw_at lw_m4 49 rfl) rfl, lw_g (lw_at lw_m4 47 rfl) rfl, lw_g (lw_at lw_m4 48 rfl) rfl, lw_g (lw_at lw_m1 1 rfl) rfl, rfl, by decide, by decide, by decide⟩, rfl, by decide, plainFor_of_name (by decide)⟩
noncomputable def f_HH_load (h : hH) : Option (Int32 × hH) :=
  bS (f_By_copy 5 2 h) fun _ h1 =>
  lz (wrI h1 1 6 (0 : Int32)) fun h2 =>
  lz (wrP h2 1 7 0) fun h3 =>
  lz (wrI h3 22 6 (0 : Int32)) fun h4 =>
  bS (f_Fo_load h4) fun a1 h5 =>
  lz (A := Int32) (if a1 = 0 then (1 : Int32) else (0 : Int32)) fun p2 =>
  gd ((p2 = 0 ∨ p2 = 1)) <|
  lz (wrI h5 1 2 p2) fun h6 =>
  if (rdI h6 1 2) = 0 then (
    some (((-100 : Int32) - a1), h6)
  ) else (
    some ((rdI h6 4 8), h6)
  )
set_option maxRecDepth 20000 in
theorem k_HH_load (h : hH) : hx_kS S0 M_HH_load 12 NT [(.ref 1)] h (f_HH_load h) cvI := by
  have hm := m_HH_load
  show hx_P S0 M_HH_load 12 0 [(0, (.ref 1))] [] NT h (f_HH_load h) (hx_Rc cvI NT)
  unfold f_HH_load
  refine hp_cVS (M2 := M_By_copy) hm (at1 0 rfl) (as := [(.ref 2)]) (rest := []) (z := 5) rfl (by exact ⟨⟨og_1, og_4⟩, og_1⟩) (pc' := 11) rfl 0 rfl (lw_g (lw_at lw_m4 50 rfl) rfl) y_By_copy rfl (d2 := 1) ⟨le_b rfl, pd_By_copy, le_b rfl⟩ (le_b rfl) og_5 (k_By_copy 5 2 h og_5 og_2) (fun _ h1 => ?_)
  refine hp_w hm (at1 1 rfl) (L' := [(0, (.ref 1))]) rfl (by exact og_1) (pc' := 19) rfl (fun h2 => ?_)
  refine hp_w hm (at1 2 rfl) (L' := [(0, (.ref 1))]) rfl (by exact og_1) (pc' := 24) rfl (fun h3 => ?_)
  refine hp_w hm (at1 3 rfl) (L' := [(0, (.ref 1))]) rfl (by exact ⟨og_1, og_22⟩) (pc' := 32) rfl (fun h4 => ?_)
  refine hp_cVS (M2 := M_Fo_load) hm (at1 4 rfl) (as := []) (rest := []) (z := 4) rfl (by exact og_1) (pc' := 36) rfl 1 rfl (lw_g (lw_at lw_m4 54 rfl) rfl) y_Fo_load rfl (d2 := 11) ⟨le_b rfl, pd_Fo_load, le_b rfl⟩ (le_b rfl) og_4 (k_Fo_load h4) (fun a1 h5 => ?_)
  refine hp_b hm (at1 5 rfl) (L' := [(1, (.int a1)), (0, (.ref 1))]) (st' := [(.int a1), (.ref 1)]) rfl (by exact trivial) (pc' := 42) rfl ?_
  refine hp_JZ 50 (fun (p2 : Int32) => [(0, (.ref 1)), (1, (.int a1))]) (fun (p2 : Int32) => [(.int p2), (.ref 1)]) (fun (p2 : Int32) => h5) ?_ (fun p2 => ?_)
  · refine hp_sv0 ?_
    refine hp_if_ne hm at0 rfl (by exact trivial) (pc' := 42) rfl 3 rfl (tgt := 49) rfl (fun c3 => ?_) (fun c3 => ?_)
    · refine hp_b hm (at1 6 rfl) (L' := [(1, (.int a1)), (0, (.ref 1))]) (st' := [(.int (0 : Int32)), (.ref 1)]) rfl (by exact trivial) (pc' := 50) rfl ?_
      exact hp_lf [1, 0] rfl (fun _ e => e)
    · refine hp_b hm (at1 7 rfl) (L' := [(1, (.int a1)), (0, (.ref 1))]) (st' := [(.int (1 : Int32)), (.ref 1)]) rfl (by exact trivial) (pc' := 46) rfl ?_
      refine hp_goto hm 2 rfl (tgt := 50) rfl ?_
      exact hp_lf [1, 0] rfl (fun _ e => e)
  · refine hp_GW hm (at1 8 rfl) (L' := [(0, (.ref 1)), (1, (.int a1))]) rfl (fun hP => (by exact ⟨og_1, hP⟩)) (pc' := 53) rfl (fun q4 h6 => ?_)
    refine hp_if_eq hm (at1 9 rfl) rfl (by exact og_1) (pc' := 57) rfl 6 rfl (tgt := 70) rfl (fun c5 => ?_) (fun c5 => ?_)
    · refine hp_b hm (at1 10 rfl) (L' := [(0, (.ref 1)), (1, (.int a1))]) (st' := [(.int ((-100 : Int32) - a1))]) rfl (by exact trivial) (pc' := 74) rfl ?_
      exact hp_ir hm at0 rfl (by exact trivial) (pc' := 74) rfl 4 rfl rfl (vp_nar_int _) (fun _ e => e)
    · refine hp_b hm (at1 11 rfl) (L' := [(0, (.ref 1)), (1, (.int a1))]) (st' := [(.int (rdI h6 4 8))]) rfl (by exact ⟨og_1, og_4⟩) (pc' := 67) rfl ?_
      refine hp_goto hm 5 rfl (tgt := 74) rfl ?_
      exact hp_ir hm at0 rfl (by exact trivial) (pc' := 74) rfl 4 rfl rfl (vp_nar_int _) (fun _ e => e)
/-! HintHouse$Font.what(I)I -/
def M_Fo_what : hM := (2, ⟨"HintHouse$Font", "what", "(I)I"⟩, prog_3_method_36_code, 2, (Option.some Jvm.ClassFile.FieldType.int), [], [(0, [(.iload_n 1, 1, 0, 0, 0, .null)]), (52, [(.aload_n 0, 1, 0, 0, 0, .null), (.getfield 164, 3, 2, 6, 0, .null)]), (57, [(.aload_n 0, 1, 0, 0, 0, .null), (.getfield 109, 3, 2, 8, 0, .null)]), (62, [(.aload_n 0, 1, 0, 0, 0, .null), (.getfield 106, 3, 2, 16, 0, .null)]), (67, [(.aload_n 0, 1, 0, 0, 0, .null), (.getfield 167, 3, 2, 7, 0, .null)]), (72, [(.aload_n 0, 1, 0, 0, 0, .null), (.getfield 42, 3, 2, 1, 0, .null)]), (77, [(.aload_n 0, 1, 0, 0, 0, .null), (.getfield 237, 3, 2, 21, 0, .null)]), (82, [(.aload_n 0, 1, 0, 0, 0, .null), (.getfield 50, 3, 2, 23, 0, .null)]), (87, [(.aload_n 0, 1, 0, 0, 0, .null), (.getfield 53, 3, 2, 26, 0, .null)]), (92, [(.aload_n 0, 1, 0, 0, 0, .null), (.getfield 253, 3, 2, 22, 0, .null)]), (97, [(.aload_n 0, 1, 0, 0, 0, .null), (.getfield 12, 3, 2, 0, 4, .null), (.getfield 134, 3, 1, 1, 0, .null)])], [(1, .tableswitch 96 0 8 #[51, 56, 61, 66, 71, 76, 81, 86, 91], 51), (56, .ireturn, 1), (61, .ireturn, 1), (66, .ireturn, 1), (71, .ireturn, 1), (76, .ireturn, 1), (81, .ireturn, 1), (86, .ireturn, 1), (91, .ireturn, 1), (96, .ireturn, 1), (104, .ireturn, 1)])
set_option maxRecDepth 100000 in
theorem m_Fo_what : hx_mok M_Fo_what = true := by decide +kernel
theorem pd_Fo_what : (parseMethodDescriptor M_Fo_what.2.1.desc).map (fun q => q.parameters.length) = some 1 := by decide +kernel
theorem y_Fo_what : hx_okV M_Fo_what := ⟨⟨lw_g (lw_at lw_m5 20 rfl) rfl, lw_g (lw_at lw_m5 18 rfl) rfl, lw_g (lw_at lw_m5 19 rfl) rfl, lw_g (lw_at lw_m1 3 rfl) rfl, rfl, by decide, by decide, by decide⟩, rfl, by decide, plainFor_of_name (by decide)⟩
noncomputable def f_Fo_what (x1 : Int32) (h : hH) : Option Int32 :=
  if x1 = (0 : Int32) then (
    some (rdI h 4 6)
  ) else (
    if x1 = (1 : Int32) then (
      some (rdI h 4 8)
    ) else (
      if x1 = (2 : Int32) then (
        some (rdI h 4 16)
      ) else (
        if x1 = (3 : Int32) then (
          some (rdI h 4 7)
        ) else (
          if x1 = (4 : Int32) then (
            some (rdI h 4 1)
          ) else (
            if x1 = (5 : Int32) then (
              some (rdI h 4 21)
            ) else (
              if x1 = (6 : Int32) then (
                some (rdI h 4 23)
              ) else (
                if x1 = (7 : Int32) then (
                  some (rdI h 4 26)
                ) else (
                  if x1 = (8 : Int32) then (
                    some (rdI h 4 22)
                  ) else (
                    some (rdI h 5 1)
                  )
                )
              )
            )
          )
        )
      )
    )
  )
set_option maxRecDepth 20000 in
theorem k_Fo_what (x1 : Int32) (h : hH) : hx_kP S0 M_Fo_what 1 NT [(.ref 4), (.int x1)] h (f_Fo_what x1 h) cvI := by
  have hm := m_Fo_what
  show hx_P S0 M_Fo_what 1 0 [(0, (.ref 4)), (1, (.int x1))] [] NT h (f_Fo_what x1 h) (hx_Rp cvI NT h)
  unfold f_Fo_what
  refine hp_b hm (at1 0 rfl) (L' := [(0, (.ref 4)), (1, (.int x1))]) (st' := [(.int x1)]) rfl (by exact trivial) (pc' := 1) rfl ?_
  refine hp_sw hm 0 rfl (cs := [0]) (off := 51) (by decide) (tgt := 52) rfl (sw1 _ _) ?_ (fun c1 => ?_)
  · exact hp_ir hm (at1 1 rfl) rfl (by exact og_4) (pc' := 56) rfl 1 rfl rfl (vp_nar_int _) (fun _ e => e)
  · refine hp_sw hm 0 rfl (cs := [1]) (off := 56) (by decide) (tgt := 57) rfl (sw1 _ _) ?_ (fun c2 => ?_)
    · exact hp_ir hm (at1 2 rfl) rfl (by exact og_4) (pc' := 61) rfl 2 rfl rfl (vp_nar_int _) (fun _ e => e)
    · refine hp_sw hm 0 rfl (cs := [2]) (off := 61) (by decide) (tgt := 62) rfl (sw1 _ _) ?_ (fun c3 => ?_)
      · exact hp_ir hm (at1 3 rfl) rfl (by exact og_4) (pc' := 66) rfl 3 rfl rfl (vp_nar_int _) (fun _ e => e)
      · refine hp_sw hm 0 rfl (cs := [3]) (off := 66) (by decide) (tgt := 67) rfl (sw1 _ _) ?_ (fun c4 => ?_)
        · exact hp_ir hm (at1 4 rfl) rfl (by exact og_4) (pc' := 71) rfl 4 rfl rfl (vp_nar_int _) (fun _ e => e)
        · refine hp_sw hm 0 rfl (cs := [4]) (off := 71) (by decide) (tgt := 72) rfl (sw1 _ _) ?_ (fun c5 => ?_)
          · exact hp_ir hm (at1 5 rfl) rfl (by exact og_4) (pc' := 76) rfl 5 rfl rfl (vp_nar_int _) (fun _ e => e)
          · refine hp_sw hm 0 rfl (cs := [5]) (off := 76) (by decide) (tgt := 77) rfl (sw1 _ _) ?_ (fun c6 => ?_)
            · exact hp_ir hm (at1 6 rfl) rfl (by exact og_4) (pc' := 81) rfl 6 rfl rfl (vp_nar_int _) (fun _ e => e)
            · refine hp_sw hm 0 rfl (cs := [6]) (off := 81) (by decide) (tgt := 82) rfl (sw1 _ _) ?_ (fun c7 => ?_)
              · exact hp_ir hm (at1 7 rfl) rfl (by exact og_4) (pc' := 86) rfl 7 rfl rfl (vp_nar_int _) (fun _ e => e)
              · refine hp_sw hm 0 rfl (cs := [7]) (off := 86) (by decide) (tgt := 87) rfl (sw1 _ _) ?_ (fun c8 => ?_)
                · exact hp_ir hm (at1 8 rfl) rfl (by exact og_4) (pc' := 91) rfl 8 rfl rfl (vp_nar_int _) (fun _ e => e)
                · refine hp_sw hm 0 rfl (cs := [8]) (off := 91) (by decide) (tgt := 92) rfl (sw1 _ _) ?_ (fun c9 => ?_)
                  · exact hp_ir hm (at1 9 rfl) rfl (by exact og_4) (pc' := 96) rfl 9 rfl rfl (vp_nar_int _) (fun _ e => e)
                  · refine hp_sd2 hm 0 rfl (css := [[0], [1], [2], [3], [4], [5], [6], [7], [8]]) (by decide) (by decide) (List.forall_mem_cons.mpr ⟨c1, (List.forall_mem_cons.mpr ⟨c2, (List.forall_mem_cons.mpr ⟨c3, (List.forall_mem_cons.mpr ⟨c4, (List.forall_mem_cons.mpr ⟨c5, (List.forall_mem_cons.mpr ⟨c6, (List.forall_mem_cons.mpr ⟨c7, (List.forall_mem_cons.mpr ⟨c8, (List.forall_mem_cons.mpr ⟨c9, (fun _ h => absurd h List.not_mem_nil)⟩)⟩)⟩)⟩)⟩)⟩)⟩)⟩)⟩) (tgt := 97) rfl ?_
                    exact hp_ir hm (at1 10 rfl) rfl (by exact ⟨og_4, og_5⟩) (pc' := 104) rfl 10 rfl rfl (vp_nar_int _) (fun _ e => e)
/-! HintHouse.font(I)I -/
def M_HH_font : hM := (0, ⟨"HintHouse", "font", "(I)I"⟩, prog_1_method_9_code, 2, (Option.some Jvm.ClassFile.FieldType.int), [], [(0, [(.aload_n 0, 1, 0, 0, 0, .null), (.getfield 111, 3, 0, 2, 1, .null)]), (12, [(.iload_n 1, 1, 0, 0, 0, .null), (.i2l, 1, 0, 0, 0, .null), (.lconst 0, 1, 0, 0, 0, (.long (0 : Int64))), (.ldc2_w 118, 3, 0, 0, 0, (.long (9 : Int64)))]), (35, [(.bipush (-2), 2, 0, 0, 0, (.int (-2 : Int32)))]), (24, [(.aload_n 0, 1, 0, 0, 0, .null), (.getfield 29, 3, 0, 1, 4, .null), (.iload_n 1, 1, 0, 0, 0, .null)]), (7, [(.bipush (-3), 2, 0, 0, 0, (.int (-3 : Int32)))])], [(18, .invokestatic 79, 3), (37, .ireturn, 1), (29, .invokevirtual 120, 3), (32, .goto 5, 3), (21, .ifCond .eq 14, 3), (9, .goto 28, 3), (4, .ifCond .ne 8, 3)])
set_option maxRecDepth 100000 in
theorem m_HH_font : hx_mok M_HH_font = true := by decide +kernel
theorem pd_HH_font : (parseMethodDescriptor M_HH_font.2.1.desc).map (fun q => q.parameters.length) = some 1 := by decide +kernel
theorem y_HH_font : hx_okV M_HH_font := ⟨⟨lw_g (lw_at lw_m5 15 rfl) rfl, lw_g (lw_at lw_m5 13 rfl) rfl, lw_g (lw_at lw_m5 14 rfl) rfl, lw_g (lw_at lw_m1 1 rfl) rfl, rfl, by decide, by decide, by decide⟩, rfl, by decide, plainFor_of_name (by decide)⟩
noncomputable def f_HH_font (x1 : Int32) (h : hH) : Option Int32 :=
  if (rdI h 1 2) = 0 then (
    some (-3 : Int32)
  ) else (
    bP (f_HH_within (Int32.toInt64 x1) (0 : Int64) (9 : Int64)) fun a1 =>
    if a1 = 0 then (
      some (-2 : Int32)
    ) else (
      bP (f_Fo_what x1 h) fun a2 =>
      some a2
    )
  )
set_option maxRecDepth 20000 in
theorem k_HH_font (x1 : Int32) (h : hH) : hx_kP S0 M_HH_font 2 NT [(.ref 1), (.int x1)] h (f_HH_font x1 h) cvI := by
  have hm := m_HH_font
  show hx_P S0 M_HH_font 2 0 [(0, (.ref 1)), (1, (.int x1))] [] NT h (f_HH_font x1 h) (hx_Rp cvI NT h)
  unfold f_HH_font
  refine hp_if_ne hm (at1 0 rfl) rfl (by exact og_1) (pc' := 4) rfl 6 rfl (tgt := 12) rfl (fun c4 => ?_) (fun c4 => ?_)
  · refine hp_cSP (M2 := M_HH_within) hm (at1 1 rfl) (as := [(.long (Int32.toInt64 x1)), (.long (0 : Int64)), (.long (9 : Int64))]) (rest := []) rfl (by exact trivial) (pc' := 18) rfl 0 rfl (lw_g (lw_at lw_m4 39 rfl) rfl) y_HH_within rfl (d2 := 1) ⟨le_b rfl, pd_HH_within, le_b rfl⟩ (le_b rfl) (k_HH_within (Int32.toInt64 x1) (0 : Int64) (9 : Int64) h) (fun a1 => ?_)
    refine hp_if_eq hm at0 rfl (by exact trivial) (pc' := 21) rfl 4 rfl (tgt := 35) rfl (fun c3 => ?_) (fun c3 => ?_)
    · refine hp_b hm (at1 2 rfl) (L' := [(0, (.ref 1)), (1, (.int x1))]) (st' := [(.int (-2 : Int32))]) rfl (by exact trivial) (pc' := 37) rfl ?_
      exact hp_ir hm at0 rfl (by exact trivial) (pc' := 37) rfl 1 rfl rfl (vp_nar_int _) (fun _ e => e)
    · refine hp_cVP (M2 := M_Fo_what) hm (at1 3 rfl) (as := [(.int x1)]) (rest := []) (z := 4) rfl (by exact og_1) (pc' := 29) rfl 2 rfl (lw_g (lw_at lw_m5 17 rfl) rfl) y_Fo_what rfl (d2 := 1) ⟨le_b rfl, pd_Fo_what, le_b rfl⟩ (le_b rfl) og_4 (k_Fo_what x1 h) (fun a2 => ?_)
      refine hp_goto hm 3 rfl (tgt := 37) rfl ?_
      exact hp_ir hm at0 rfl (by exact trivial) (pc' := 37) rfl 1 rfl rfl (vp_nar_int _) (fun _ e => e)
  · refine hp_b hm (at1 4 rfl) (L' := [(0, (.ref 1)), (1, (.int x1))]) (st' := [(.int (-3 : Int32))]) rfl (by exact trivial) (pc' := 9) rfl ?_
    refine hp_goto hm 5 rfl (tgt := 37) rfl ?_
    exact hp_ir hm at0 rfl (by exact trivial) (pc' := 37) rfl 1 rfl rfl (vp_nar_int _) (fun _ e => e)
/-! HintHouse.table(II)J -/
def M_HH_table : hM := (0, ⟨"HintHouse", "table", "(II)J"⟩, prog_1_method_10_code, 3, (Option.some Jvm.ClassFile.FieldType.long), [], [(0, [(.aload_n 0, 1, 0, 0, 0, .null), (.getfield 111, 3, 0, 2, 1, .null)]), (11, [(.iload_n 1, 1, 0, 0, 0, .null), (.i2l, 1, 0, 0, 0, .null), (.lconst 0, 1, 0, 0, 0, (.long (0 : Int64))), (.aload_n 0, 1, 0, 0, 0, .null), (.getfield 29, 3, 0, 1, 4, .null), (.getfield 126, 3, 2, 1, 0, .null), (.iconst 1, 1, 0, 0, 0, (.int (1 : Int32))), (.isub, 1, 0, 0, 0, .null), (.i2l, 1, 0, 0, 0, .null)]), (34, [(.iload_n 2, 1, 0, 0, 0, .null)]), (50, [(.iload_n 2, 1, 0, 0, 0, .null), (.iconst 1, 1, 0, 0, 0, (.int (1 : Int32)))]), (67, [(.iload_n 2, 1, 0, 0, 0, .null), (.iconst 2, 1, 0, 0, 0, (.int (2 : Int32)))]), (84, [(.iload_n 2, 1, 0, 0, 0, .null), (.iconst 3, 1, 0, 0, 0, (.int (3 : Int32)))]), (101, [(.ldc2_w 144, 3, 0, 0, 0, (.long (-2 : Int64)))]), (89, [(.aload_n 0, 1, 0, 0, 0, .null), (.getfield 29, 3, 0, 1, 4, .null), (.getfield 141, 3, 2, 5, 4, .null), (.iload_n 1, 1, 0, 0, 0, .null), (.laload, 1, 0, 0, 0, .null)]), (72, [(.aload_n 0, 1, 0, 0, 0, .null), (.getfield 29, 3, 0, 1, 4, .null), (.getfield 138, 3, 2, 4, 4, .null), (.iload_n 1, 1, 0, 0, 0, .null), (.laload, 1, 0, 0, 0, .null)]), (55, [(.aload_n 0, 1, 0, 0, 0, .null), (.getfield 29, 3, 0, 1, 4, .null), (.getfield 135, 3, 2, 3, 4, .null), (.iload_n 1, 1, 0, 0, 0, .null), (.laload, 1, 0, 0, 0, .null)]), (38, [(.aload_n 0, 1, 0, 0, 0, .null), (.getfield 29, 3, 0, 1, 4, .null), (.getfield 131, 3, 2, 2, 4, .null), (.iload_n 1, 1, 0, 0, 0, .null), (.laload, 1, 0, 0, 0, .null)]), (30, [(.ldc2_w 129, 3, 0, 0, 0, (.long (-1 : Int64)))]), (7, [(.ldc2_w 124, 3, 0, 0, 0, (.long (-3 : Int64)))])], [(24, .invokestatic 79, 3), (104, .lreturn, 1), (98, .goto 6, 3), (86, .if_icmp .ne 15, 3), (81, .goto 23, 3), (69, .if_icmp .ne 15, 3), (64, .goto 40, 3), (52, .if_icmp .ne 15, 3), (47, .goto 57, 3), (35, .ifCond .ne 15, 3), (33, .lreturn, 1), (27, .ifCond .ne 7, 3), (10, .lreturn, 1), (4, .ifCond .ne 7, 3)])
set_option maxRecDepth 100000 in
theorem m_HH_table : hx_mok M_HH_table = true := by decide +kernel
theorem pd_HH_table : (parseMethodDescriptor M_HH_table.2.1.desc).map (fun q => q.parameters.length) = some 2 := by decide +kernel
theorem y_HH_table : hx_okV M_HH_table := ⟨⟨lw_g (lw_at lw_m5 24 rfl) rfl, lw_g (lw_at lw_m5 22 rfl) rfl, lw_g (lw_at lw_m5 23 rfl) rfl, lw_g (lw_at lw_m1 1 rfl) rfl, rfl, by decide, by decide, by decide⟩, rfl, by decide, plainFor_of_name (by decide)⟩
noncomputable def f_HH_table (x1 : Int32) (x2 : Int32) (h : hH) : Option Int64 :=
  if (rdI h 1 2) = 0 then (
    some (-3 : Int64)
  ) else (
    bP (f_HH_within (Int32.toInt64 x1) (0 : Int64) (Int32.toInt64 ((rdI h 4 1) - (1 : Int32)))) fun a1 =>
    if a1 = 0 then (
      some (-1 : Int64)
    ) else (
      if x2 = 0 then (
        gd (vp_in x1 16) <|
        some (rdL h 7 (Int32.toNatClampNeg x1))
      ) else (
        if x2 = (1 : Int32) then (
          gd (vp_in x1 16) <|
          some (rdL h 8 (Int32.toNatClampNeg x1))
        ) else (
          if x2 = (2 : Int32) then (
            gd (vp_in x1 16) <|
            some (rdL h 9 (Int32.toNatClampNeg x1))
          ) else (
            if x2 = (3 : Int32) then (
              gd (vp_in x1 16) <|
              some (rdL h 10 (Int32.toNatClampNeg x1))
            ) else (
              some (-2 : Int64)
            )
          )
        )
      )
    )
  )
set_option maxRecDepth 20000 in
theorem k_HH_table (x1 : Int32) (x2 : Int32) (h : hH) : hx_kP S0 M_HH_table 2 NT [(.ref 1), (.int x1), (.int x2)] h (f_HH_table x1 x2 h) cvL := by
  have hm := m_HH_table
  show hx_P S0 M_HH_table 2 0 [(0, (.ref 1)), (1, (.int x1)), (2, (.int x2))] [] NT h (f_HH_table x1 x2 h) (hx_Rp cvL NT h)
  unfold f_HH_table
  refine hp_if_ne hm (at1 0 rfl) rfl (by exact og_1) (pc' := 4) rfl 13 rfl (tgt := 11) rfl (fun c11 => ?_) (fun c11 => ?_)
  · refine hp_cSP (M2 := M_HH_within) hm (at1 1 rfl) (as := [(.long (Int32.toInt64 x1)), (.long (0 : Int64)), (.long (Int32.toInt64 ((rdI h 4 1) - (1 : Int32))))]) (rest := []) rfl (by exact ⟨og_1, og_4⟩) (pc' := 24) rfl 0 rfl (lw_g (lw_at lw_m4 39 rfl) rfl) y_HH_within rfl (d2 := 1) ⟨le_b rfl, pd_HH_within, le_b rfl⟩ (le_b rfl) (k_HH_within (Int32.toInt64 x1) (0 : Int64) (Int32.toInt64 ((rdI h 4 1) - (1 : Int32))) h) (fun a1 => ?_)
    refine hp_if_ne hm at0 rfl (by exact trivial) (pc' := 27) rfl 11 rfl (tgt := 34) rfl (fun c10 => ?_) (fun c10 => ?_)
    · refine hp_if_ne hm (at1 2 rfl) rfl (by exact trivial) (pc' := 35) rfl 9 rfl (tgt := 50) rfl (fun c9 => ?_) (fun c9 => ?_)
      · refine hp_ic_ne hm (at1 3 rfl) rfl (by exact trivial) (pc' := 52) rfl 7 rfl (tgt := 67) rfl (fun c7 => ?_) (fun c7 => ?_)
        · refine hp_ic_ne hm (at1 4 rfl) rfl (by exact trivial) (pc' := 69) rfl 5 rfl (tgt := 84) rfl (fun c5 => ?_) (fun c5 => ?_)
          · refine hp_ic_ne hm (at1 5 rfl) rfl (by exact trivial) (pc' := 86) rfl 3 rfl (tgt := 101) rfl (fun c3 => ?_) (fun c3 => ?_)
            · refine hp_b hm (at1 6 rfl) (L' := [(0, (.ref 1)), (1, (.int x1)), (2, (.int x2))]) (st' := [(.long (-2 : Int64))]) rfl (by exact trivial) (pc' := 104) rfl ?_
              exact hp_lr hm at0 rfl (by exact trivial) (pc' := 104) rfl 1 rfl rfl (fun _ e => e)
            · refine hp_G hm (at1 7 rfl) (L' := [(0, (.ref 1)), (1, (.int x1)), (2, (.int x2))]) (st' := [(.long (rdL h 10 (Int32.toNatClampNeg x1)))]) rfl (fun hP => (by exact ⟨⟨og_1, og_4⟩, ⟨og_10, hP⟩⟩)) (pc' := 98) rfl (fun q2 => ?_)
              refine hp_goto hm 2 rfl (tgt := 104) rfl ?_
              exact hp_lr hm at0 rfl (by exact trivial) (pc' := 104) rfl 1 rfl rfl (fun _ e => e)
          · refine hp_G hm (at1 8 rfl) (L' := [(0, (.ref 1)), (1, (.int x1)), (2, (.int x2))]) (st' := [(.long (rdL h 9 (Int32.toNatClampNeg x1)))]) rfl (fun hP => (by exact ⟨⟨og_1, og_4⟩, ⟨og_9, hP⟩⟩)) (pc' := 81) rfl (fun q4 => ?_)
            refine hp_goto hm 4 rfl (tgt := 104) rfl ?_
            exact hp_lr hm at0 rfl (by exact trivial) (pc' := 104) rfl 1 rfl rfl (fun _ e => e)
        · refine hp_G hm (at1 9 rfl) (L' := [(0, (.ref 1)), (1, (.int x1)), (2, (.int x2))]) (st' := [(.long (rdL h 8 (Int32.toNatClampNeg x1)))]) rfl (fun hP => (by exact ⟨⟨og_1, og_4⟩, ⟨og_8, hP⟩⟩)) (pc' := 64) rfl (fun q6 => ?_)
          refine hp_goto hm 6 rfl (tgt := 104) rfl ?_
          exact hp_lr hm at0 rfl (by exact trivial) (pc' := 104) rfl 1 rfl rfl (fun _ e => e)
      · refine hp_G hm (at1 10 rfl) (L' := [(0, (.ref 1)), (1, (.int x1)), (2, (.int x2))]) (st' := [(.long (rdL h 7 (Int32.toNatClampNeg x1)))]) rfl (fun hP => (by exact ⟨⟨og_1, og_4⟩, ⟨og_7, hP⟩⟩)) (pc' := 47) rfl (fun q8 => ?_)
        refine hp_goto hm 8 rfl (tgt := 104) rfl ?_
        exact hp_lr hm at0 rfl (by exact trivial) (pc' := 104) rfl 1 rfl rfl (fun _ e => e)
    · exact hp_lr hm (at1 11 rfl) rfl (by exact trivial) (pc' := 33) rfl 10 rfl rfl (fun _ e => e)
  · exact hp_lr hm (at1 12 rfl) rfl (by exact trivial) (pc' := 10) rfl 12 rfl rfl (fun _ e => e)
/-! HintHouse$Font.plain(I)J -/
def M_Fo_plain : hM := (2, ⟨"HintHouse$Font", "plain", "(I)J"⟩, prog_3_method_30_code, 2, (Option.some Jvm.ClassFile.FieldType.long), [], [(0, [(.iload_n 1, 1, 0, 0, 0, .null), (.sipush 256, 3, 0, 0, 0, (.int (256 : Int32)))]), (27, [(.lconst 0, 1, 0, 0, 0, (.long (0 : Int64)))]), (7, [(.aload_n 0, 1, 0, 0, 0, .null), (.getfield 12, 3, 2, 0, 4, .null), (.aload_n 0, 1, 0, 0, 0, .null), (.getfield 240, 3, 2, 20, 0, .null), (.bipush 6, 2, 0, 0, 0, (.int (6 : Int32))), (.iadd, 1, 0, 0, 0, .null), (.iload_n 1, 1, 0, 0, 0, .null), (.iadd, 1, 0, 0, 0, .null)]), (23, [(.i2l, 1, 0, 0, 0, .null)])], [(28, .lreturn, 1), (20, .invokevirtual 281, 3), (24, .goto 4, 3), (4, .if_icmp .ge 23, 3)])
set_option maxRecDepth 100000 in
theorem m_Fo_plain : hx_mok M_Fo_plain = true := by decide +kernel
theorem pd_Fo_plain : (parseMethodDescriptor M_Fo_plain.2.1.desc).map (fun q => q.parameters.length) = some 1 := by decide +kernel
theorem y_Fo_plain : hx_okV M_Fo_plain := ⟨⟨lw_g (lw_at lw_m5 40 rfl) rfl, lw_g (lw_at lw_m5 39 rfl) rfl, qs31, lw_g (lw_at lw_m1 3 rfl) rfl, rfl, by decide, by decide, by decide⟩, rfl, by decide, plainFor_of_name (by decide)⟩
noncomputable def f_Fo_plain (x1 : Int32) (h : hH) : Option Int64 :=
  if (256 : Int32) ≤ x1 then (
    some (0 : Int64)
  ) else (
    bP (f_By_u1 5 (((rdI h 4 20) + (6 : Int32)) + x1) h) fun a1 =>
    some (Int32.toInt64 a1)
  )
set_option maxRecDepth 20000 in
theorem k_Fo_plain (x1 : Int32) (h : hH) : hx_kP S0 M_Fo_plain 2 NT [(.ref 4), (.int x1)] h (f_Fo_plain x1 h) cvL := by
  have hm := m_Fo_plain
  show hx_P S0 M_Fo_plain 2 0 [(0, (.ref 4)), (1, (.int x1))] [] NT h (f_Fo_plain x1 h) (hx_Rp cvL NT h)
  unfold f_Fo_plain
  refine hp_ic_ge hm (at1 0 rfl) rfl (by exact trivial) (pc' := 4) rfl 3 rfl (tgt := 27) rfl (fun c2 => ?_) (fun c2 => ?_)
  · refine hp_b hm (at1 1 rfl) (L' := [(0, (.ref 4)), (1, (.int x1))]) (st' := [(.long (0 : Int64))]) rfl (by exact trivial) (pc' := 28) rfl ?_
    exact hp_lr hm at0 rfl (by exact trivial) (pc' := 28) rfl 0 rfl rfl (fun _ e => e)
  · refine hp_cVP (M2 := M_By_u1) hm (at1 2 rfl) (as := [(.int (((rdI h 4 20) + (6 : Int32)) + x1))]) (rest := []) (z := 5) rfl (by exact ⟨og_4, og_4⟩) (pc' := 20) rfl 1 rfl (lw_g (lw_at lw_m5 41 rfl) rfl) y_By_u1 rfl (d2 := 1) ⟨le_b rfl, pd_By_u1, le_b rfl⟩ (le_b rfl) og_5 (k_By_u1 5 (((rdI h 4 20) + (6 : Int32)) + x1) h og_5) (fun a1 => ?_)
    refine hp_b hm (at1 3 rfl) (L' := [(0, (.ref 4)), (1, (.int x1))]) (st' := [(.long (Int32.toInt64 a1))]) rfl (by exact trivial) (pc' := 24) rfl ?_
    refine hp_goto hm 2 rfl (tgt := 28) rfl ?_
    exact hp_lr hm at0 rfl (by exact trivial) (pc' := 28) rfl 0 rfl rfl (fun _ e => e)
/-! HintHouse$Font.deltaOf(I)I -/
def M_Fo_deltaOf : hM := (2, ⟨"HintHouse$Font", "deltaOf", "(I)I"⟩, prog_3_method_26_code, 2, (Option.some Jvm.ClassFile.FieldType.int), [], [(0, [(.aload_n 0, 1, 0, 0, 0, .null), (.getfield 12, 3, 2, 0, 4, .null), (.aload_n 0, 1, 0, 0, 0, .null), (.getfield 240, 3, 2, 20, 0, .null), (.bipush 16, 2, 0, 0, 0, (.int (16 : Int32))), (.iadd, 1, 0, 0, 0, .null), (.iconst 2, 1, 0, 0, 0, (.int (2 : Int32))), (.iconst 2, 1, 0, 0, 0, (.int (2 : Int32))), (.aload_n 0, 1, 0, 0, 0, .null), (.getfield 253, 3, 2, 22, 0, .null), (.imul, 1, 0, 0, 0, .null), (.iload_n 1, 1, 0, 0, 0, .null), (.iadd, 1, 0, 0, 0, .null), (.imul, 1, 0, 0, 0, .null), (.iadd, 1, 0, 0, 0, .null)])], [(22, .invokevirtual 102, 3), (25, .ireturn, 1)])
set_option maxRecDepth 100000 in
theorem m_Fo_deltaOf : hx_mok M_Fo_deltaOf = true := by decide +kernel
theorem pd_Fo_deltaOf : (parseMethodDescriptor M_Fo_deltaOf.2.1.desc).map (fun q => q.parameters.length) = some 1 := by decide +kernel
theorem y_Fo_deltaOf : hx_okV M_Fo_deltaOf := ⟨⟨lw_g (lw_at lw_m5 49 rfl) rfl, lw_g (lw_at lw_m5 48 rfl) rfl, qs33, lw_g (lw_at lw_m1 3 rfl) rfl, rfl, by decide, by decide, by decide⟩, rfl, by decide, plainFor_of_name (by decide)⟩
noncomputable def f_Fo_deltaOf (x1 : Int32) (h : hH) : Option Int32 :=
  bP (f_By_u2 5 (((rdI h 4 20) + (16 : Int32)) + ((2 : Int32) * (((2 : Int32) * (rdI h 4 22)) + x1))) h) fun a1 =>
  some a1
set_option maxRecDepth 20000 in
theorem k_Fo_deltaOf (x1 : Int32) (h : hH) : hx_kP S0 M_Fo_deltaOf 3 NT [(.ref 4), (.int x1)] h (f_Fo_deltaOf x1 h) cvI := by
  have hm := m_Fo_deltaOf
  show hx_P S0 M_Fo_deltaOf 3 0 [(0, (.ref 4)), (1, (.int x1))] [] NT h (f_Fo_deltaOf x1 h) (hx_Rp cvI NT h)
  unfold f_Fo_deltaOf
  refine hp_cVP (M2 := M_By_u2) hm (at1 0 rfl) (as := [(.int (((rdI h 4 20) + (16 : Int32)) + ((2 : Int32) * (((2 : Int32) * (rdI h 4 22)) + x1))))]) (rest := []) (z := 5) rfl (by exact ⟨⟨og_4, og_4⟩, og_4⟩) (pc' := 22) rfl 0 rfl (lw_g (lw_at lw_m4 75 rfl) rfl) y_By_u2 rfl (d2 := 2) ⟨le_b rfl, pd_By_u2, le_b rfl⟩ (le_b rfl) og_5 (k_By_u2 5 (((rdI h 4 20) + (16 : Int32)) + ((2 : Int32) * (((2 : Int32) * (rdI h 4 22)) + x1))) h og_5) (fun a1 => ?_)
  exact hp_ir hm at0 rfl (by exact trivial) (pc' := 25) rfl 1 rfl rfl (vp_nar_int _) (fun _ e => e)
/-! HintHouse$Font.segment(I)J -/
def M_Fo_segment : hM := (2, ⟨"HintHouse$Font", "segment", "(I)J"⟩, prog_3_method_31_code, 6, (Option.some Jvm.ClassFile.FieldType.long), [], [(0, [(.iconst 0, 1, 0, 0, 0, (.int (0 : Int32))), (.istore_n 2, 1, 0, 0, 0, .null)]), (2, [(.iload_n 2, 1, 0, 0, 0, .null), (.aload_n 0, 1, 0, 0, 0, .null), (.getfield 253, 3, 2, 22, 0, .null)]), (10, [(.aload_n 0, 1, 0, 0, 0, .null), (.iload_n 2, 1, 0, 0, 0, .null)]), (15, [(.iload_n 1, 1, 0, 0, 0, .null)]), (19, [(.iinc 2 1, 3, 0, 0, 0, (.int (1 : Int32)))]), (25, [(.iload_n 2, 1, 0, 0, 0, .null), (.aload_n 0, 1, 0, 0, 0, .null), (.getfield 253, 3, 2, 22, 0, .null)]), (42, [(.lconst 0, 1, 0, 0, 0, (.long (0 : Int64)))]), (33, [(.aload_n 0, 1, 0, 0, 0, .null), (.iload_n 2, 1, 0, 0, 0, .null)]), (38, [(.iload_n 1, 1, 0, 0, 0, .null)]), (44, [(.aload_n 0, 1, 0, 0, 0, .null), (.iload_n 2, 1, 0, 0, 0, .null)]), (49, [(.istore_n 3, 1, 0, 0, 0, .null), (.iload_n 3, 1, 0, 0, 0, .null)]), (67, [(.bipush 16, 2, 0, 0, 0, (.int (16 : Int32))), (.iconst 2, 1, 0, 0, 0, (.int (2 : Int32))), (.iconst 3, 1, 0, 0, 0, (.int (3 : Int32))), (.aload_n 0, 1, 0, 0, 0, .null), (.getfield 253, 3, 2, 22, 0, .null), (.imul, 1, 0, 0, 0, .null), (.iload_n 2, 1, 0, 0, 0, .null), (.iadd, 1, 0, 0, 0, .null), (.imul, 1, 0, 0, 0, .null), (.iadd, 1, 0, 0, 0, .null), (.iload_n 3, 1, 0, 0, 0, .null), (.iadd, 1, 0, 0, 0, .null), (.iconst 2, 1, 0, 0, 0, (.int (2 : Int32))), (.iload_n 1, 1, 0, 0, 0, .null), (.aload_n 0, 1, 0, 0, 0, .null), (.iload_n 2, 1, 0, 0, 0, .null)]), (89, [(.isub, 1, 0, 0, 0, .null), (.imul, 1, 0, 0, 0, .null), (.iadd, 1, 0, 0, 0, .null), (.istore 4, 2, 0, 0, 0, .null)]), (94, [(.iload 4, 2, 0, 0, 0, .null), (.iconst 2, 1, 0, 0, 0, (.int (2 : Int32))), (.iadd, 1, 0, 0, 0, .null), (.aload_n 0, 1, 0, 0, 0, .null), (.getfield 12, 3, 2, 0, 4, .null), (.aload_n 0, 1, 0, 0, 0, .null), (.getfield 240, 3, 2, 20, 0, .null), (.iconst 2, 1, 0, 0, 0, (.int (2 : Int32))), (.iadd, 1, 0, 0, 0, .null)]), (131, [(.iconst 0, 1, 0, 0, 0, (.int (0 : Int32)))]), (114, [(.aload_n 0, 1, 0, 0, 0, .null), (.getfield 12, 3, 2, 0, 4, .null), (.aload_n 0, 1, 0, 0, 0, .null), (.getfield 240, 3, 2, 20, 0, .null), (.iload 4, 2, 0, 0, 0, .null), (.iadd, 1, 0, 0, 0, .null)]), (132, [(.istore 5, 2, 0, 0, 0, .null), (.iload 5, 2, 0, 0, 0, .null)]), (143, [(.iload 5, 2, 0, 0, 0, .null), (.aload_n 0, 1, 0, 0, 0, .null), (.iload_n 2, 1, 0, 0, 0, .null)]), (150, [(.iadd, 1, 0, 0, 0, .null), (.ldc_w 267, 3, 0, 0, 0, (.int (65535 : Int32))), (.iand, 1, 0, 0, 0, .null), (.i2l, 1, 0, 0, 0, .null)]), (139, [(.lconst 0, 1, 0, 0, 0, (.long (0 : Int64)))]), (54, [(.iload_n 1, 1, 0, 0, 0, .null), (.aload_n 0, 1, 0, 0, 0, .null), (.iload_n 2, 1, 0, 0, 0, .null)]), (60, [(.iadd, 1, 0, 0, 0, .null), (.ldc_w 267, 3, 0, 0, 0, (.int (65535 : Int32))), (.iand, 1, 0, 0, 0, .null), (.i2l, 1, 0, 0, 0, .null)])], [(12, .invokevirtual 258, 3), (16, .if_icmp .ge 9, 3), (7, .if_icmp .ge 18, 3), (22, .goto (-20), 3), (43, .lreturn, 1), (35, .invokevirtual 261, 3), (46, .invokevirtual 264, 3), (86, .invokevirtual 261, 3), (108, .invokevirtual 102, 3), (125, .invokevirtual 102, 3), (128, .goto 4, 3), (111, .if_icmp .gt 20, 3), (147, .invokevirtual 284, 3), (156, .lreturn, 1), (140, .goto 16, 3), (136, .ifCond .ne 7, 3), (57, .invokevirtual 284, 3), (66, .lreturn, 1), (51, .ifCond .ne 16, 3), (39, .if_icmp .le 5, 3), (30, .if_icmp .eq 12, 3)])
set_option maxRecDepth 100000 in
theorem m_Fo_segment : hx_mok M_Fo_segment = true := by decide +kernel
theorem pd_Fo_segment : (parseMethodDescriptor M_Fo_segment.2.1.desc).map (fun q => q.parameters.length) = some 1 := by decide +kernel
theorem y_Fo_segment : hx_okV M_Fo_segment := ⟨⟨lw_g (lw_at lw_m5 45 rfl) rfl, lw_g (lw_at lw_m5 44 rfl) rfl, qs32, lw_g (lw_at lw_m1 3 rfl) rfl, rfl, by decide, by decide, by decide⟩, rfl, by decide, plainFor_of_name (by decide)⟩
noncomputable def f_Fo_segment (x1 : Int32) (h : hH) : Option Int64 :=
  bP (A := Int32) (
    wh (A := Int32) (B := Int32) (fun p1 =>
        cO (
          if (rdI h 4 22) ≤ p1 then (
            some false
          ) else (
            bP (f_Fo_endOf p1 h) fun a3 =>
            if x1 ≤ a3 then (
              some false
            ) else (
              some true
            )
          )
        ) (
          lz (A := Int32) (p1 + (1 : Int32)) fun v9 =>
          some (.inl v9)
        ) (
          some (.inr p1)
        )
    ) (0 : Int32)
  ) fun p2 =>
  if p2 = (rdI h 4 22) then (
    some (0 : Int64)
  ) else (
    bP (f_Fo_beginOfSegment p2 h) fun a10 =>
    if a10 ≤ x1 then (
      bP (f_Fo_offsetOf p2 h) fun a11 =>
      if a11 = 0 then (
        bP (f_Fo_deltaOf p2 h) fun a20 =>
        some (Int32.toInt64 ((x1 + a20) &&& (65535 : Int32)))
      ) else (
        bP (f_Fo_beginOfSegment p2 h) fun a12 =>
        lz (A := Int32) ((((16 : Int32) + ((2 : Int32) * (((3 : Int32) * (rdI h 4 22)) + p2))) + a11) + ((2 : Int32) * (x1 - a12))) fun v13 =>
        bP (f_By_u2 5 ((rdI h 4 20) + (2 : Int32)) h) fun a14 =>
        bP (A := Int32) (
          if a14 < (v13 + (2 : Int32)) then (
            some (0 : Int32)
          ) else (
            bP (f_By_u2 5 ((rdI h 4 20) + v13) h) fun a16 =>
            some a16
          )
        ) fun p15 =>
        if p15 = 0 then (
          some (0 : Int64)
        ) else (
          bP (f_Fo_deltaOf p2 h) fun a18 =>
          some (Int32.toInt64 ((p15 + a18) &&& (65535 : Int32)))
        )
      )
    ) else (
      some (0 : Int64)
    )
  )
set_option maxRecDepth 20000 in
theorem k_Fo_segment (x1 : Int32) (h : hH) : hx_kP S0 M_Fo_segment 4 NT [(.ref 4), (.int x1)] h (f_Fo_segment x1 h) cvL := by
  have hm := m_Fo_segment
  show hx_P S0 M_Fo_segment 4 0 [(0, (.ref 4)), (1, (.int x1))] [] NT h (f_Fo_segment x1 h) (hx_Rp cvL NT h)
  unfold f_Fo_segment
  refine hp_b hm (at1 0 rfl) (L' := [(2, (.int (0 : Int32))), (0, (.ref 4)), (1, (.int x1))]) (st' := []) rfl (by exact trivial) (pc' := 2) rfl ?_
  refine hp_J 25 (fun (p2 : Int32) => [(0, (.ref 4)), (1, (.int x1)), (2, (.int p2))]) (fun (p2 : Int32) => []) (fun (p2 : Int32) => h) ?_ (fun p2 => ?_)
  · refine hp_s [1, 2, 0] rfl (L' := [(0, (.ref 4)), (1, (.int x1)), (2, (.int (0 : Int32)))]) ?_
    refine hp_wh (fun (p1 : Int32) => [(0, (.ref 4)), (1, (.int x1)), (2, (.int p1))]) [] (fun (p1 : Int32) => h) (fun p1 => ?_) (0 : Int32)
    refine hp_cO (L0 := [(0, (.ref 4)), (1, (.int x1)), (2, (.int p1))]) (s0 := []) 19 25 ?_ ?_ ?_
    · refine hp_ic_ge hm (at1 1 rfl) rfl (by exact og_4) (pc' := 7) rfl 2 rfl (tgt := 25) rfl (fun c5 => ?_) (fun c5 => ?_)
      · exact hp_l0 (fun _ e => e)
      · refine hp_cVP (M2 := M_Fo_endOf) hm (at1 2 rfl) (as := [(.int p1)]) (rest := []) (z := 4) rfl (by exact trivial) (pc' := 12) rfl 0 rfl (lw_g (lw_at lw_m4 221 rfl) rfl) y_Fo_endOf rfl (d2 := 3) ⟨le_b rfl, pd_Fo_endOf, le_b rfl⟩ (le_b rfl) og_4 (k_Fo_endOf p1 h) (fun a3 => ?_)
        refine hp_ic_ge hm (at1 3 rfl) rfl (by exact trivial) (pc' := 16) rfl 1 rfl (tgt := 25) rfl (fun c4 => ?_) (fun c4 => ?_)
        · exact hp_l0 (fun _ e => e)
        · exact hp_l0 (fun _ e => e)
    · refine hp_z hm (at1 4 rfl) (fun (v9 : Int32) => [(2, (.int v9)), (0, (.ref 4)), (1, (.int x1))]) (fun (v9 : Int32) => []) rfl (by exact trivial) (pc' := 22) rfl (fun v9 => ?_)
      refine hp_goto hm 3 rfl (tgt := 2) rfl ?_
      exact hp_lf [1, 2, 0] rfl (fun _ e => e)
    · exact hp_lf [0, 1, 2] rfl (fun _ e => e)
  · refine hp_ic_eq hm (at1 5 rfl) rfl (by exact og_4) (pc' := 30) rfl 20 rfl (tgt := 42) rfl (fun c23 => ?_) (fun c23 => ?_)
    · exact hp_lr hm (at1 6 rfl) rfl (by exact trivial) (pc' := 43) rfl 4 rfl rfl (fun _ e => e)
    · refine hp_cVP (M2 := M_Fo_beginOfSegment) hm (at1 7 rfl) (as := [(.int p2)]) (rest := []) (z := 4) rfl (by exact trivial) (pc' := 35) rfl 5 rfl (lw_g (lw_at lw_m4 225 rfl) rfl) y_Fo_beginOfSegment rfl (d2 := 3) ⟨le_b rfl, pd_Fo_beginOfSegment, le_b rfl⟩ (le_b rfl) og_4 (k_Fo_beginOfSegment p2 h) (fun a10 => ?_)
      refine hp_ic_le hm (at1 8 rfl) rfl (by exact trivial) (pc' := 39) rfl 19 rfl (tgt := 44) rfl (fun c22 => ?_) (fun c22 => ?_)
      · refine hp_cVP (M2 := M_Fo_offsetOf) hm (at1 9 rfl) (as := [(.int p2)]) (rest := []) (z := 4) rfl (by exact trivial) (pc' := 46) rfl 6 rfl (lw_g (lw_at lw_m4 229 rfl) rfl) y_Fo_offsetOf rfl (d2 := 3) ⟨le_b rfl, pd_Fo_offsetOf, le_b rfl⟩ (le_b rfl) og_4 (k_Fo_offsetOf p2 h) (fun a11 => ?_)
        refine hp_b hm (at1 10 rfl) (L' := [(3, (.int a11)), (0, (.ref 4)), (1, (.int x1)), (2, (.int p2))]) (st' := [(.int a11)]) rfl (by exact trivial) (pc' := 51) rfl ?_
        refine hp_if_ne hm at0 rfl (by exact trivial) (pc' := 51) rfl 18 rfl (tgt := 67) rfl (fun c21 => ?_) (fun c21 => ?_)
        · refine hp_cVP (M2 := M_Fo_beginOfSegment) hm (at1 11 rfl) (as := [(.int p2)]) (rest := [(.int x1), (.int (2 : Int32)), (.int (((16 : Int32) + ((2 : Int32) * (((3 : Int32) * (rdI h 4 22)) + p2))) + a11))]) (z := 4) rfl (by exact og_4) (pc' := 86) rfl 7 rfl (lw_g (lw_at lw_m4 225 rfl) rfl) y_Fo_beginOfSegment rfl (d2 := 3) ⟨le_b rfl, pd_Fo_beginOfSegment, le_b rfl⟩ (le_b rfl) og_4 (k_Fo_beginOfSegment p2 h) (fun a12 => ?_)
          refine hp_z hm (at1 12 rfl) (fun (v13 : Int32) => [(4, (.int v13)), (3, (.int a11)), (0, (.ref 4)), (1, (.int x1)), (2, (.int p2))]) (fun (v13 : Int32) => []) rfl (by exact trivial) (pc' := 94) rfl (fun v13 => ?_)
          refine hp_cVP (M2 := M_By_u2) hm (at1 13 rfl) (as := [(.int ((rdI h 4 20) + (2 : Int32)))]) (rest := [(.int (v13 + (2 : Int32)))]) (z := 5) rfl (by exact ⟨og_4, og_4⟩) (pc' := 108) rfl 8 rfl (lw_g (lw_at lw_m4 75 rfl) rfl) y_By_u2 rfl (d2 := 2) ⟨le_b rfl, pd_By_u2, le_b rfl⟩ (le_b rfl) og_5 (k_By_u2 5 ((rdI h 4 20) + (2 : Int32)) h og_5) (fun a14 => ?_)
          refine hp_J 132 (fun (p15 : Int32) => [(0, (.ref 4)), (2, (.int p2))]) (fun (p15 : Int32) => [(.int p15)]) (fun (p15 : Int32) => h) ?_ (fun p15 => ?_)
          · refine hp_ic_gt hm at0 rfl (by exact trivial) (pc' := 111) rfl 11 rfl (tgt := 131) rfl (fun c17 => ?_) (fun c17 => ?_)
            · refine hp_b hm (at1 14 rfl) (L' := [(4, (.int v13)), (3, (.int a11)), (0, (.ref 4)), (1, (.int x1)), (2, (.int p2))]) (st' := [(.int (0 : Int32))]) rfl (by exact trivial) (pc' := 132) rfl ?_
              exact hp_lf [2, 4] rfl (fun _ e => e)
            · refine hp_cVP (M2 := M_By_u2) hm (at1 15 rfl) (as := [(.int ((rdI h 4 20) + v13))]) (rest := []) (z := 5) rfl (by exact ⟨og_4, og_4⟩) (pc' := 125) rfl 9 rfl (lw_g (lw_at lw_m4 75 rfl) rfl) y_By_u2 rfl (d2 := 2) ⟨le_b rfl, pd_By_u2, le_b rfl⟩ (le_b rfl) og_5 (k_By_u2 5 ((rdI h 4 20) + v13) h og_5) (fun a16 => ?_)
              refine hp_goto hm 10 rfl (tgt := 132) rfl ?_
              exact hp_lf [2, 4] rfl (fun _ e => e)
          · refine hp_b hm (at1 16 rfl) (L' := [(5, (.int p15)), (0, (.ref 4)), (2, (.int p2))]) (st' := [(.int p15)]) rfl (by exact trivial) (pc' := 136) rfl ?_
            refine hp_if_ne hm at0 rfl (by exact trivial) (pc' := 136) rfl 15 rfl (tgt := 143) rfl (fun c19 => ?_) (fun c19 => ?_)
            · refine hp_cVP (M2 := M_Fo_deltaOf) hm (at1 17 rfl) (as := [(.int p2)]) (rest := [(.int p15)]) (z := 4) rfl (by exact trivial) (pc' := 147) rfl 12 rfl (lw_g (lw_at lw_m5 46 rfl) rfl) y_Fo_deltaOf rfl (d2 := 3) ⟨le_b rfl, pd_Fo_deltaOf, le_b rfl⟩ (le_b rfl) og_4 (k_Fo_deltaOf p2 h) (fun a18 => ?_)
              refine hp_b hm (at1 18 rfl) (L' := [(5, (.int p15)), (0, (.ref 4)), (2, (.int p2))]) (st' := [(.long (Int32.toInt64 ((p15 + a18) &&& (65535 : Int32))))]) rfl (by exact trivial) (pc' := 156) rfl ?_
              exact hp_lr hm at0 rfl (by exact trivial) (pc' := 156) rfl 13 rfl rfl (fun _ e => e)
            · refine hp_b hm (at1 19 rfl) (L' := [(5, (.int p15)), (0, (.ref 4)), (2, (.int p2))]) (st' := [(.long (0 : Int64))]) rfl (by exact trivial) (pc' := 140) rfl ?_
              refine hp_goto hm 14 rfl (tgt := 156) rfl ?_
              exact hp_lr hm at0 rfl (by exact trivial) (pc' := 156) rfl 13 rfl rfl (fun _ e => e)
        · refine hp_cVP (M2 := M_Fo_deltaOf) hm (at1 20 rfl) (as := [(.int p2)]) (rest := [(.int x1)]) (z := 4) rfl (by exact trivial) (pc' := 57) rfl 16 rfl (lw_g (lw_at lw_m5 46 rfl) rfl) y_Fo_deltaOf rfl (d2 := 3) ⟨le_b rfl, pd_Fo_deltaOf, le_b rfl⟩ (le_b rfl) og_4 (k_Fo_deltaOf p2 h) (fun a20 => ?_)
          exact hp_lr hm (at1 21 rfl) rfl (by exact trivial) (pc' := 66) rfl 17 rfl rfl (fun _ e => e)
      · exact hp_lr hm (at1 6 rfl) rfl (by exact trivial) (pc' := 43) rfl 4 rfl rfl (fun _ e => e)
/-! HintHouse$Font.group(I)J -/
def M_Fo_group : hM := (2, ⟨"HintHouse$Font", "group", "(I)J"⟩, prog_3_method_32_code, 4, (Option.some Jvm.ClassFile.FieldType.long), [], [(0, [(.iconst 0, 1, 0, 0, 0, (.int (0 : Int32))), (.istore_n 2, 1, 0, 0, 0, .null)]), (2, [(.iload_n 2, 1, 0, 0, 0, .null), (.aload_n 0, 1, 0, 0, 0, .null), (.getfield 253, 3, 2, 22, 0, .null)]), (10, [(.aload_n 0, 1, 0, 0, 0, .null), (.getfield 240, 3, 2, 20, 0, .null), (.bipush 16, 2, 0, 0, 0, (.int (16 : Int32))), (.iadd, 1, 0, 0, 0, .null), (.bipush 12, 2, 0, 0, 0, (.int (12 : Int32))), (.iload_n 2, 1, 0, 0, 0, .null), (.imul, 1, 0, 0, 0, .null), (.iadd, 1, 0, 0, 0, .null), (.istore_n 3, 1, 0, 0, 0, .null)]), (23, [(.aload_n 0, 1, 0, 0, 0, .null), (.getfield 12, 3, 2, 0, 4, .null), (.iload_n 3, 1, 0, 0, 0, .null)]), (31, [(.iload_n 1, 1, 0, 0, 0, .null), (.i2l, 1, 0, 0, 0, .null), (.lcmp, 1, 0, 0, 0, .null)]), (37, [(.iload_n 1, 1, 0, 0, 0, .null), (.i2l, 1, 0, 0, 0, .null), (.aload_n 0, 1, 0, 0, 0, .null), (.getfield 12, 3, 2, 0, 4, .null), (.iload_n 3, 1, 0, 0, 0, .null), (.iconst 4, 1, 0, 0, 0, (.int (4 : Int32))), (.iadd, 1, 0, 0, 0, .null)]), (49, [(.lcmp, 1, 0, 0, 0, .null)]), (53, [(.aload_n 0, 1, 0, 0, 0, .null), (.getfield 12, 3, 2, 0, 4, .null), (.iload_n 3, 1, 0, 0, 0, .null), (.bipush 8, 2, 0, 0, 0, (.int (8 : Int32))), (.iadd, 1, 0, 0, 0, .null)]), (64, [(.iload_n 1, 1, 0, 0, 0, .null), (.i2l, 1, 0, 0, 0, .null), (.ladd, 1, 0, 0, 0, .null), (.aload_n 0, 1, 0, 0, 0, .null), (.getfield 12, 3, 2, 0, 4, .null), (.iload_n 3, 1, 0, 0, 0, .null)]), (75, [(.lsub, 1, 0, 0, 0, .null)]), (77, [(.iinc 2 1, 3, 0, 0, 0, (.int (1 : Int32)))]), (83, [(.lconst 0, 1, 0, 0, 0, (.long (0 : Int64)))])], [(28, .invokevirtual 137, 3), (46, .invokevirtual 137, 3), (50, .ifCond .gt 27, 3), (34, .ifCond .gt 43, 3), (61, .invokevirtual 137, 3), (72, .invokevirtual 137, 3), (76, .lreturn, 1), (80, .goto (-78), 3), (7, .if_icmp .ge 76, 3), (84, .lreturn, 1)])
set_option maxRecDepth 100000 in
theorem m_Fo_group : hx_mok M_Fo_group = true := by decide +kernel
theorem pd_Fo_group : (parseMethodDescriptor M_Fo_group.2.1.desc).map (fun q => q.parameters.length) = some 1 := by decide +kernel
theorem y_Fo_group : hx_okV M_Fo_group := ⟨⟨lw_g (lw_at lw_m5 53 rfl) rfl, lw_g (lw_at lw_m5 52 rfl) rfl, qs34, lw_g (lw_at lw_m1 3 rfl) rfl, rfl, by decide, by decide, by decide⟩, rfl, by decide, plainFor_of_name (by decide)⟩
noncomputable def f_Fo_group (x1 : Int32) (h : hH) : Option Int64 :=
  bE (P := Unit) (X := Int64) (
    wh (A := Int32) (B := (Unit ⊕ Int64)) (fun p1 =>
        if (rdI h 4 22) ≤ p1 then (
          some (.inr (.inl ()))
        ) else (
          lz (A := Int32) (((rdI h 4 20) + (16 : Int32)) + ((12 : Int32) * p1)) fun v3 =>
          bP (f_By_u4 5 v3 h) fun a4 =>
          cO (
            if (Int32.toInt64 x1) < a4 then (
              some false
            ) else (
              bP (f_By_u4 5 (v3 + (4 : Int32)) h) fun a5 =>
              if a5 < (Int32.toInt64 x1) then (
                some false
              ) else (
                some true
              )
            )
          ) (
            bP (f_By_u4 5 (v3 + (8 : Int32)) h) fun a11 =>
            bP (f_By_u4 5 v3 h) fun a12 =>
            some (.inr (.inr ((a11 + (Int32.toInt64 x1)) - a12)))
          ) (
            lz (A := Int32) (p1 + (1 : Int32)) fun v13 =>
            some (.inl v13)
          )
        )
    ) (0 : Int32)
  ) fun p2 =>
  some (0 : Int64)
set_option maxRecDepth 20000 in
theorem k_Fo_group (x1 : Int32) (h : hH) : hx_kP S0 M_Fo_group 4 NT [(.ref 4), (.int x1)] h (f_Fo_group x1 h) cvL := by
  have hm := m_Fo_group
  show hx_P S0 M_Fo_group 4 0 [(0, (.ref 4)), (1, (.int x1))] [] NT h (f_Fo_group x1 h) (hx_Rp cvL NT h)
  unfold f_Fo_group
  refine hp_b hm (at1 0 rfl) (L' := [(2, (.int (0 : Int32))), (0, (.ref 4)), (1, (.int x1))]) (st' := []) rfl (by exact trivial) (pc' := 2) rfl ?_
  refine hp_E 83 (fun (p2 : Unit) => []) (fun (p2 : Unit) => []) (fun (p2 : Unit) => h) ?_ (fun p2 => ?_)
  · refine hp_s [1, 2, 0] rfl (L' := [(0, (.ref 4)), (1, (.int x1)), (2, (.int (0 : Int32)))]) ?_
    refine hp_wh (fun (p1 : Int32) => [(0, (.ref 4)), (1, (.int x1)), (2, (.int p1))]) [] (fun (p1 : Int32) => h) (fun p1 => ?_) (0 : Int32)
    refine hp_ic_ge hm (at1 1 rfl) rfl (by exact og_4) (pc' := 7) rfl 8 rfl (tgt := 83) rfl (fun c14 => ?_) (fun c14 => ?_)
    · exact hp_lf [] rfl (fun _ e => e)
    · refine hp_z hm (at1 2 rfl) (fun (v3 : Int32) => [(3, (.int v3)), (0, (.ref 4)), (1, (.int x1)), (2, (.int p1))]) (fun (v3 : Int32) => []) rfl (by exact og_4) (pc' := 23) rfl (fun v3 => ?_)
      refine hp_cVP (M2 := M_By_u4) hm (at1 3 rfl) (as := [(.int v3)]) (rest := []) (z := 5) rfl (by exact og_4) (pc' := 28) rfl 0 rfl (lw_g (lw_at lw_m4 62 rfl) rfl) y_By_u4 rfl (d2 := 3) ⟨le_b rfl, pd_By_u4, le_b rfl⟩ (le_b rfl) og_5 (k_By_u4 5 v3 h og_5) (fun a4 => ?_)
      refine hp_cO (L0 := [(3, (.int v3)), (0, (.ref 4)), (1, (.int x1)), (2, (.int p1))]) (s0 := []) 53 77 ?_ ?_ ?_
      · refine hp_lc_gt hm (at1 4 rfl) rfl (by exact trivial) (pc' := 34) rfl 3 rfl (tgt := 77) rfl (fun c7 => ?_) (fun c7 => ?_)
        · exact hp_l0 (fun _ e => e)
        · refine hp_cVP (M2 := M_By_u4) hm (at1 5 rfl) (as := [(.int (v3 + (4 : Int32)))]) (rest := [(.long (Int32.toInt64 x1))]) (z := 5) rfl (by exact og_4) (pc' := 46) rfl 1 rfl (lw_g (lw_at lw_m4 62 rfl) rfl) y_By_u4 rfl (d2 := 3) ⟨le_b rfl, pd_By_u4, le_b rfl⟩ (le_b rfl) og_5 (k_By_u4 5 (v3 + (4 : Int32)) h og_5) (fun a5 => ?_)
          refine hp_lc_gt hm (at1 6 rfl) rfl (by exact trivial) (pc' := 50) rfl 2 rfl (tgt := 77) rfl (fun c6 => ?_) (fun c6 => ?_)
          · exact hp_l0 (fun _ e => e)
          · exact hp_l0 (fun _ e => e)
      · refine hp_cVP (M2 := M_By_u4) hm (at1 7 rfl) (as := [(.int (v3 + (8 : Int32)))]) (rest := []) (z := 5) rfl (by exact og_4) (pc' := 61) rfl 4 rfl (lw_g (lw_at lw_m4 62 rfl) rfl) y_By_u4 rfl (d2 := 3) ⟨le_b rfl, pd_By_u4, le_b rfl⟩ (le_b rfl) og_5 (k_By_u4 5 (v3 + (8 : Int32)) h og_5) (fun a11 => ?_)
        refine hp_cVP (M2 := M_By_u4) hm (at1 8 rfl) (as := [(.int v3)]) (rest := [(.long (a11 + (Int32.toInt64 x1)))]) (z := 5) rfl (by exact og_4) (pc' := 72) rfl 5 rfl (lw_g (lw_at lw_m4 62 rfl) rfl) y_By_u4 rfl (d2 := 3) ⟨le_b rfl, pd_By_u4, le_b rfl⟩ (le_b rfl) og_5 (k_By_u4 5 v3 h og_5) (fun a12 => ?_)
        exact hp_lr hm (at1 9 rfl) rfl (by exact trivial) (pc' := 76) rfl 6 rfl rfl (fun _ e => e)
      · refine hp_z hm (at1 10 rfl) (fun (v13 : Int32) => [(2, (.int v13)), (3, (.int v3)), (0, (.ref 4)), (1, (.int x1))]) (fun (v13 : Int32) => []) rfl (by exact trivial) (pc' := 80) rfl (fun v13 => ?_)
        refine hp_goto hm 7 rfl (tgt := 2) rfl ?_
        exact hp_lf [2, 3, 0] rfl (fun _ e => e)
  · exact hp_lr hm (at1 11 rfl) rfl (by exact trivial) (pc' := 84) rfl 9 rfl rfl (fun _ e => e)
/-! HintHouse$Font.glyphOf(I)I -/
def M_Fo_glyphOf : hM := (2, ⟨"HintHouse$Font", "glyphOf", "(I)I"⟩, prog_3_method_29_code, 4, (Option.some Jvm.ClassFile.FieldType.int), [], [(0, [(.aload_n 0, 1, 0, 0, 0, .null), (.getfield 237, 3, 2, 21, 0, .null)]), (15, [(.aload_n 0, 1, 0, 0, 0, .null), (.getfield 237, 3, 2, 21, 0, .null), (.iconst 4, 1, 0, 0, 0, (.int (4 : Int32)))]), (31, [(.aload_n 0, 1, 0, 0, 0, .null), (.iload_n 1, 1, 0, 0, 0, .null)]), (23, [(.aload_n 0, 1, 0, 0, 0, .null), (.iload_n 1, 1, 0, 0, 0, .null)]), (7, [(.aload_n 0, 1, 0, 0, 0, .null), (.iload_n 1, 1, 0, 0, 0, .null)]), (36, [(.lstore_n 2, 1, 0, 0, 0, .null), (.lload_n 2, 1, 0, 0, 0, .null), (.aload_n 0, 1, 0, 0, 0, .null), (.getfield 109, 3, 2, 8, 0, .null), (.i2l, 1, 0, 0, 0, .null), (.lcmp, 1, 0, 0, 0, .null)]), (52, [(.iconst 0, 1, 0, 0, 0, (.int (0 : Int32)))]), (47, [(.lload_n 2, 1, 0, 0, 0, .null), (.l2i, 1, 0, 0, 0, .null)])], [(33, .invokevirtual 278, 3), (25, .invokevirtual 275, 3), (28, .goto 8, 3), (20, .if_icmp .ne 11, 3), (9, .invokevirtual 272, 3), (12, .goto 24, 3), (4, .ifCond .ne 11, 3), (53, .ireturn, 1), (49, .goto 4, 3), (44, .ifCond .ge 8, 3)])
set_option maxRecDepth 100000 in
theorem m_Fo_glyphOf : hx_mok M_Fo_glyphOf = true := by decide +kernel
theorem pd_Fo_glyphOf : (parseMethodDescriptor M_Fo_glyphOf.2.1.desc).map (fun q => q.parameters.length) = some 1 := by decide +kernel
theorem y_Fo_glyphOf : hx_okV M_Fo_glyphOf := ⟨⟨lw_g (lw_at lw_m5 36 rfl) rfl, lw_g (lw_at lw_m5 34 rfl) rfl, lw_g (lw_at lw_m5 35 rfl) rfl, lw_g (lw_at lw_m1 3 rfl) rfl, rfl, by decide, by decide, by decide⟩, rfl, by decide, plainFor_of_name (by decide)⟩
noncomputable def f_Fo_glyphOf (x1 : Int32) (h : hH) : Option Int32 :=
  bP (A := Int64) (
    if (rdI h 4 21) = 0 then (
      bP (f_Fo_plain x1 h) fun a5 =>
      some a5
    ) else (
      if (rdI h 4 21) = (4 : Int32) then (
        bP (f_Fo_segment x1 h) fun a3 =>
        some a3
      ) else (
        bP (f_Fo_group x1 h) fun a2 =>
        some a2
      )
    )
  ) fun p1 =>
  if (Int32.toInt64 (rdI h 4 8)) ≤ p1 then (
    some (0 : Int32)
  ) else (
    some (Int64.toInt32 p1)
  )
set_option maxRecDepth 20000 in
theorem k_Fo_glyphOf (x1 : Int32) (h : hH) : hx_kP S0 M_Fo_glyphOf 5 NT [(.ref 4), (.int x1)] h (f_Fo_glyphOf x1 h) cvI := by
  have hm := m_Fo_glyphOf
  show hx_P S0 M_Fo_glyphOf 5 0 [(0, (.ref 4)), (1, (.int x1))] [] NT h (f_Fo_glyphOf x1 h) (hx_Rp cvI NT h)
  unfold f_Fo_glyphOf
  refine hp_J 36 (fun (p1 : Int64) => [(0, (.ref 4))]) (fun (p1 : Int64) => [(.long p1)]) (fun (p1 : Int64) => h) ?_ (fun p1 => ?_)
  · refine hp_if_ne hm (at1 0 rfl) rfl (by exact og_4) (pc' := 4) rfl 6 rfl (tgt := 15) rfl (fun c6 => ?_) (fun c6 => ?_)
    · refine hp_ic_ne hm (at1 1 rfl) rfl (by exact og_4) (pc' := 20) rfl 3 rfl (tgt := 31) rfl (fun c4 => ?_) (fun c4 => ?_)
      · refine hp_cVP (M2 := M_Fo_group) hm (at1 2 rfl) (as := [(.int x1)]) (rest := []) (z := 4) rfl (by exact trivial) (pc' := 33) rfl 0 rfl (lw_g (lw_at lw_m5 50 rfl) rfl) y_Fo_group rfl (d2 := 4) ⟨le_b rfl, pd_Fo_group, le_b rfl⟩ (le_b rfl) og_4 (k_Fo_group x1 h) (fun a2 => ?_)
        exact hp_lf [0] rfl (fun _ e => e)
      · refine hp_cVP (M2 := M_Fo_segment) hm (at1 3 rfl) (as := [(.int x1)]) (rest := []) (z := 4) rfl (by exact trivial) (pc' := 25) rfl 1 rfl (lw_g (lw_at lw_m5 42 rfl) rfl) y_Fo_segment rfl (d2 := 4) ⟨le_b rfl, pd_Fo_segment, le_b rfl⟩ (le_b rfl) og_4 (k_Fo_segment x1 h) (fun a3 => ?_)
        refine hp_goto hm 2 rfl (tgt := 36) rfl ?_
        exact hp_lf [0] rfl (fun _ e => e)
    · refine hp_cVP (M2 := M_Fo_plain) hm (at1 4 rfl) (as := [(.int x1)]) (rest := []) (z := 4) rfl (by exact trivial) (pc' := 9) rfl 4 rfl (lw_g (lw_at lw_m5 37 rfl) rfl) y_Fo_plain rfl (d2 := 2) ⟨le_b rfl, pd_Fo_plain, le_b rfl⟩ (le_b rfl) og_4 (k_Fo_plain x1 h) (fun a5 => ?_)
      refine hp_goto hm 5 rfl (tgt := 36) rfl ?_
      exact hp_lf [0] rfl (fun _ e => e)
  · refine hp_b hm (at1 5 rfl) (L' := [(2, (.long p1)), (0, (.ref 4))]) (st' := [(.int (lg_cmp p1 (Int32.toInt64 (rdI h 4 8))))]) rfl (by exact og_4) (pc' := 44) rfl ?_
    refine hp_lc_ge hm at0 rfl (by exact trivial) (pc' := 44) rfl 9 rfl (tgt := 52) rfl (fun c7 => ?_) (fun c7 => ?_)
    · refine hp_b hm (at1 6 rfl) (L' := [(2, (.long p1)), (0, (.ref 4))]) (st' := [(.int (0 : Int32))]) rfl (by exact trivial) (pc' := 53) rfl ?_
      exact hp_ir hm at0 rfl (by exact trivial) (pc' := 53) rfl 7 rfl rfl (vp_nar_int _) (fun _ e => e)
    · refine hp_b hm (at1 7 rfl) (L' := [(2, (.long p1)), (0, (.ref 4))]) (st' := [(.int (Int64.toInt32 p1))]) rfl (by exact trivial) (pc' := 49) rfl ?_
      refine hp_goto hm 8 rfl (tgt := 53) rfl ?_
      exact hp_ir hm at0 rfl (by exact trivial) (pc' := 53) rfl 7 rfl rfl (vp_nar_int _) (fun _ e => e)
/-! HintHouse.glyphOf(I)I -/
def M_HH_glyphOf : hM := (0, ⟨"HintHouse", "glyphOf", "(I)I"⟩, prog_1_method_11_code, 2, (Option.some Jvm.ClassFile.FieldType.int), [], [(0, [(.aload_n 0, 1, 0, 0, 0, .null), (.getfield 111, 3, 0, 2, 1, .null)]), (12, [(.iload_n 1, 1, 0, 0, 0, .null), (.i2l, 1, 0, 0, 0, .null), (.lconst 0, 1, 0, 0, 0, (.long (0 : Int64))), (.ldc2_w 146, 3, 0, 0, 0, (.long (1114111 : Int64)))]), (35, [(.bipush (-2), 2, 0, 0, 0, (.int (-2 : Int32)))]), (24, [(.aload_n 0, 1, 0, 0, 0, .null), (.getfield 29, 3, 0, 1, 4, .null), (.iload_n 1, 1, 0, 0, 0, .null)]), (7, [(.bipush (-3), 2, 0, 0, 0, (.int (-3 : Int32)))])], [(18, .invokestatic 79, 3), (37, .ireturn, 1), (29, .invokevirtual 148, 3), (32, .goto 5, 3), (21, .ifCond .eq 14, 3), (9, .goto 28, 3), (4, .ifCond .ne 8, 3)])
set_option maxRecDepth 100000 in
theorem m_HH_glyphOf : hx_mok M_HH_glyphOf = true := by decide +kernel
theorem pd_HH_glyphOf : (parseMethodDescriptor M_HH_glyphOf.2.1.desc).map (fun q => q.parameters.length) = some 1 := by decide +kernel
theorem y_HH_glyphOf : hx_okV M_HH_glyphOf := ⟨⟨lw_g (lw_at lw_m5 31 rfl) rfl, lw_g (lw_at lw_m5 29 rfl) rfl, lw_g (lw_at lw_m5 30 rfl) rfl, lw_g (lw_at lw_m1 1 rfl) rfl, rfl, by decide, by decide, by decide⟩, rfl, by decide, plainFor_of_name (by decide)⟩
noncomputable def f_HH_glyphOf (x1 : Int32) (h : hH) : Option Int32 :=
  if (rdI h 1 2) = 0 then (
    some (-3 : Int32)
  ) else (
    bP (f_HH_within (Int32.toInt64 x1) (0 : Int64) (1114111 : Int64)) fun a1 =>
    if a1 = 0 then (
      some (-2 : Int32)
    ) else (
      bP (f_Fo_glyphOf x1 h) fun a2 =>
      some a2
    )
  )
set_option maxRecDepth 20000 in
theorem k_HH_glyphOf (x1 : Int32) (h : hH) : hx_kP S0 M_HH_glyphOf 6 NT [(.ref 1), (.int x1)] h (f_HH_glyphOf x1 h) cvI := by
  have hm := m_HH_glyphOf
  show hx_P S0 M_HH_glyphOf 6 0 [(0, (.ref 1)), (1, (.int x1))] [] NT h (f_HH_glyphOf x1 h) (hx_Rp cvI NT h)
  unfold f_HH_glyphOf
  refine hp_if_ne hm (at1 0 rfl) rfl (by exact og_1) (pc' := 4) rfl 6 rfl (tgt := 12) rfl (fun c4 => ?_) (fun c4 => ?_)
  · refine hp_cSP (M2 := M_HH_within) hm (at1 1 rfl) (as := [(.long (Int32.toInt64 x1)), (.long (0 : Int64)), (.long (1114111 : Int64))]) (rest := []) rfl (by exact trivial) (pc' := 18) rfl 0 rfl (lw_g (lw_at lw_m4 39 rfl) rfl) y_HH_within rfl (d2 := 1) ⟨le_b rfl, pd_HH_within, le_b rfl⟩ (le_b rfl) (k_HH_within (Int32.toInt64 x1) (0 : Int64) (1114111 : Int64) h) (fun a1 => ?_)
    refine hp_if_eq hm at0 rfl (by exact trivial) (pc' := 21) rfl 4 rfl (tgt := 35) rfl (fun c3 => ?_) (fun c3 => ?_)
    · refine hp_b hm (at1 2 rfl) (L' := [(0, (.ref 1)), (1, (.int x1))]) (st' := [(.int (-2 : Int32))]) rfl (by exact trivial) (pc' := 37) rfl ?_
      exact hp_ir hm at0 rfl (by exact trivial) (pc' := 37) rfl 1 rfl rfl (vp_nar_int _) (fun _ e => e)
    · refine hp_cVP (M2 := M_Fo_glyphOf) hm (at1 3 rfl) (as := [(.int x1)]) (rest := []) (z := 4) rfl (by exact og_1) (pc' := 29) rfl 2 rfl (lw_g (lw_at lw_m5 33 rfl) rfl) y_Fo_glyphOf rfl (d2 := 5) ⟨le_b rfl, pd_Fo_glyphOf, le_b rfl⟩ (le_b rfl) og_4 (k_Fo_glyphOf x1 h) (fun a2 => ?_)
      refine hp_goto hm 3 rfl (tgt := 37) rfl ?_
      exact hp_ir hm at0 rfl (by exact trivial) (pc' := 37) rfl 1 rfl rfl (vp_nar_int _) (fun _ e => e)
  · refine hp_b hm (at1 4 rfl) (L' := [(0, (.ref 1)), (1, (.int x1))]) (st' := [(.int (-3 : Int32))]) rfl (by exact trivial) (pc' := 9) rfl ?_
    refine hp_goto hm 5 rfl (tgt := 37) rfl ?_
    exact hp_ir hm at0 rfl (by exact trivial) (pc' := 37) rfl 1 rfl rfl (vp_nar_int _) (fun _ e => e)
/-! HintHouse.isGlyph(I)Z -/
def M_HH_isGlyph : hM := (0, ⟨"HintHouse", "isGlyph", "(I)Z"⟩, prog_1_method_12_code, 2, (Option.some Jvm.ClassFile.FieldType.boolean), [], [(0, [(.iload_n 1, 1, 0, 0, 0, .null), (.i2l, 1, 0, 0, 0, .null), (.lconst 0, 1, 0, 0, 0, (.long (0 : Int64))), (.aload_n 0, 1, 0, 0, 0, .null), (.getfield 29, 3, 0, 1, 4, .null), (.getfield 115, 3, 2, 8, 0, .null), (.iconst 1, 1, 0, 0, 0, (.int (1 : Int32))), (.isub, 1, 0, 0, 0, .null), (.i2l, 1, 0, 0, 0, .null)])], [(13, .invokestatic 79, 3), (16, .ireturn, 1)])
set_option maxRecDepth 100000 in
theorem m_HH_isGlyph : hx_mok M_HH_isGlyph = true := by decide +kernel
theorem pd_HH_isGlyph : (parseMethodDescriptor M_HH_isGlyph.2.1.desc).map (fun q => q.parameters.length) = some 1 := by decide +kernel
theorem y_HH_isGlyph : hx_okV M_HH_isGlyph := ⟨⟨lw_g (lw_at lw_m5 61 rfl) rfl, lw_g (lw_at lw_m5 60 rfl) rfl, qs35, lw_g (lw_at lw_m1 1 rfl) rfl, rfl, by decide, by decide, by decide⟩, rfl, by decide, plainFor_of_name (by decide)⟩
noncomputable def f_HH_isGlyph (x1 : Int32) (h : hH) : Option Int32 :=
  bP (f_HH_within (Int32.toInt64 x1) (0 : Int64) (Int32.toInt64 ((rdI h 4 8) - (1 : Int32)))) fun a1 =>
  gd ((a1 = 0 ∨ a1 = 1)) <|
  some a1
set_option maxRecDepth 20000 in
theorem k_HH_isGlyph (x1 : Int32) (h : hH) : hx_kP S0 M_HH_isGlyph 2 NT [(.ref 1), (.int x1)] h (f_HH_isGlyph x1 h) cvI := by
  have hm := m_HH_isGlyph
  show hx_P S0 M_HH_isGlyph 2 0 [(0, (.ref 1)), (1, (.int x1))] [] NT h (f_HH_isGlyph x1 h) (hx_Rp cvI NT h)
  unfold f_HH_isGlyph
  refine hp_cSP (M2 := M_HH_within) hm (at1 0 rfl) (as := [(.long (Int32.toInt64 x1)), (.long (0 : Int64)), (.long (Int32.toInt64 ((rdI h 4 8) - (1 : Int32))))]) (rest := []) rfl (by exact ⟨og_1, og_4⟩) (pc' := 13) rfl 0 rfl (lw_g (lw_at lw_m4 39 rfl) rfl) y_HH_within rfl (d2 := 1) ⟨le_b rfl, pd_HH_within, le_b rfl⟩ (le_b rfl) (k_HH_within (Int32.toInt64 x1) (0 : Int64) (Int32.toInt64 ((rdI h 4 8) - (1 : Int32))) h) (fun a1 => ?_)
  refine hp_G0 (fun q2 => ?_)
  exact hp_ir hm at0 rfl (by exact trivial) (pc' := 16) rfl 1 rfl rfl (nar01 q2) (fun _ e => e)
/-! java/lang/Math.min(II)I -/
def M_JM_min_2 : hM := (12, ⟨"java/lang/Math", "min", "(II)I"⟩, prog_16_method_69_code, 2, (Option.some Jvm.ClassFile.FieldType.int), [], [(0, [(.iload_n 0, 1, 0, 0, 0, .null), (.iload_n 1, 1, 0, 0, 0, .null)]), (9, [(.iload_n 1, 1, 0, 0, 0, .null)]), (5, [(.iload_n 0, 1, 0, 0, 0, .null)])], [(10, .ireturn, 1), (6, .goto 4, 3), (2, .if_icmp .gt 7, 3)])
set_option maxRecDepth 100000 in
theorem m_JM_min_2 : hx_mok M_JM_min_2 = true := by decide +kernel
theorem pd_JM_min_2 : (parseMethodDescriptor M_JM_min_2.2.1.desc).map (fun q => q.parameters.length) = some 2 := by decide +kernel
theorem y_JM_min_2 : hx_okS M_JM_min_2 := ⟨⟨lw_g (lw_at lw_m5 69 rfl) rfl, lw_g (lw_at lw_m5 68 rfl) rfl, lw_g (lw_at lw_m1 13 rfl) rfl, by decide, by decide⟩, rfl, by decide, by decide +kernel, rfl⟩
noncomputable def f_JM_min_2 (x1 : Int32) (x2 : Int32) : Option Int32 :=
  if x2 < x1 then (
    some x2
  ) else (
    some x1
  )
set_option maxRecDepth 20000 in
theorem k_JM_min_2 (x1 : Int32) (x2 : Int32) (h : hH) : hx_kP S0 M_JM_min_2 1 NT [(.int x1), (.int x2)] h (f_JM_min_2 x1 x2) cvI := by
  have hm := m_JM_min_2
  show hx_P S0 M_JM_min_2 1 0 [(0, (.int x1)), (1, (.int x2))] [] NT h (f_JM_min_2 x1 x2) (hx_Rp cvI NT h)
  unfold f_JM_min_2
  refine hp_ic_gt hm (at1 0 rfl) rfl (by exact trivial) (pc' := 2) rfl 2 rfl (tgt := 9) rfl (fun c1 => ?_) (fun c1 => ?_)
  · refine hp_b hm (at1 1 rfl) (L' := [(0, (.int x1)), (1, (.int x2))]) (st' := [(.int x2)]) rfl (by exact trivial) (pc' := 10) rfl ?_
    exact hp_ir hm at0 rfl (by exact trivial) (pc' := 10) rfl 0 rfl rfl (vp_nar_int _) (fun _ e => e)
  · refine hp_b hm (at1 2 rfl) (L' := [(0, (.int x1)), (1, (.int x2))]) (st' := [(.int x1)]) rfl (by exact trivial) (pc' := 6) rfl ?_
    refine hp_goto hm 1 rfl (tgt := 10) rfl ?_
    exact hp_ir hm at0 rfl (by exact trivial) (pc' := 10) rfl 0 rfl rfl (vp_nar_int _) (fun _ e => e)
/-! HintHouse$Font.advance(I)I -/
def M_Fo_advance : hM := (2, ⟨"HintHouse$Font", "advance", "(I)I"⟩, prog_3_method_18_code, 2, (Option.some Jvm.ClassFile.FieldType.int), [], [(0, [(.aload_n 0, 1, 0, 0, 0, .null), (.getfield 12, 3, 2, 0, 4, .null), (.aload_n 0, 1, 0, 0, 0, .null), (.getfield 116, 3, 2, 17, 0, .null), (.iconst 4, 1, 0, 0, 0, (.int (4 : Int32))), (.iload_n 1, 1, 0, 0, 0, .null), (.aload_n 0, 1, 0, 0, 0, .null), (.getfield 106, 3, 2, 16, 0, .null), (.iconst 1, 1, 0, 0, 0, (.int (1 : Int32))), (.isub, 1, 0, 0, 0, .null)]), (19, [(.imul, 1, 0, 0, 0, .null), (.iadd, 1, 0, 0, 0, .null)])], [(16, .invokestatic 227, 3), (21, .invokevirtual 102, 3), (24, .ireturn, 1)])
set_option maxRecDepth 100000 in
theorem m_Fo_advance : hx_mok M_Fo_advance = true := by decide +kernel
theorem pd_Fo_advance : (parseMethodDescriptor M_Fo_advance.2.1.desc).map (fun q => q.parameters.length) = some 1 := by decide +kernel
theorem y_Fo_advance : hx_okV M_Fo_advance := ⟨⟨lw_g (lw_at lw_m5 66 rfl) rfl, lw_g (lw_at lw_m5 64 rfl) rfl, lw_g (lw_at lw_m5 65 rfl) rfl, lw_g (lw_at lw_m1 3 rfl) rfl, rfl, by decide, by decide, by decide⟩, rfl, by decide, plainFor_of_name (by decide)⟩
noncomputable def f_Fo_advance (x1 : Int32) (h : hH) : Option Int32 :=
  bP (f_JM_min_2 x1 ((rdI h 4 16) - (1 : Int32))) fun a1 =>
  bP (f_By_u2 5 ((rdI h 4 17) + ((4 : Int32) * a1)) h) fun a2 =>
  some a2
set_option maxRecDepth 20000 in
theorem k_Fo_advance (x1 : Int32) (h : hH) : hx_kP S0 M_Fo_advance 3 NT [(.ref 4), (.int x1)] h (f_Fo_advance x1 h) cvI := by
  have hm := m_Fo_advance
  show hx_P S0 M_Fo_advance 3 0 [(0, (.ref 4)), (1, (.int x1))] [] NT h (f_Fo_advance x1 h) (hx_Rp cvI NT h)
  unfold f_Fo_advance
  refine hp_cSP (M2 := M_JM_min_2) hm (at1 0 rfl) (as := [(.int x1), (.int ((rdI h 4 16) - (1 : Int32)))]) (rest := [(.int (4 : Int32)), (.int (rdI h 4 17)), (.ref 5)]) rfl (by exact ⟨⟨og_4, og_4⟩, og_4⟩) (pc' := 16) rfl 0 rfl (lw_g (lw_at lw_m5 67 rfl) rfl) y_JM_min_2 rfl (d2 := 1) ⟨le_b rfl, pd_JM_min_2, le_b rfl⟩ (le_b rfl) (k_JM_min_2 x1 ((rdI h 4 16) - (1 : Int32)) h) (fun a1 => ?_)
  refine hp_cVP (M2 := M_By_u2) hm (at1 1 rfl) (as := [(.int ((rdI h 4 17) + ((4 : Int32) * a1)))]) (rest := []) (z := 5) rfl (by exact trivial) (pc' := 21) rfl 1 rfl (lw_g (lw_at lw_m4 75 rfl) rfl) y_By_u2 rfl (d2 := 2) ⟨le_b rfl, pd_By_u2, le_b rfl⟩ (le_b rfl) og_5 (k_By_u2 5 ((rdI h 4 17) + ((4 : Int32) * a1)) h og_5) (fun a2 => ?_)
  exact hp_ir hm at0 rfl (by exact trivial) (pc' := 24) rfl 2 rfl rfl (vp_nar_int _) (fun _ e => e)
/-! HintHouse$Font.bearing(I)I -/
def M_Fo_bearing : hM := (2, ⟨"HintHouse$Font", "bearing", "(I)I"⟩, prog_3_method_19_code, 2, (Option.some Jvm.ClassFile.FieldType.int), [], [(0, [(.iload_n 1, 1, 0, 0, 0, .null), (.aload_n 0, 1, 0, 0, 0, .null), (.getfield 106, 3, 2, 16, 0, .null)]), (28, [(.aload_n 0, 1, 0, 0, 0, .null), (.getfield 12, 3, 2, 0, 4, .null), (.aload_n 0, 1, 0, 0, 0, .null), (.getfield 116, 3, 2, 17, 0, .null), (.iconst 4, 1, 0, 0, 0, (.int (4 : Int32))), (.aload_n 0, 1, 0, 0, 0, .null), (.getfield 106, 3, 2, 16, 0, .null), (.imul, 1, 0, 0, 0, .null), (.iadd, 1, 0, 0, 0, .null), (.iconst 2, 1, 0, 0, 0, (.int (2 : Int32))), (.iload_n 1, 1, 0, 0, 0, .null), (.aload_n 0, 1, 0, 0, 0, .null), (.getfield 106, 3, 2, 16, 0, .null), (.isub, 1, 0, 0, 0, .null), (.imul, 1, 0, 0, 0, .null), (.iadd, 1, 0, 0, 0, .null)]), (8, [(.aload_n 0, 1, 0, 0, 0, .null), (.getfield 12, 3, 2, 0, 4, .null), (.aload_n 0, 1, 0, 0, 0, .null), (.getfield 116, 3, 2, 17, 0, .null), (.iconst 4, 1, 0, 0, 0, (.int (4 : Int32))), (.iload_n 1, 1, 0, 0, 0, .null), (.imul, 1, 0, 0, 0, .null), (.iadd, 1, 0, 0, 0, .null), (.iconst 2, 1, 0, 0, 0, (.int (2 : Int32))), (.iadd, 1, 0, 0, 0, .null)])], [(52, .invokevirtual 230, 3), (55, .ireturn, 1), (22, .invokevirtual 230, 3), (25, .goto 30, 3), (5, .if_icmp .ge 23, 3)])
set_option maxRecDepth 100000 in
theorem m_Fo_bearing : hx_mok M_Fo_bearing = true := by decide +kernel
theorem pd_Fo_bearing : (parseMethodDescriptor M_Fo_bearing.2.1.desc).map (fun q => q.parameters.length) = some 1 := by decide +kernel
theorem y_Fo_bearing : hx_okV M_Fo_bearing := ⟨⟨lw_g (lw_at lw_m5 73 rfl) rfl, lw_g (lw_at lw_m5 71 rfl) rfl, lw_g (lw_at lw_m5 72 rfl) rfl, lw_g (lw_at lw_m1 3 rfl) rfl, rfl, by decide, by decide, by decide⟩, rfl, by decide, plainFor_of_name (by decide)⟩
noncomputable def f_Fo_bearing (x1 : Int32) (h : hH) : Option Int32 :=
  if (rdI h 4 16) ≤ x1 then (
    bP (f_By_s2 5 (((rdI h 4 17) + ((4 : Int32) * (rdI h 4 16))) + ((2 : Int32) * (x1 - (rdI h 4 16)))) h) fun a1 =>
    some a1
  ) else (
    bP (f_By_s2 5 (((rdI h 4 17) + ((4 : Int32) * x1)) + (2 : Int32)) h) fun a2 =>
    some a2
  )
set_option maxRecDepth 20000 in
theorem k_Fo_bearing (x1 : Int32) (h : hH) : hx_kP S0 M_Fo_bearing 4 NT [(.ref 4), (.int x1)] h (f_Fo_bearing x1 h) cvI := by
  have hm := m_Fo_bearing
  show hx_P S0 M_Fo_bearing 4 0 [(0, (.ref 4)), (1, (.int x1))] [] NT h (f_Fo_bearing x1 h) (hx_Rp cvI NT h)
  unfold f_Fo_bearing
  refine hp_ic_ge hm (at1 0 rfl) rfl (by exact og_4) (pc' := 5) rfl 4 rfl (tgt := 28) rfl (fun c3 => ?_) (fun c3 => ?_)
  · refine hp_cVP (M2 := M_By_s2) hm (at1 1 rfl) (as := [(.int (((rdI h 4 17) + ((4 : Int32) * (rdI h 4 16))) + ((2 : Int32) * (x1 - (rdI h 4 16)))))]) (rest := []) (z := 5) rfl (by exact ⟨⟨⟨og_4, og_4⟩, og_4⟩, og_4⟩) (pc' := 52) rfl 0 rfl (lw_g (lw_at lw_m5 74 rfl) rfl) y_By_s2 rfl (d2 := 3) ⟨le_b rfl, pd_By_s2, le_b rfl⟩ (le_b rfl) og_5 (k_By_s2 5 (((rdI h 4 17) + ((4 : Int32) * (rdI h 4 16))) + ((2 : Int32) * (x1 - (rdI h 4 16)))) h og_5) (fun a1 => ?_)
    exact hp_ir hm at0 rfl (by exact trivial) (pc' := 55) rfl 1 rfl rfl (vp_nar_int _) (fun _ e => e)
  · refine hp_cVP (M2 := M_By_s2) hm (at1 2 rfl) (as := [(.int (((rdI h 4 17) + ((4 : Int32) * x1)) + (2 : Int32)))]) (rest := []) (z := 5) rfl (by exact ⟨og_4, og_4⟩) (pc' := 22) rfl 2 rfl (lw_g (lw_at lw_m5 74 rfl) rfl) y_By_s2 rfl (d2 := 3) ⟨le_b rfl, pd_By_s2, le_b rfl⟩ (le_b rfl) og_5 (k_By_s2 5 (((rdI h 4 17) + ((4 : Int32) * x1)) + (2 : Int32)) h og_5) (fun a2 => ?_)
    refine hp_goto hm 3 rfl (tgt := 55) rfl ?_
    exact hp_ir hm at0 rfl (by exact trivial) (pc' := 55) rfl 1 rfl rfl (vp_nar_int _) (fun _ e => e)
/-! HintHouse$Font.sizeOf(I)I -/
def M_Fo_sizeOf : hM := (2, ⟨"HintHouse$Font", "sizeOf", "(I)I"⟩, prog_3_method_15_code, 2, (Option.some Jvm.ClassFile.FieldType.int), [], [(0, [(.aload_n 0, 1, 0, 0, 0, .null), (.iload_n 1, 1, 0, 0, 0, .null), (.iconst 1, 1, 0, 0, 0, (.int (1 : Int32))), (.iadd, 1, 0, 0, 0, .null)]), (7, [(.aload_n 0, 1, 0, 0, 0, .null), (.iload_n 1, 1, 0, 0, 0, .null)]), (12, [(.lsub, 1, 0, 0, 0, .null), (.l2i, 1, 0, 0, 0, .null)])], [(4, .invokevirtual 207, 3), (9, .invokevirtual 207, 3), (14, .ireturn, 1)])
set_option maxRecDepth 100000 in
theorem m_Fo_sizeOf : hx_mok M_Fo_sizeOf = true := by decide +kernel
theorem pd_Fo_sizeOf : (parseMethodDescriptor M_Fo_sizeOf.2.1.desc).map (fun q => q.parameters.length) = some 1 := by decide +kernel
theorem y_Fo_sizeOf : hx_okV M_Fo_sizeOf := ⟨⟨lw_g (lw_at lw_m5 78 rfl) rfl, lw_g (lw_at lw_m5 76 rfl) rfl, lw_g (lw_at lw_m5 77 rfl) rfl, lw_g (lw_at lw_m1 3 rfl) rfl, rfl, by decide, by decide, by decide⟩, rfl, by decide, plainFor_of_name (by decide)⟩
noncomputable def f_Fo_sizeOf (x1 : Int32) (h : hH) : Option Int32 :=
  bP (f_Fo_locaOf (x1 + (1 : Int32)) h) fun a1 =>
  bP (f_Fo_locaOf x1 h) fun a2 =>
  some (Int64.toInt32 (a1 - a2))
set_option maxRecDepth 20000 in
theorem k_Fo_sizeOf (x1 : Int32) (h : hH) : hx_kP S0 M_Fo_sizeOf 5 NT [(.ref 4), (.int x1)] h (f_Fo_sizeOf x1 h) cvI := by
  have hm := m_Fo_sizeOf
  show hx_P S0 M_Fo_sizeOf 5 0 [(0, (.ref 4)), (1, (.int x1))] [] NT h (f_Fo_sizeOf x1 h) (hx_Rp cvI NT h)
  unfold f_Fo_sizeOf
  refine hp_cVP (M2 := M_Fo_locaOf) hm (at1 0 rfl) (as := [(.int (x1 + (1 : Int32)))]) (rest := []) (z := 4) rfl (by exact trivial) (pc' := 4) rfl 0 rfl (lw_g (lw_at lw_m4 140 rfl) rfl) y_Fo_locaOf rfl (d2 := 4) ⟨le_b rfl, pd_Fo_locaOf, le_b rfl⟩ (le_b rfl) og_4 (k_Fo_locaOf (x1 + (1 : Int32)) h) (fun a1 => ?_)
  refine hp_cVP (M2 := M_Fo_locaOf) hm (at1 1 rfl) (as := [(.int x1)]) (rest := [(.long a1)]) (z := 4) rfl (by exact trivial) (pc' := 9) rfl 1 rfl (lw_g (lw_at lw_m4 140 rfl) rfl) y_Fo_locaOf rfl (d2 := 4) ⟨le_b rfl, pd_Fo_locaOf, le_b rfl⟩ (le_b rfl) og_4 (k_Fo_locaOf x1 h) (fun a2 => ?_)
  exact hp_ir hm (at1 2 rfl) rfl (by exact trivial) (pc' := 14) rfl 2 rfl rfl (vp_nar_int _) (fun _ e => e)
/-! HintHouse.glyph(II)I -/
def M_HH_glyph : hM := (0, ⟨"HintHouse", "glyph", "(II)I"⟩, prog_1_method_13_code, 4, (Option.some Jvm.ClassFile.FieldType.int), [], [(0, [(.aload_n 0, 1, 0, 0, 0, .null), (.getfield 111, 3, 0, 2, 1, .null)]), (10, [(.aload_n 0, 1, 0, 0, 0, .null), (.iload_n 1, 1, 0, 0, 0, .null)]), (20, [(.aload_n 0, 1, 0, 0, 0, .null), (.getfield 29, 3, 0, 1, 4, .null), (.iload_n 1, 1, 0, 0, 0, .null), (.aload_n 0, 1, 0, 0, 0, .null), (.getfield 54, 3, 0, 5, 4, .null)]), (32, [(.istore_n 3, 1, 0, 0, 0, .null), (.iload_n 2, 1, 0, 0, 0, .null)]), (80, [(.aload_n 0, 1, 0, 0, 0, .null), (.getfield 29, 3, 0, 1, 4, .null), (.iload_n 1, 1, 0, 0, 0, .null)]), (89, [(.aload_n 0, 1, 0, 0, 0, .null), (.getfield 29, 3, 0, 1, 4, .null), (.iload_n 1, 1, 0, 0, 0, .null)]), (98, [(.aload_n 0, 1, 0, 0, 0, .null), (.getfield 29, 3, 0, 1, 4, .null), (.iload_n 1, 1, 0, 0, 0, .null)]), (107, [(.aload_n 0, 1, 0, 0, 0, .null), (.getfield 54, 3, 0, 5, 4, .null), (.getfield 168, 3, 3, 0, 0, .null)]), (115, [(.aload_n 0, 1, 0, 0, 0, .null), (.getfield 54, 3, 0, 5, 4, .null), (.getfield 171, 3, 3, 1, 0, .null)]), (123, [(.aload_n 0, 1, 0, 0, 0, .null), (.getfield 54, 3, 0, 5, 4, .null), (.getfield 174, 3, 3, 2, 0, .null)]), (131, [(.aload_n 0, 1, 0, 0, 0, .null), (.getfield 54, 3, 0, 5, 4, .null), (.getfield 177, 3, 3, 9, 0, .null)]), (139, [(.iload_n 3, 1, 0, 0, 0, .null)]), (153, [(.iconst 0, 1, 0, 0, 0, (.int (0 : Int32)))]), (143, [(.aload_n 0, 1, 0, 0, 0, .null), (.getfield 54, 3, 0, 5, 4, .null), (.getfield 180, 3, 3, 8, 0, .null)]), (155, [(.bipush (-2), 2, 0, 0, 0, (.int (-2 : Int32)))]), (18, [(.iconst (-1), 1, 0, 0, 0, (.int (-1 : Int32)))]), (7, [(.bipush (-3), 2, 0, 0, 0, (.int (-3 : Int32)))])], [(12, .invokevirtual 151, 3), (29, .invokevirtual 155, 3), (34, .tableswitch 121 0 7 #[46, 55, 64, 73, 81, 89, 97, 105], 46), (85, .invokevirtual 159, 3), (88, .ireturn, 1), (94, .invokevirtual 162, 3), (97, .ireturn, 1), (103, .invokevirtual 165, 3), (106, .ireturn, 1), (114, .ireturn, 1), (122, .ireturn, 1), (130, .ireturn, 1), (138, .ireturn, 1), (154, .ireturn, 1), (150, .goto 4, 3), (140, .ifCond .eq 13, 3), (157, .ireturn, 1), (19, .ireturn, 1), (15, .ifCond .ne 5, 3), (9, .ireturn, 1), (4, .ifCond .ne 6, 3)])
set_option maxRecDepth 100000 in
theorem m_HH_glyph : hx_mok M_HH_glyph = true := by decide +kernel
theorem pd_HH_glyph : (parseMethodDescriptor M_HH_glyph.2.1.desc).map (fun q => q.parameters.length) = some 2 := by decide +kernel
theorem y_HH_glyph : hx_okV M_HH_glyph := ⟨⟨lw_g (lw_at lw_m5 57 rfl) rfl, lw_g (lw_at lw_m5 55 rfl) rfl, lw_g (lw_at lw_m5 56 rfl) rfl, lw_g (lw_at lw_m1 1 rfl) rfl, rfl, by decide, by decide, by decide⟩, rfl, by decide, plainFor_of_name (by decide)⟩
noncomputable def f_HH_glyph (x1 : Int32) (x2 : Int32) (h : hH) : Option (Int32 × hH) :=
  if (rdI h 1 2) = 0 then (
    some ((-3 : Int32), h)
  ) else (
    bP (f_HH_isGlyph x1 h) fun a1 =>
    if a1 = 0 then (
      some ((-1 : Int32), h)
    ) else (
      bS (f_Fo_read x1 172 h) fun a2 h1 =>
      if x2 = (0 : Int32) then (
        bP (f_Fo_advance x1 h1) fun a3 =>
        some (a3, h1)
      ) else (
        if x2 = (1 : Int32) then (
          bP (f_Fo_bearing x1 h1) fun a5 =>
          some (a5, h1)
        ) else (
          if x2 = (2 : Int32) then (
            bP (f_Fo_sizeOf x1 h1) fun a7 =>
            some (a7, h1)
          ) else (
            if x2 = (3 : Int32) then (
              some ((rdI h1 172 0), h1)
            ) else (
              if x2 = (4 : Int32) then (
                some ((rdI h1 172 1), h1)
              ) else (
                if x2 = (5 : Int32) then (
                  some ((rdI h1 172 2), h1)
                ) else (
                  if x2 = (6 : Int32) then (
                    some ((rdI h1 172 9), h1)
                  ) else (
                    if x2 = (7 : Int32) then (
                      if a2 = 0 then (
                        some ((0 : Int32), h1)
                      ) else (
                        some ((rdI h1 172 8), h1)
                      )
                    ) else (
                      some ((-2 : Int32), h1)
                    )
                  )
                )
              )
            )
          )
        )
      )
    )
  )
set_option maxRecDepth 20000 in
theorem k_HH_glyph (x1 : Int32) (x2 : Int32) (h : hH) : hx_kS S0 M_HH_glyph 8 NT [(.ref 1), (.int x1), (.int x2)] h (f_HH_glyph x1 x2 h) cvI := by
  have hm := m_HH_glyph
  show hx_P S0 M_HH_glyph 8 0 [(0, (.ref 1)), (1, (.int x1)), (2, (.int x2))] [] NT h (f_HH_glyph x1 x2 h) (hx_Rc cvI NT)
  unfold f_HH_glyph
  refine hp_if_ne hm (at1 0 rfl) rfl (by exact og_1) (pc' := 4) rfl 20 rfl (tgt := 10) rfl (fun c16 => ?_) (fun c16 => ?_)
  · refine hp_cVP (M2 := M_HH_isGlyph) hm (at1 1 rfl) (as := [(.int x1)]) (rest := []) (z := 1) rfl (by exact trivial) (pc' := 12) rfl 0 rfl (lw_g (lw_at lw_m5 58 rfl) rfl) y_HH_isGlyph rfl (d2 := 2) ⟨le_b rfl, pd_HH_isGlyph, le_b rfl⟩ (le_b rfl) og_1 (k_HH_isGlyph x1 h) (fun a1 => ?_)
    refine hp_if_ne hm at0 rfl (by exact trivial) (pc' := 15) rfl 18 rfl (tgt := 20) rfl (fun c15 => ?_) (fun c15 => ?_)
    · refine hp_cVS (M2 := M_Fo_read) hm (at1 2 rfl) (as := [(.int x1), (.ref 172)]) (rest := []) (z := 4) rfl (by exact ⟨og_1, og_1⟩) (pc' := 29) rfl 1 rfl (lw_g (lw_at lw_m5 62 rfl) rfl) y_Fo_read rfl (d2 := 7) ⟨le_b rfl, pd_Fo_read, le_b rfl⟩ (le_b rfl) og_4 (k_Fo_read x1 172 h og_172) (fun a2 h1 => ?_)
      refine hp_b hm (at1 3 rfl) (L' := [(3, (.int a2)), (0, (.ref 1)), (1, (.int x1)), (2, (.int x2))]) (st' := [(.int x2)]) rfl (by exact trivial) (pc' := 34) rfl ?_
      refine hp_sw hm 2 rfl (cs := [0]) (off := 46) (by decide) (tgt := 80) rfl (sw1 _ _) ?_ (fun c4 => ?_)
      · refine hp_cVP (M2 := M_Fo_advance) hm (at1 4 rfl) (as := [(.int x1)]) (rest := []) (z := 4) rfl (by exact og_1) (pc' := 85) rfl 3 rfl (lw_g (lw_at lw_m5 63 rfl) rfl) y_Fo_advance rfl (d2 := 3) ⟨le_b rfl, pd_Fo_advance, le_b rfl⟩ (le_b rfl) og_4 (k_Fo_advance x1 h1) (fun a3 => ?_)
        exact hp_ir hm at0 rfl (by exact trivial) (pc' := 88) rfl 4 rfl rfl (vp_nar_int _) (fun _ e => e)
      · refine hp_sw hm 2 rfl (cs := [1]) (off := 55) (by decide) (tgt := 89) rfl (sw1 _ _) ?_ (fun c6 => ?_)
        · refine hp_cVP (M2 := M_Fo_bearing) hm (at1 5 rfl) (as := [(.int x1)]) (rest := []) (z := 4) rfl (by exact og_1) (pc' := 94) rfl 5 rfl (lw_g (lw_at lw_m5 70 rfl) rfl) y_Fo_bearing rfl (d2 := 4) ⟨le_b rfl, pd_Fo_bearing, le_b rfl⟩ (le_b rfl) og_4 (k_Fo_bearing x1 h1) (fun a5 => ?_)
          exact hp_ir hm at0 rfl (by exact trivial) (pc' := 97) rfl 6 rfl rfl (vp_nar_int _) (fun _ e => e)
        · refine hp_sw hm 2 rfl (cs := [2]) (off := 64) (by decide) (tgt := 98) rfl (sw1 _ _) ?_ (fun c8 => ?_)
          · refine hp_cVP (M2 := M_Fo_sizeOf) hm (at1 6 rfl) (as := [(.int x1)]) (rest := []) (z := 4) rfl (by exact og_1) (pc' := 103) rfl 7 rfl (lw_g (lw_at lw_m5 75 rfl) rfl) y_Fo_sizeOf rfl (d2 := 5) ⟨le_b rfl, pd_Fo_sizeOf, le_b rfl⟩ (le_b rfl) og_4 (k_Fo_sizeOf x1 h1) (fun a7 => ?_)
            exact hp_ir hm at0 rfl (by exact trivial) (pc' := 106) rfl 8 rfl rfl (vp_nar_int _) (fun _ e => e)
          · refine hp_sw hm 2 rfl (cs := [3]) (off := 73) (by decide) (tgt := 107) rfl (sw1 _ _) ?_ (fun c9 => ?_)
            · exact hp_ir hm (at1 7 rfl) rfl (by exact ⟨og_1, og_172⟩) (pc' := 114) rfl 9 rfl rfl (vp_nar_int _) (fun _ e => e)
            · refine hp_sw hm 2 rfl (cs := [4]) (off := 81) (by decide) (tgt := 115) rfl (sw1 _ _) ?_ (fun c10 => ?_)
              · exact hp_ir hm (at1 8 rfl) rfl (by exact ⟨og_1, og_172⟩) (pc' := 122) rfl 10 rfl rfl (vp_nar_int _) (fun _ e => e)
              · refine hp_sw hm 2 rfl (cs := [5]) (off := 89) (by decide) (tgt := 123) rfl (sw1 _ _) ?_ (fun c11 => ?_)
                · exact hp_ir hm (at1 9 rfl) rfl (by exact ⟨og_1, og_172⟩) (pc' := 130) rfl 11 rfl rfl (vp_nar_int _) (fun _ e => e)
                · refine hp_sw hm 2 rfl (cs := [6]) (off := 97) (by decide) (tgt := 131) rfl (sw1 _ _) ?_ (fun c12 => ?_)
                  · exact hp_ir hm (at1 10 rfl) rfl (by exact ⟨og_1, og_172⟩) (pc' := 138) rfl 12 rfl rfl (vp_nar_int _) (fun _ e => e)
                  · refine hp_sw hm 2 rfl (cs := [7]) (off := 105) (by decide) (tgt := 139) rfl (sw1 _ _) ?_ (fun c14 => ?_)
                    · refine hp_if_eq hm (at1 11 rfl) rfl (by exact trivial) (pc' := 140) rfl 15 rfl (tgt := 153) rfl (fun c13 => ?_) (fun c13 => ?_)
                      · refine hp_b hm (at1 12 rfl) (L' := [(3, (.int a2)), (0, (.ref 1)), (1, (.int x1)), (2, (.int x2))]) (st' := [(.int (0 : Int32))]) rfl (by exact trivial) (pc' := 154) rfl ?_
                        exact hp_ir hm at0 rfl (by exact trivial) (pc' := 154) rfl 13 rfl rfl (vp_nar_int _) (fun _ e => e)
                      · refine hp_b hm (at1 13 rfl) (L' := [(3, (.int a2)), (0, (.ref 1)), (1, (.int x1)), (2, (.int x2))]) (st' := [(.int (rdI h1 172 8))]) rfl (by exact ⟨og_1, og_172⟩) (pc' := 150) rfl ?_
                        refine hp_goto hm 14 rfl (tgt := 154) rfl ?_
                        exact hp_ir hm at0 rfl (by exact trivial) (pc' := 154) rfl 13 rfl rfl (vp_nar_int _) (fun _ e => e)
                    · refine hp_sd2 hm 2 rfl (css := [[0], [1], [2], [3], [4], [5], [6], [7]]) (by decide) (by decide) (List.forall_mem_cons.mpr ⟨c4, (List.forall_mem_cons.mpr ⟨c6, (List.forall_mem_cons.mpr ⟨c8, (List.forall_mem_cons.mpr ⟨c9, (List.forall_mem_cons.mpr ⟨c10, (List.forall_mem_cons.mpr ⟨c11, (List.forall_mem_cons.mpr ⟨c12, (List.forall_mem_cons.mpr ⟨c14, (fun _ h => absurd h List.not_mem_nil)⟩)⟩)⟩)⟩)⟩)⟩)⟩)⟩) (tgt := 155) rfl ?_
                      exact hp_ir hm (at1 14 rfl) rfl (by exact trivial) (pc' := 157) rfl 16 rfl rfl (vp_nar_int _) (fun _ e => e)
    · exact hp_ir hm (at1 15 rfl) rfl (by exact trivial) (pc' := 19) rfl 17 rfl rfl (vp_nar_int _) (fun _ e => e)
  · exact hp_ir hm (at1 16 rfl) rfl (by exact trivial) (pc' := 9) rfl 19 rfl rfl (vp_nar_int _) (fun _ e => e)
/-! HintHouse$Font.kern(II)I -/
def M_Fo_kern : hM := (2, ⟨"HintHouse$Font", "kern", "(II)I"⟩, prog_3_method_34_code, 6, (Option.some Jvm.ClassFile.FieldType.int), [], [(0, [(.iload_n 1, 1, 0, 0, 0, .null), (.i2l, 1, 0, 0, 0, .null), (.bipush 16, 2, 0, 0, 0, (.int (16 : Int32))), (.lshl, 1, 0, 0, 0, .null), (.iload_n 2, 1, 0, 0, 0, .null), (.i2l, 1, 0, 0, 0, .null), (.lor, 1, 0, 0, 0, .null), (.lstore_n 3, 1, 0, 0, 0, .null)]), (9, [(.iconst 0, 1, 0, 0, 0, (.int (0 : Int32))), (.istore 5, 2, 0, 0, 0, .null)]), (12, [(.iload 5, 2, 0, 0, 0, .null), (.aload_n 0, 1, 0, 0, 0, .null), (.getfield 50, 3, 2, 23, 0, .null)]), (21, [(.aload_n 0, 1, 0, 0, 0, .null), (.getfield 12, 3, 2, 0, 4, .null), (.aload_n 0, 1, 0, 0, 0, .null), (.getfield 289, 3, 2, 24, 0, .null), (.bipush 6, 2, 0, 0, 0, (.int (6 : Int32))), (.iload 5, 2, 0, 0, 0, .null), (.imul, 1, 0, 0, 0, .null), (.iadd, 1, 0, 0, 0, .null)]), (38, [(.lload_n 3, 1, 0, 0, 0, .null), (.lcmp, 1, 0, 0, 0, .null)]), (63, [(.iinc 5 1, 3, 0, 0, 0, (.int (1 : Int32)))]), (43, [(.aload_n 0, 1, 0, 0, 0, .null), (.getfield 12, 3, 2, 0, 4, .null), (.aload_n 0, 1, 0, 0, 0, .null), (.getfield 289, 3, 2, 24, 0, .null), (.bipush 6, 2, 0, 0, 0, (.int (6 : Int32))), (.iload 5, 2, 0, 0, 0, .null), (.imul, 1, 0, 0, 0, .null), (.iadd, 1, 0, 0, 0, .null), (.iconst 4, 1, 0, 0, 0, (.int (4 : Int32))), (.iadd, 1, 0, 0, 0, .null)]), (69, [(.iconst 0, 1, 0, 0, 0, (.int (0 : Int32)))])], [(35, .invokevirtual 137, 3), (66, .goto (-54), 3), (59, .invokevirtual 230, 3), (62, .ireturn, 1), (40, .ifCond .ne 23, 3), (18, .if_icmp .ge 51, 3), (70, .ireturn, 1)])
set_option maxRecDepth 100000 in
theorem m_Fo_kern : hx_mok M_Fo_kern = true := by decide +kernel
theorem pd_Fo_kern : (parseMethodDescriptor M_Fo_kern.2.1.desc).map (fun q => q.parameters.length) = some 2 := by decide +kernel
theorem y_Fo_kern : hx_okV M_Fo_kern := ⟨⟨lw_g (lw_at lw_m5 86 rfl) rfl, lw_g (lw_at lw_m5 84 rfl) rfl, lw_g (lw_at lw_m5 85 rfl) rfl, lw_g (lw_at lw_m1 3 rfl) rfl, rfl, by decide, by decide, by decide⟩, rfl, by decide, plainFor_of_name (by decide)⟩
noncomputable def f_Fo_kern (x1 : Int32) (x2 : Int32) (h : hH) : Option Int32 :=
  lz (A := Int64) (((Int32.toInt64 x1) <<< ((Int32.toInt64 (16 : Int32)) &&& 63)) ||| (Int32.toInt64 x2)) fun v1 =>
  bE (P := Unit) (X := Int32) (
    wh (A := Int32) (B := (Unit ⊕ Int32)) (fun p2 =>
        if (rdI h 4 23) ≤ p2 then (
          some (.inr (.inl ()))
        ) else (
          bP (f_By_u4 5 ((rdI h 4 24) + ((6 : Int32) * p2)) h) fun a4 =>
          if a4 = v1 then (
            bP (f_By_s2 5 (((rdI h 4 24) + ((6 : Int32) * p2)) + (4 : Int32)) h) fun a6 =>
            some (.inr (.inr a6))
          ) else (
            lz (A := Int32) (p2 + (1 : Int32)) fun v5 =>
            some (.inl v5)
          )
        )
    ) (0 : Int32)
  ) fun p3 =>
  some (0 : Int32)
set_option maxRecDepth 20000 in
theorem k_Fo_kern (x1 : Int32) (x2 : Int32) (h : hH) : hx_kP S0 M_Fo_kern 4 NT [(.ref 4), (.int x1), (.int x2)] h (f_Fo_kern x1 x2 h) cvI := by
  have hm := m_Fo_kern
  show hx_P S0 M_Fo_kern 4 0 [(0, (.ref 4)), (1, (.int x1)), (2, (.int x2))] [] NT h (f_Fo_kern x1 x2 h) (hx_Rp cvI NT h)
  unfold f_Fo_kern
  refine hp_z hm (at1 0 rfl) (fun (v1 : Int64) => [(3, (.long v1)), (0, (.ref 4)), (1, (.int x1)), (2, (.int x2))]) (fun (v1 : Int64) => []) rfl (by exact trivial) (pc' := 9) rfl (fun v1 => ?_)
  refine hp_b hm (at1 1 rfl) (L' := [(5, (.int (0 : Int32))), (3, (.long v1)), (0, (.ref 4)), (1, (.int x1)), (2, (.int x2))]) (st' := []) rfl (by exact trivial) (pc' := 12) rfl ?_
  refine hp_E 69 (fun (p3 : Unit) => []) (fun (p3 : Unit) => []) (fun (p3 : Unit) => h) ?_ (fun p3 => ?_)
  · refine hp_s [2, 1, 0] rfl (L' := [(0, (.ref 4)), (3, (.long v1)), (5, (.int (0 : Int32)))]) ?_
    refine hp_wh (fun (p2 : Int32) => [(0, (.ref 4)), (3, (.long v1)), (5, (.int p2))]) [] (fun (p2 : Int32) => h) (fun p2 => ?_) (0 : Int32)
    refine hp_ic_ge hm (at1 2 rfl) rfl (by exact og_4) (pc' := 18) rfl 5 rfl (tgt := 69) rfl (fun c8 => ?_) (fun c8 => ?_)
    · exact hp_lf [] rfl (fun _ e => e)
    · refine hp_cVP (M2 := M_By_u4) hm (at1 3 rfl) (as := [(.int ((rdI h 4 24) + ((6 : Int32) * p2)))]) (rest := []) (z := 5) rfl (by exact ⟨og_4, og_4⟩) (pc' := 35) rfl 0 rfl (lw_g (lw_at lw_m4 62 rfl) rfl) y_By_u4 rfl (d2 := 3) ⟨le_b rfl, pd_By_u4, le_b rfl⟩ (le_b rfl) og_5 (k_By_u4 5 ((rdI h 4 24) + ((6 : Int32) * p2)) h og_5) (fun a4 => ?_)
      refine hp_lc_ne hm (at1 4 rfl) rfl (by exact trivial) (pc' := 40) rfl 4 rfl (tgt := 63) rfl (fun c7 => ?_) (fun c7 => ?_)
      · refine hp_z hm (at1 5 rfl) (fun (v5 : Int32) => [(5, (.int v5)), (0, (.ref 4)), (3, (.long v1))]) (fun (v5 : Int32) => []) rfl (by exact trivial) (pc' := 66) rfl (fun v5 => ?_)
        refine hp_goto hm 1 rfl (tgt := 12) rfl ?_
        exact hp_lf [1, 2, 0] rfl (fun _ e => e)
      · refine hp_cVP (M2 := M_By_s2) hm (at1 6 rfl) (as := [(.int (((rdI h 4 24) + ((6 : Int32) * p2)) + (4 : Int32)))]) (rest := []) (z := 5) rfl (by exact ⟨og_4, og_4⟩) (pc' := 59) rfl 2 rfl (lw_g (lw_at lw_m5 74 rfl) rfl) y_By_s2 rfl (d2 := 3) ⟨le_b rfl, pd_By_s2, le_b rfl⟩ (le_b rfl) og_5 (k_By_s2 5 (((rdI h 4 24) + ((6 : Int32) * p2)) + (4 : Int32)) h og_5) (fun a6 => ?_)
        exact hp_ir hm at0 rfl (by exact trivial) (pc' := 62) rfl 3 rfl rfl (vp_nar_int _) (fun _ e => e)
  · exact hp_ir hm (at1 7 rfl) rfl (by exact trivial) (pc' := 70) rfl 6 rfl rfl (vp_nar_int _) (fun _ e => e)
/-! HintHouse.kern(II)I -/
def M_HH_kern : hM := (0, ⟨"HintHouse", "kern", "(II)I"⟩, prog_1_method_14_code, 3, (Option.some Jvm.ClassFile.FieldType.int), [], [(0, [(.aload_n 0, 1, 0, 0, 0, .null), (.getfield 111, 3, 0, 2, 1, .null)]), (12, [(.aload_n 0, 1, 0, 0, 0, .null), (.iload_n 1, 1, 0, 0, 0, .null)]), (40, [(.iconst (-1), 1, 0, 0, 0, (.int (-1 : Int32)))]), (20, [(.aload_n 0, 1, 0, 0, 0, .null), (.iload_n 2, 1, 0, 0, 0, .null)]), (28, [(.aload_n 0, 1, 0, 0, 0, .null), (.getfield 29, 3, 0, 1, 4, .null), (.iload_n 1, 1, 0, 0, 0, .null), (.iload_n 2, 1, 0, 0, 0, .null)]), (7, [(.bipush (-3), 2, 0, 0, 0, (.int (-3 : Int32)))])], [(14, .invokevirtual 151, 3), (41, .ireturn, 1), (22, .invokevirtual 151, 3), (34, .invokevirtual 183, 3), (37, .goto 4, 3), (25, .ifCond .eq 15, 3), (17, .ifCond .eq 23, 3), (9, .goto 32, 3), (4, .ifCond .ne 8, 3)])
set_option maxRecDepth 100000 in
theorem m_HH_kern : hx_mok M_HH_kern = true := by decide +kernel
theorem pd_HH_kern : (parseMethodDescriptor M_HH_kern.2.1.desc).map (fun q => q.parameters.length) = some 2 := by decide +kernel
theorem y_HH_kern : hx_okV M_HH_kern := ⟨⟨lw_g (lw_at lw_m5 82 rfl) rfl, lw_g (lw_at lw_m5 80 rfl) rfl, lw_g (lw_at lw_m5 81 rfl) rfl, lw_g (lw_at lw_m1 1 rfl) rfl, rfl, by decide, by decide, by decide⟩, rfl, by decide, plainFor_of_name (by decide)⟩
noncomputable def f_HH_kern (x1 : Int32) (x2 : Int32) (h : hH) : Option Int32 :=
  if (rdI h 1 2) = 0 then (
    some (-3 : Int32)
  ) else (
    bP (f_HH_isGlyph x1 h) fun a1 =>
    if a1 = 0 then (
      some (-1 : Int32)
    ) else (
      bP (f_HH_isGlyph x2 h) fun a2 =>
      if a2 = 0 then (
        some (-1 : Int32)
      ) else (
        bP (f_Fo_kern x1 x2 h) fun a3 =>
        some a3
      )
    )
  )
set_option maxRecDepth 20000 in
theorem k_HH_kern (x1 : Int32) (x2 : Int32) (h : hH) : hx_kP S0 M_HH_kern 5 NT [(.ref 1), (.int x1), (.int x2)] h (f_HH_kern x1 x2 h) cvI := by
  have hm := m_HH_kern
  show hx_P S0 M_HH_kern 5 0 [(0, (.ref 1)), (1, (.int x1)), (2, (.int x2))] [] NT h (f_HH_kern x1 x2 h) (hx_Rp cvI NT h)
  unfold f_HH_kern
  refine hp_if_ne hm (at1 0 rfl) rfl (by exact og_1) (pc' := 4) rfl 8 rfl (tgt := 12) rfl (fun c6 => ?_) (fun c6 => ?_)
  · refine hp_cVP (M2 := M_HH_isGlyph) hm (at1 1 rfl) (as := [(.int x1)]) (rest := []) (z := 1) rfl (by exact trivial) (pc' := 14) rfl 0 rfl (lw_g (lw_at lw_m5 58 rfl) rfl) y_HH_isGlyph rfl (d2 := 2) ⟨le_b rfl, pd_HH_isGlyph, le_b rfl⟩ (le_b rfl) og_1 (k_HH_isGlyph x1 h) (fun a1 => ?_)
    refine hp_if_eq hm at0 rfl (by exact trivial) (pc' := 17) rfl 6 rfl (tgt := 40) rfl (fun c5 => ?_) (fun c5 => ?_)
    · refine hp_b hm (at1 2 rfl) (L' := [(0, (.ref 1)), (1, (.int x1)), (2, (.int x2))]) (st' := [(.int (-1 : Int32))]) rfl (by exact trivial) (pc' := 41) rfl ?_
      exact hp_ir hm at0 rfl (by exact trivial) (pc' := 41) rfl 1 rfl rfl (vp_nar_int _) (fun _ e => e)
    · refine hp_cVP (M2 := M_HH_isGlyph) hm (at1 3 rfl) (as := [(.int x2)]) (rest := []) (z := 1) rfl (by exact trivial) (pc' := 22) rfl 2 rfl (lw_g (lw_at lw_m5 58 rfl) rfl) y_HH_isGlyph rfl (d2 := 2) ⟨le_b rfl, pd_HH_isGlyph, le_b rfl⟩ (le_b rfl) og_1 (k_HH_isGlyph x2 h) (fun a2 => ?_)
      refine hp_if_eq hm at0 rfl (by exact trivial) (pc' := 25) rfl 5 rfl (tgt := 40) rfl (fun c4 => ?_) (fun c4 => ?_)
      · refine hp_b hm (at1 2 rfl) (L' := [(0, (.ref 1)), (1, (.int x1)), (2, (.int x2))]) (st' := [(.int (-1 : Int32))]) rfl (by exact trivial) (pc' := 41) rfl ?_
        exact hp_ir hm at0 rfl (by exact trivial) (pc' := 41) rfl 1 rfl rfl (vp_nar_int _) (fun _ e => e)
      · refine hp_cVP (M2 := M_Fo_kern) hm (at1 4 rfl) (as := [(.int x1), (.int x2)]) (rest := []) (z := 4) rfl (by exact og_1) (pc' := 34) rfl 3 rfl (lw_g (lw_at lw_m5 83 rfl) rfl) y_Fo_kern rfl (d2 := 4) ⟨le_b rfl, pd_Fo_kern, le_b rfl⟩ (le_b rfl) og_4 (k_Fo_kern x1 x2 h) (fun a3 => ?_)
        refine hp_goto hm 4 rfl (tgt := 41) rfl ?_
        exact hp_ir hm at0 rfl (by exact trivial) (pc' := 41) rfl 1 rfl rfl (vp_nar_int _) (fun _ e => e)
  · refine hp_b hm (at1 5 rfl) (L' := [(0, (.ref 1)), (1, (.int x1)), (2, (.int x2))]) (st' := [(.int (-3 : Int32))]) rfl (by exact trivial) (pc' := 9) rfl ?_
    refine hp_goto hm 7 rfl (tgt := 41) rfl ?_
    exact hp_ir hm at0 rfl (by exact trivial) (pc' := 41) rfl 1 rfl rfl (vp_nar_int _) (fun _ e => e)
/-! java/lang/Math.abs(J)J -/
def M_JM_abs : hM := (12, ⟨"java/lang/Math", "abs", "(J)J"⟩, prog_16_method_61_code, 2, (Option.some Jvm.ClassFile.FieldType.long), [], [(0, [(.lload_n 0, 1, 0, 0, 0, .null), (.lconst 0, 1, 0, 0, 0, (.long (0 : Int64))), (.lcmp, 1, 0, 0, 0, .null)]), (11, [(.lload_n 0, 1, 0, 0, 0, .null)]), (6, [(.lload_n 0, 1, 0, 0, 0, .null), (.lneg, 1, 0, 0, 0, .null)])], [(12, .lreturn, 1), (8, .goto 4, 3), (3, .ifCond .ge 8, 3)])
set_option maxRecDepth 100000 in
theorem m_JM_abs : hx_mok M_JM_abs = true := by decide +kernel
theorem pd_JM_abs : (parseMethodDescriptor M_JM_abs.2.1.desc).map (fun q => q.parameters.length) = some 1 := by decide +kernel
theorem y_JM_abs : hx_okS M_JM_abs := ⟨⟨lw_g (lw_at lw_m5 114 rfl) rfl, lw_g (lw_at lw_m5 113 rfl) rfl, lw_g (lw_at lw_m1 13 rfl) rfl, by decide, by decide⟩, rfl, by decide, by decide +kernel, rfl⟩
noncomputable def f_JM_abs (x1 : Int64) : Option Int64 :=
  if (0 : Int64) ≤ x1 then (
    some x1
  ) else (
    some (-x1)
  )
set_option maxRecDepth 20000 in
theorem k_JM_abs (x1 : Int64) (h : hH) : hx_kP S0 M_JM_abs 1 NT [(.long x1)] h (f_JM_abs x1) cvL := by
  have hm := m_JM_abs
  show hx_P S0 M_JM_abs 1 0 [(0, (.long x1))] [] NT h (f_JM_abs x1) (hx_Rp cvL NT h)
  unfold f_JM_abs
  refine hp_lc_ge hm (at1 0 rfl) rfl (by exact trivial) (pc' := 3) rfl 2 rfl (tgt := 11) rfl (fun c1 => ?_) (fun c1 => ?_)
  · refine hp_b hm (at1 1 rfl) (L' := [(0, (.long x1))]) (st' := [(.long x1)]) rfl (by exact trivial) (pc' := 12) rfl ?_
    exact hp_lr hm at0 rfl (by exact trivial) (pc' := 12) rfl 0 rfl rfl (fun _ e => e)
  · refine hp_b hm (at1 2 rfl) (L' := [(0, (.long x1))]) (st' := [(.long (-x1))]) rfl (by exact trivial) (pc' := 8) rfl ?_
    refine hp_goto hm 1 rfl (tgt := 12) rfl ?_
    exact hp_lr hm at0 rfl (by exact trivial) (pc' := 12) rfl 0 rfl rfl (fun _ e => e)
/-! HintHouse.over(JJ)J -/
def M_HH_over : hM := (0, ⟨"HintHouse", "over", "(JJ)J"⟩, prog_1_method_2_code, 8, (Option.some Jvm.ClassFile.FieldType.long), [], [(0, [(.lload_n 0, 1, 0, 0, 0, .null), (.lload_n 2, 1, 0, 0, 0, .null), (.ldiv, 1, 0, 0, 0, .null), (.lstore 4, 2, 0, 0, 0, .null)]), (5, [(.lload_n 0, 1, 0, 0, 0, .null), (.lload_n 2, 1, 0, 0, 0, .null), (.lrem, 1, 0, 0, 0, .null), (.lstore 6, 2, 0, 0, 0, .null)]), (10, [(.ldc2_w 1, 3, 0, 0, 0, (.long (2 : Int64))), (.lload 6, 2, 0, 0, 0, .null)]), (18, [(.lmul, 1, 0, 0, 0, .null), (.lload_n 2, 1, 0, 0, 0, .null)]), (23, [(.lcmp, 1, 0, 0, 0, .null)]), (30, [(.lload_n 0, 1, 0, 0, 0, .null), (.lconst 0, 1, 0, 0, 0, (.long (0 : Int64))), (.lcmp, 1, 0, 0, 0, .null)]), (40, [(.iconst 0, 1, 0, 0, 0, (.int (0 : Int32)))]), (36, [(.iconst 1, 1, 0, 0, 0, (.int (1 : Int32)))]), (41, [(.lload_n 2, 1, 0, 0, 0, .null), (.lconst 0, 1, 0, 0, 0, (.long (0 : Int64))), (.lcmp, 1, 0, 0, 0, .null)]), (51, [(.iconst 0, 1, 0, 0, 0, (.int (0 : Int32)))]), (47, [(.iconst 1, 1, 0, 0, 0, (.int (1 : Int32)))]), (62, [(.lload 4, 2, 0, 0, 0, .null), (.lconst 1, 1, 0, 0, 0, (.long (1 : Int64))), (.lsub, 1, 0, 0, 0, .null)]), (55, [(.lload 4, 2, 0, 0, 0, .null), (.lconst 1, 1, 0, 0, 0, (.long (1 : Int64))), (.ladd, 1, 0, 0, 0, .null)]), (27, [(.lload 4, 2, 0, 0, 0, .null)])], [(15, .invokestatic 3, 3), (20, .invokestatic 3, 3), (37, .goto 4, 3), (33, .ifCond .ge 7, 3), (48, .goto 4, 3), (44, .ifCond .ge 7, 3), (66, .lreturn, 1), (59, .goto 7, 3), (52, .if_icmp .ne 10, 3), (29, .lreturn, 1), (24, .ifCond .ge 6, 3)])
set_option maxRecDepth 100000 in
theorem m_HH_over : hx_mok M_HH_over = true := by decide +kernel
theorem pd_HH_over : (parseMethodDescriptor M_HH_over.2.1.desc).map (fun q => q.parameters.length) = some 2 := by decide +kernel
theorem y_HH_over : hx_okS M_HH_over := ⟨⟨lw_g (lw_at lw_m5 110 rfl) rfl, lw_g (lw_at lw_m5 109 rfl) rfl, lw_g (lw_at lw_m1 1 rfl) rfl, by decide, by decide⟩, rfl, by decide, plainFor_of_name (by decide), rfl⟩
noncomputable def f_HH_over (x1 : Int64) (x2 : Int64) : Option Int64 :=
  gd (¬ x2 = 0) <|
  lz (A := Int64) (x1 / x2) fun v1 =>
  gd (¬ x2 = 0) <|
  lz (A := Int64) (hx_rL x1 x2) fun v3 =>
  bP (f_JM_abs v3) fun a5 =>
  bP (f_JM_abs x2) fun a6 =>
  if a6 ≤ ((2 : Int64) * a5) then (
    lz (A := Int32) (if (0 : Int64) ≤ x1 then (0 : Int32) else (1 : Int32)) fun p7 =>
    lz (A := Int32) (if (0 : Int64) ≤ x2 then (0 : Int32) else (1 : Int32)) fun p9 =>
    if p7 = p9 then (
      some (v1 + (1 : Int64))
    ) else (
      some (v1 - (1 : Int64))
    )
  ) else (
    some v1
  )
set_option maxRecDepth 20000 in
theorem k_HH_over (x1 : Int64) (x2 : Int64) (h : hH) : hx_kP S0 M_HH_over 2 NT [(.long x1), (.long x2)] h (f_HH_over x1 x2) cvL := by
  have hm := m_HH_over
  show hx_P S0 M_HH_over 2 0 [(0, (.long x1)), (2, (.long x2))] [] NT h (f_HH_over x1 x2) (hx_Rp cvL NT h)
  unfold f_HH_over
  refine hp_GZ hm (at1 0 rfl) (fun (v1 : Int64) => [(4, (.long v1)), (0, (.long x1)), (2, (.long x2))]) (fun (v1 : Int64) => []) rfl (fun hP => (by exact hP)) (pc' := 5) rfl (fun q2 v1 => ?_)
  refine hp_GZ hm (at1 1 rfl) (fun (v3 : Int64) => [(6, (.long v3)), (4, (.long v1)), (0, (.long x1)), (2, (.long x2))]) (fun (v3 : Int64) => []) rfl (fun hP => (by exact hP)) (pc' := 10) rfl (fun q4 v3 => ?_)
  refine hp_cSP (M2 := M_JM_abs) hm (at1 2 rfl) (as := [(.long v3)]) (rest := [(.long (2 : Int64))]) rfl (by exact trivial) (pc' := 15) rfl 0 rfl (lw_g (lw_at lw_m5 112 rfl) rfl) y_JM_abs rfl (d2 := 1) ⟨le_b rfl, pd_JM_abs, le_b rfl⟩ (le_b rfl) (k_JM_abs v3 h) (fun a5 => ?_)
  refine hp_cSP (M2 := M_JM_abs) hm (at1 3 rfl) (as := [(.long x2)]) (rest := [(.long ((2 : Int64) * a5))]) rfl (by exact trivial) (pc' := 20) rfl 1 rfl (lw_g (lw_at lw_m5 112 rfl) rfl) y_JM_abs rfl (d2 := 1) ⟨le_b rfl, pd_JM_abs, le_b rfl⟩ (le_b rfl) (k_JM_abs x2 h) (fun a6 => ?_)
  refine hp_lc_ge hm (at1 4 rfl) rfl (by exact trivial) (pc' := 24) rfl 10 rfl (tgt := 30) rfl (fun c12 => ?_) (fun c12 => ?_)
  · refine hp_JZ 41 (fun (p7 : Int32) => [(2, (.long x2)), (4, (.long v1))]) (fun (p7 : Int32) => [(.int p7)]) (fun (p7 : Int32) => h) ?_ (fun p7 => ?_)
    · refine hp_sv0 ?_
      refine hp_lc_ge hm (at1 5 rfl) rfl (by exact trivial) (pc' := 33) rfl 3 rfl (tgt := 40) rfl (fun c8 => ?_) (fun c8 => ?_)
      · refine hp_b hm (at1 6 rfl) (L' := [(6, (.long v3)), (4, (.long v1)), (0, (.long x1)), (2, (.long x2))]) (st' := [(.int (0 : Int32))]) rfl (by exact trivial) (pc' := 41) rfl ?_
        exact hp_lf [3, 1] rfl (fun _ e => e)
      · refine hp_b hm (at1 7 rfl) (L' := [(6, (.long v3)), (4, (.long v1)), (0, (.long x1)), (2, (.long x2))]) (st' := [(.int (1 : Int32))]) rfl (by exact trivial) (pc' := 37) rfl ?_
        refine hp_goto hm 2 rfl (tgt := 41) rfl ?_
        exact hp_lf [3, 1] rfl (fun _ e => e)
    · refine hp_JZ 52 (fun (p9 : Int32) => [(4, (.long v1))]) (fun (p9 : Int32) => [(.int p9), (.int p7)]) (fun (p9 : Int32) => h) ?_ (fun p9 => ?_)
      · refine hp_sv0 ?_
        refine hp_lc_ge hm (at1 8 rfl) rfl (by exact trivial) (pc' := 44) rfl 5 rfl (tgt := 51) rfl (fun c10 => ?_) (fun c10 => ?_)
        · refine hp_b hm (at1 9 rfl) (L' := [(2, (.long x2)), (4, (.long v1))]) (st' := [(.int (0 : Int32)), (.int p7)]) rfl (by exact trivial) (pc' := 52) rfl ?_
          exact hp_lf [1] rfl (fun _ e => e)
        · refine hp_b hm (at1 10 rfl) (L' := [(2, (.long x2)), (4, (.long v1))]) (st' := [(.int (1 : Int32)), (.int p7)]) rfl (by exact trivial) (pc' := 48) rfl ?_
          refine hp_goto hm 4 rfl (tgt := 52) rfl ?_
          exact hp_lf [1] rfl (fun _ e => e)
      · refine hp_ic_ne hm at0 rfl (by exact trivial) (pc' := 52) rfl 8 rfl (tgt := 62) rfl (fun c11 => ?_) (fun c11 => ?_)
        · refine hp_b hm (at1 11 rfl) (L' := [(4, (.long v1))]) (st' := [(.long (v1 - (1 : Int64)))]) rfl (by exact trivial) (pc' := 66) rfl ?_
          exact hp_lr hm at0 rfl (by exact trivial) (pc' := 66) rfl 6 rfl rfl (fun _ e => e)
        · refine hp_b hm (at1 12 rfl) (L' := [(4, (.long v1))]) (st' := [(.long (v1 + (1 : Int64)))]) rfl (by exact trivial) (pc' := 59) rfl ?_
          refine hp_goto hm 7 rfl (tgt := 66) rfl ?_
          exact hp_lr hm at0 rfl (by exact trivial) (pc' := 66) rfl 6 rfl rfl (fun _ e => e)
  · exact hp_lr hm (at1 13 rfl) rfl (by exact trivial) (pc' := 29) rfl 9 rfl rfl (fun _ e => e)
/-! HintHouse$Machine.scaled(J)I -/
def M_Ma_scaled : hM := (4, ⟨"HintHouse$Machine", "scaled", "(J)I"⟩, prog_6_method_4_code, 3, (Option.some Jvm.ClassFile.FieldType.int), [], [(0, [(.lload_n 1, 1, 0, 0, 0, .null), (.aload_n 0, 1, 0, 0, 0, .null), (.getfield 84, 3, 4, 4, 0, .null), (.i2l, 1, 0, 0, 0, .null), (.lmul, 1, 0, 0, 0, .null), (.ldc2_w 149, 3, 0, 0, 0, (.long (64 : Int64))), (.lmul, 1, 0, 0, 0, .null), (.aload_n 0, 1, 0, 0, 0, .null), (.getfield 73, 3, 4, 0, 4, .null), (.getfield 151, 3, 2, 6, 0, .null), (.i2l, 1, 0, 0, 0, .null)]), (22, [(.l2i, 1, 0, 0, 0, .null)])], [(19, .invokestatic 154, 3), (23, .ireturn, 1)])
set_option maxRecDepth 100000 in
theorem m_Ma_scaled : hx_mok M_Ma_scaled = true := by decide +kernel
theorem pd_Ma_scaled : (parseMethodDescriptor M_Ma_scaled.2.1.desc).map (fun q => q.parameters.length) = some 1 := by decide +kernel
theorem y_Ma_scaled : hx_okV M_Ma_scaled := ⟨⟨lw_g (lw_at lw_m5 106 rfl) rfl, lw_g (lw_at lw_m5 104 rfl) rfl, lw_g (lw_at lw_m5 105 rfl) rfl, lw_g (lw_at lw_m1 5 rfl) rfl, rfl, by decide, by decide, by decide⟩, rfl, by decide, plainFor_of_name (by decide)⟩
noncomputable def f_Ma_scaled (x1 : Int64) (h : hH) : Option Int32 :=
  bP (f_HH_over ((x1 * (Int32.toInt64 (rdI h 22 4))) * (64 : Int64)) (Int32.toInt64 (rdI h 4 6))) fun a1 =>
  some (Int64.toInt32 a1)
set_option maxRecDepth 20000 in
theorem k_Ma_scaled (x1 : Int64) (h : hH) : hx_kP S0 M_Ma_scaled 3 NT [(.ref 22), (.long x1)] h (f_Ma_scaled x1 h) cvI := by
  have hm := m_Ma_scaled
  show hx_P S0 M_Ma_scaled 3 0 [(0, (.ref 22)), (1, (.long x1))] [] NT h (f_Ma_scaled x1 h) (hx_Rp cvI NT h)
  unfold f_Ma_scaled
  refine hp_cNP (M2 := M_HH_over) hm (at1 0 rfl) (as := [(.long ((x1 * (Int32.toInt64 (rdI h 22 4))) * (64 : Int64))), (.long (Int32.toInt64 (rdI h 4 6)))]) (rest := []) rfl (by exact ⟨⟨og_22, og_22⟩, og_4⟩) (pc' := 19) rfl 0 rfl (hmn_4_154) y_HH_over rfl (d2 := 2) ⟨le_b rfl, pd_HH_over, le_b rfl⟩ (le_b rfl) (k_HH_over ((x1 * (Int32.toInt64 (rdI h 22 4))) * (64 : Int64)) (Int32.toInt64 (rdI h 4 6)) h) (fun a1 => ?_)
  exact hp_ir hm (at1 1 rfl) rfl (by exact trivial) (pc' := 23) rfl 1 rfl rfl (vp_nar_int _) (fun _ e => e)
/-! HintHouse$Zone.place(III)V -/
def M_Zo_place : hM := (6, ⟨"HintHouse$Zone", "place", "(III)V"⟩, prog_11_method_4_code, 4, (Option.none : Option Jvm.ClassFile.FieldType), [], [(0, [(.aload_n 0, 1, 0, 0, 0, .null), (.getfield 7, 3, 6, 0, 4, .null), (.iload_n 1, 1, 0, 0, 0, .null), (.iload_n 2, 1, 0, 0, 0, .null), (.iastore, 1, 0, 0, 0, .null)]), (7, [(.aload_n 0, 1, 0, 0, 0, .null), (.getfield 13, 3, 6, 1, 4, .null), (.iload_n 1, 1, 0, 0, 0, .null), (.iload_n 3, 1, 0, 0, 0, .null), (.iastore, 1, 0, 0, 0, .null)]), (14, [(.aload_n 0, 1, 0, 0, 0, .null), (.getfield 16, 3, 6, 2, 4, .null), (.iload_n 1, 1, 0, 0, 0, .null), (.iload_n 2, 1, 0, 0, 0, .null), (.iastore, 1, 0, 0, 0, .null)]), (21, [(.aload_n 0, 1, 0, 0, 0, .null), (.getfield 19, 3, 6, 3, 4, .null), (.iload_n 1, 1, 0, 0, 0, .null), (.iload_n 3, 1, 0, 0, 0, .null), (.iastore, 1, 0, 0, 0, .null)])], [(28, .return_, 1)])
set_option maxRecDepth 100000 in
theorem m_Zo_place : hx_mok M_Zo_place = true := by decide +kernel
theorem pd_Zo_place : (parseMethodDescriptor M_Zo_place.2.1.desc).map (fun q => q.parameters.length) = some 3 := by decide +kernel
theorem y_Zo_place : hx_okV M_Zo_place := ⟨⟨lw_g (lw_at lw_m5 122 rfl) rfl, lw_g (lw_at lw_m5 120 rfl) rfl, lw_g (lw_at lw_m5 121 rfl) rfl, lw_g (lw_at lw_m1 7 rfl) rfl, rfl, by decide, by decide, by decide⟩, rfl, by decide, plainFor_of_name (by decide)⟩
noncomputable def f_Zo_place (z : Nat) (x1 : Int32) (x2 : Int32) (x3 : Int32) (h : hH) : Option (Unit × hH) :=
  gd (vp_in x1 (zr z)) <|
  lz (wrI h (rf z 0) (Int32.toNatClampNeg x1) x2) fun h1 =>
  gd (vp_in x1 (zr z)) <|
  lz (wrI h1 (rf z 1) (Int32.toNatClampNeg x1) x3) fun h2 =>
  gd (vp_in x1 (zr z)) <|
  lz (wrI h2 (rf z 2) (Int32.toNatClampNeg x1) x2) fun h3 =>
  gd (vp_in x1 (zr z)) <|
  lz (wrI h3 (rf z 3) (Int32.toNatClampNeg x1) x3) fun h4 =>
  some ((), h4)
set_option maxRecDepth 20000 in
theorem k_Zo_place (z : Nat) (x1 : Int32) (x2 : Int32) (x3 : Int32) (h : hH) (hz : isA 6 z) : hx_kS S0 M_Zo_place 1 NT [(.ref z), (.int x1), (.int x2), (.int x3)] h (f_Zo_place z x1 x2 x3 h) cvU := by
  have hm := m_Zo_place
  show hx_P S0 M_Zo_place 1 0 [(0, (.ref z)), (1, (.int x1)), (2, (.int x2)), (3, (.int x3))] [] NT h (f_Zo_place z x1 x2 x3 h) (hx_Rc cvU NT)
  unfold f_Zo_place
  refine hp_GW hm (at1 0 rfl) (L' := [(0, (.ref z)), (1, (.int x1)), (2, (.int x2)), (3, (.int x3))]) rfl (fun hP => (by exact ⟨hz, ⟨(rt_6_0 hz), (vp_cst (rl_6_0 hz) hP)⟩⟩)) (pc' := 7) rfl (fun q1 h1 => ?_)
  refine hp_GW hm (at1 1 rfl) (L' := [(0, (.ref z)), (1, (.int x1)), (2, (.int x2)), (3, (.int x3))]) rfl (fun hP => (by exact ⟨hz, ⟨(rt_6_1 hz), (vp_cst (rl_6_1 hz) hP)⟩⟩)) (pc' := 14) rfl (fun q2 h2 => ?_)
  refine hp_GW hm (at1 2 rfl) (L' := [(0, (.ref z)), (1, (.int x1)), (2, (.int x2)), (3, (.int x3))]) rfl (fun hP => (by exact ⟨hz, ⟨(rt_6_2 hz), (vp_cst (rl_6_2 hz) hP)⟩⟩)) (pc' := 21) rfl (fun q3 h3 => ?_)
  refine hp_GW hm (at1 3 rfl) (L' := [(0, (.ref z)), (1, (.int x1)), (2, (.int x2)), (3, (.int x3))]) rfl (fun hP => (by exact ⟨hz, ⟨(rt_6_3 hz), (vp_cst (rl_6_3 hz) hP)⟩⟩)) (pc' := 28) rfl (fun q4 h4 => ?_)
  exact hp_vr hm 0 rfl rfl (fun _ e => e)
/-! HintHouse$Zone.clear(I)V -/
def M_Zo_clear : hM := (6, ⟨"HintHouse$Zone", "clear", "(I)V"⟩, prog_11_method_2_code, 3, (Option.none : Option Jvm.ClassFile.FieldType), [], [(0, [(.aload_n 0, 1, 0, 0, 0, .null), (.iload_n 1, 1, 0, 0, 0, .null), (.putfield 29, 3, 6, 6, 0, .null)]), (5, [(.iconst 0, 1, 0, 0, 0, (.int (0 : Int32))), (.istore_n 2, 1, 0, 0, 0, .null)]), (7, [(.iload_n 2, 1, 0, 0, 0, .null), (.iload_n 1, 1, 0, 0, 0, .null)]), (12, [(.aload_n 0, 1, 0, 0, 0, .null), (.iload_n 2, 1, 0, 0, 0, .null), (.iconst 0, 1, 0, 0, 0, (.int (0 : Int32))), (.iconst 0, 1, 0, 0, 0, (.int (0 : Int32)))]), (19, [(.aload_n 0, 1, 0, 0, 0, .null), (.getfield 22, 3, 6, 4, 4, .null), (.iload_n 2, 1, 0, 0, 0, .null), (.iconst 0, 1, 0, 0, 0, (.int (0 : Int32))), (.bastore, 1, 101, 0, 0, .null)]), (26, [(.aload_n 0, 1, 0, 0, 0, .null), (.getfield 26, 3, 6, 5, 4, .null), (.iload_n 2, 1, 0, 0, 0, .null), (.iconst 0, 1, 0, 0, 0, (.int (0 : Int32))), (.bastore, 1, 101, 0, 0, .null)]), (33, [(.iinc 2 1, 3, 0, 0, 0, (.int (1 : Int32)))])], [(16, .invokevirtual 33, 3), (36, .goto (-29), 3), (9, .if_icmp .ge 30, 3), (39, .return_, 1)])
set_option maxRecDepth 100000 in
theorem m_Zo_clear : hx_mok M_Zo_clear = true := by decide +kernel
theorem pd_Zo_clear : (parseMethodDescriptor M_Zo_clear.2.1.desc).map (fun q => q.parameters.length) = some 1 := by decide +kernel
theorem y_Zo_clear : hx_okV M_Zo_clear := ⟨⟨lw_g (lw_at lw_m5 118 rfl) rfl, lw_g (lw_at lw_m5 116 rfl) rfl, lw_g (lw_at lw_m5 117 rfl) rfl, lw_g (lw_at lw_m1 7 rfl) rfl, rfl, by decide, by decide, by decide⟩, rfl, by decide, plainFor_of_name (by decide)⟩
noncomputable def f_Zo_clear (z : Nat) (x1 : Int32) (h : hH) : Option (Unit × hH) :=
  lz (wrI h z 6 x1) fun h1 =>
  bP (A := hH) (
    wh (A := (Int32 × hH)) (B := hH) (fun p1 =>
        if x1 ≤ p1.1 then (
          some (.inr p1.2)
        ) else (
          bS (f_Zo_place z p1.1 (0 : Int32) (0 : Int32) p1.2) fun _ h2 =>
          gd (vp_in p1.1 (zr z)) <|
          lz (wrI h2 (rf z 4) (Int32.toNatClampNeg p1.1) ((0 : Int32) &&& 1)) fun h3 =>
          gd (vp_in p1.1 (zr z)) <|
          lz (wrI h3 (rf z 5) (Int32.toNatClampNeg p1.1) ((0 : Int32) &&& 1)) fun h4 =>
          lz (A := Int32) (p1.1 + (1 : Int32)) fun v5 =>
          some (.inl (v5, h4))
        )
    ) ((0 : Int32), h1)
  ) fun p2 =>
  some ((), p2)
set_option maxRecDepth 20000 in
theorem k_Zo_clear (z : Nat) (x1 : Int32) (h : hH) (hz : isA 6 z) : hx_kS S0 M_Zo_clear 2 NT [(.ref z), (.int x1)] h (f_Zo_clear z x1 h) cvU := by
  have hm := m_Zo_clear
  show hx_P S0 M_Zo_clear 2 0 [(0, (.ref z)), (1, (.int x1))] [] NT h (f_Zo_clear z x1 h) (hx_Rc cvU NT)
  unfold f_Zo_clear
  refine hp_w hm (at1 0 rfl) (L' := [(0, (.ref z)), (1, (.int x1))]) rfl (by exact hz) (pc' := 5) rfl (fun h1 => ?_)
  refine hp_b hm (at1 1 rfl) (L' := [(2, (.int (0 : Int32))), (0, (.ref z)), (1, (.int x1))]) (st' := []) rfl (by exact trivial) (pc' := 7) rfl ?_
  refine hp_J 39 (fun (p2 : hH) => []) (fun (p2 : hH) => []) (fun (p2 : hH) => p2) ?_ (fun p2 => ?_)
  · refine hp_s [1, 2, 0] rfl (L' := [(0, (.ref z)), (1, (.int x1)), (2, (.int (0 : Int32)))]) ?_
    refine hp_wh (fun (p1 : (Int32 × hH)) => [(0, (.ref z)), (1, (.int x1)), (2, (.int p1.1))]) [] (fun (p1 : (Int32 × hH)) => p1.2) (fun p1 => ?_) ((0 : Int32), h1)
    refine hp_ic_ge hm (at1 2 rfl) rfl (by exact trivial) (pc' := 9) rfl 2 rfl (tgt := 39) rfl (fun c6 => ?_) (fun c6 => ?_)
    · exact hp_lf [] rfl (fun _ e => e)
    · refine hp_cVS (M2 := M_Zo_place) hm (at1 3 rfl) (as := [(.int p1.1), (.int (0 : Int32)), (.int (0 : Int32))]) (rest := []) (z := z) rfl (by exact trivial) (pc' := 16) rfl 0 rfl (lw_g (lw_at lw_m5 119 rfl) rfl) y_Zo_place rfl (d2 := 1) ⟨le_b rfl, pd_Zo_place, le_b rfl⟩ (le_b rfl) hz (k_Zo_place z p1.1 (0 : Int32) (0 : Int32) p1.2 hz) (fun _ h2 => ?_)
      refine hp_GW hm (at1 4 rfl) (L' := [(0, (.ref z)), (1, (.int x1)), (2, (.int p1.1))]) rfl (fun hP => (by exact ⟨hz, ⟨(rt_6_4 hz), (vp_cst (rl_6_4 hz) hP)⟩⟩)) (pc' := 26) rfl (fun q3 h3 => ?_)
      refine hp_GW hm (at1 5 rfl) (L' := [(0, (.ref z)), (1, (.int x1)), (2, (.int p1.1))]) rfl (fun hP => (by exact ⟨hz, ⟨(rt_6_5 hz), (vp_cst (rl_6_5 hz) hP)⟩⟩)) (pc' := 33) rfl (fun q4 h4 => ?_)
      refine hp_z hm (at1 6 rfl) (fun (v5 : Int32) => [(2, (.int v5)), (0, (.ref z)), (1, (.int x1))]) (fun (v5 : Int32) => []) rfl (by exact trivial) (pc' := 36) rfl (fun v5 => ?_)
      refine hp_goto hm 1 rfl (tgt := 7) rfl ?_
      exact hp_lf [1, 2, 0] rfl (fun _ e => e)
  · exact hp_vr hm 3 rfl rfl (fun _ e => e)
/-! HintHouse$Settings.clear()V -/
def M_Se_clear : hM := (7, ⟨"HintHouse$Settings", "clear", "()V"⟩, prog_9_method_2_code, 1, (Option.none : Option Jvm.ClassFile.FieldType), [], [(0, [(.aload_n 0, 1, 0, 0, 0, .null), (.bipush 68, 2, 0, 0, 0, (.int (68 : Int32))), (.putfield 7, 3, 7, 0, 0, .null)]), (6, [(.aload_n 0, 1, 0, 0, 0, .null), (.iconst 0, 1, 0, 0, 0, (.int (0 : Int32))), (.putfield 13, 3, 7, 1, 0, .null)]), (11, [(.aload_n 0, 1, 0, 0, 0, .null), (.iconst 0, 1, 0, 0, 0, (.int (0 : Int32))), (.putfield 16, 3, 7, 2, 0, .null)]), (16, [(.aload_n 0, 1, 0, 0, 0, .null), (.bipush 64, 2, 0, 0, 0, (.int (64 : Int32))), (.putfield 19, 3, 7, 3, 0, .null)]), (22, [(.aload_n 0, 1, 0, 0, 0, .null), (.iconst 1, 1, 0, 0, 0, (.int (1 : Int32))), (.putfield 22, 3, 7, 4, 1, .null)]), (27, [(.aload_n 0, 1, 0, 0, 0, .null), (.bipush 9, 2, 0, 0, 0, (.int (9 : Int32))), (.putfield 26, 3, 7, 5, 0, .null)]), (33, [(.aload_n 0, 1, 0, 0, 0, .null), (.iconst 3, 1, 0, 0, 0, (.int (3 : Int32))), (.putfield 29, 3, 7, 6, 0, .null)]), (38, [(.aload_n 0, 1, 0, 0, 0, .null), (.iconst 0, 1, 0, 0, 0, (.int (0 : Int32))), (.putfield 32, 3, 7, 7, 0, .null)]), (43, [(.aload_n 0, 1, 0, 0, 0, .null), (.iconst 0, 1, 0, 0, 0, (.int (0 : Int32))), (.putfield 35, 3, 7, 8, 0, .null)])], [(48, .return_, 1)])
set_option maxRecDepth 100000 in
theorem m_Se_clear : hx_mok M_Se_clear = true := by decide +kernel
theorem pd_Se_clear : (parseMethodDescriptor M_Se_clear.2.1.desc).map (fun q => q.parameters.length) = some 0 := by decide +kernel
theorem y_Se_clear : hx_okV M_Se_clear := ⟨⟨lw_g (lw_at lw_m5 126 rfl) rfl, lw_g (lw_at lw_m5 124 rfl) rfl, lw_g (lw_at lw_m5 125 rfl) rfl, lw_g (lw_at lw_m1 8 rfl) rfl, rfl, by decide, by decide, by decide⟩, rfl, by decide, plainFor_of_name (by decide)⟩
noncomputable def f_Se_clear (z : Nat) (h : hH) : Option (Unit × hH) :=
  lz (wrI h z 0 (68 : Int32)) fun h1 =>
  lz (wrI h1 z 1 (0 : Int32)) fun h2 =>
  lz (wrI h2 z 2 (0 : Int32)) fun h3 =>
  lz (wrI h3 z 3 (64 : Int32)) fun h4 =>
  lz (wrI h4 z 4 (1 : Int32)) fun h5 =>
  lz (wrI h5 z 5 (9 : Int32)) fun h6 =>
  lz (wrI h6 z 6 (3 : Int32)) fun h7 =>
  lz (wrI h7 z 7 (0 : Int32)) fun h8 =>
  lz (wrI h8 z 8 (0 : Int32)) fun h9 =>
  some ((), h9)
set_option maxRecDepth 20000 in
theorem k_Se_clear (z : Nat) (h : hH) (hz : isA 7 z) : hx_kS S0 M_Se_clear 1 NT [(.ref z)] h (f_Se_clear z h) cvU := by
  have hm := m_Se_clear
  show hx_P S0 M_Se_clear 1 0 [(0, (.ref z))] [] NT h (f_Se_clear z h) (hx_Rc cvU NT)
  unfold f_Se_clear
  refine hp_w hm (at1 0 rfl) (L' := [(0, (.ref z))]) rfl (by exact hz) (pc' := 6) rfl (fun h1 => ?_)
  refine hp_w hm (at1 1 rfl) (L' := [(0, (.ref z))]) rfl (by exact hz) (pc' := 11) rfl (fun h2 => ?_)
  refine hp_w hm (at1 2 rfl) (L' := [(0, (.ref z))]) rfl (by exact hz) (pc' := 16) rfl (fun h3 => ?_)
  refine hp_w hm (at1 3 rfl) (L' := [(0, (.ref z))]) rfl (by exact hz) (pc' := 22) rfl (fun h4 => ?_)
  refine hp_w hm (at1 4 rfl) (L' := [(0, (.ref z))]) rfl (by exact ⟨hz, (Or.inr rfl)⟩) (pc' := 27) rfl (fun h5 => ?_)
  refine hp_w hm (at1 5 rfl) (L' := [(0, (.ref z))]) rfl (by exact hz) (pc' := 33) rfl (fun h6 => ?_)
  refine hp_w hm (at1 6 rfl) (L' := [(0, (.ref z))]) rfl (by exact hz) (pc' := 38) rfl (fun h7 => ?_)
  refine hp_w hm (at1 7 rfl) (L' := [(0, (.ref z))]) rfl (by exact hz) (pc' := 43) rfl (fun h8 => ?_)
  refine hp_w hm (at1 8 rfl) (L' := [(0, (.ref z))]) rfl (by exact hz) (pc' := 48) rfl (fun h9 => ?_)
  exact hp_vr hm 0 rfl rfl (fun _ e => e)
