/-! LAYER 2b: methods (printed by gen/dec.py): Ma_low Ma_deltas Ma_index Ma_setPlace Ma_held Ma_pushTruth Ma_compare Ma_middle Ma_reckon Ma_ownRounding Ma_last Ma_onPoint Ma_twoVectors Ma_others Ma_upper -/
/-! HintHouse$Machine.low(I)V -/
def M_Ma_low : hM := (4, ⟨"HintHouse$Machine", "low", "(I)V"⟩, prog_6_method_43_code, 5, (Option.none : Option Jvm.ClassFile.FieldType), [], [(0, [(.iload_n 1, 1, 0, 0, 0, .null)]), (136, [(.aload_n 0, 1, 0, 0, 0, .null), (.iconst 1, 1, 0, 0, 0, (.int (1 : Int32)))]), (141, [(.aload_n 0, 1, 0, 0, 0, .null), (.aload_n 0, 1, 0, 0, 0, .null), (.getfield 34, 3, 4, 14, 4, .null), (.aload_n 0, 1, 0, 0, 0, .null), (.getfield 170, 3, 4, 15, 0, .null), (.iconst 1, 1, 0, 0, 0, (.int (1 : Int32))), (.isub, 1, 0, 0, 0, .null), (.iaload, 1, 0, 0, 0, .null), (.i2l, 1, 0, 0, 0, .null)]), (160, [(.aload_n 0, 1, 0, 0, 0, .null), (.iconst 1, 1, 0, 0, 0, (.int (1 : Int32)))]), (165, [(.aload_n 0, 1, 0, 0, 0, .null), (.dup, 1, 0, 0, 0, .null), (.getfield 170, 3, 4, 15, 0, .null), (.iconst 1, 1, 0, 0, 0, (.int (1 : Int32))), (.isub, 1, 0, 0, 0, .null), (.putfield 170, 3, 4, 15, 0, .null)]), (178, [(.aload_n 0, 1, 0, 0, 0, .null), (.iconst 0, 1, 0, 0, 0, (.int (0 : Int32))), (.putfield 170, 3, 4, 15, 0, .null)]), (186, [(.aload_n 0, 1, 0, 0, 0, .null), (.iconst 2, 1, 0, 0, 0, (.int (2 : Int32)))]), (191, [(.aload_n 0, 1, 0, 0, 0, .null)]), (195, [(.istore_n 2, 1, 0, 0, 0, .null), (.aload_n 0, 1, 0, 0, 0, .null)]), (200, [(.istore_n 3, 1, 0, 0, 0, .null), (.aload_n 0, 1, 0, 0, 0, .null), (.iload_n 2, 1, 0, 0, 0, .null), (.i2l, 1, 0, 0, 0, .null)]), (207, [(.aload_n 0, 1, 0, 0, 0, .null), (.iload_n 3, 1, 0, 0, 0, .null), (.i2l, 1, 0, 0, 0, .null)]), (216, [(.aload_n 0, 1, 0, 0, 0, .null), (.aload_n 0, 1, 0, 0, 0, .null), (.getfield 170, 3, 4, 15, 0, .null), (.i2l, 1, 0, 0, 0, .null)]), (290, [(.aload_n 0, 1, 0, 0, 0, .null), (.iload_n 1, 1, 0, 0, 0, .null)]), (298, [(.aload_n 0, 1, 0, 0, 0, .null)]), (305, [(.aload_n 0, 1, 0, 0, 0, .null), (.bipush 32, 2, 0, 0, 0, (.int (32 : Int32))), (.iconst 0, 1, 0, 0, 0, (.int (0 : Int32))), (.bipush 16, 2, 0, 0, 0, (.int (16 : Int32)))]), (246, [(.aload_n 0, 1, 0, 0, 0, .null), (.iload_n 1, 1, 0, 0, 0, .null), (.bipush 43, 2, 0, 0, 0, (.int (43 : Int32)))]), (257, [(.iconst 2, 1, 0, 0, 0, (.int (2 : Int32)))]), (253, [(.iconst 1, 1, 0, 0, 0, (.int (1 : Int32)))]), (261, [(.aload_n 0, 1, 0, 0, 0, .null)]), (265, [(.istore 4, 2, 0, 0, 0, .null), (.aload_n 0, 1, 0, 0, 0, .null), (.iload 4, 2, 0, 0, 0, .null), (.iload_n 1, 1, 0, 0, 0, .null), (.bipush 43, 2, 0, 0, 0, (.int (43 : Int32)))]), (280, [(.aload_n 0, 1, 0, 0, 0, .null)]), (276, [(.iconst 1, 1, 0, 0, 0, (.int (1 : Int32)))]), (317, [(.aload_n 0, 1, 0, 0, 0, .null), (.iload_n 1, 1, 0, 0, 0, .null)]), (228, [(.aload_n 0, 1, 0, 0, 0, .null), (.iload_n 1, 1, 0, 0, 0, .null), (.bipush 38, 2, 0, 0, 0, (.int (38 : Int32)))]), (239, [(.iconst 0, 1, 0, 0, 0, (.int (0 : Int32)))]), (235, [(.iconst 1, 1, 0, 0, 0, (.int (1 : Int32)))])], [(1, .tableswitch 316 32 61 #[135, 159, 177, 185, 215, 227, 227, 316, 316, 316, 245, 245, 289, 297, 316, 316, 316, 316, 316, 316, 316, 316, 316, 316, 316, 316, 316, 316, 316, 304], 135), (138, .invokevirtual 334, 3), (154, .invokevirtual 242, 3), (322, .return_, 1), (157, .goto 165, 3), (162, .invokevirtual 334, 3), (175, .goto 147, 3), (183, .goto 139, 3), (188, .invokevirtual 334, 3), (192, .invokevirtual 337, 3), (197, .invokevirtual 337, 3), (204, .invokevirtual 242, 3), (210, .invokevirtual 242, 3), (213, .goto 109, 3), (222, .invokevirtual 242, 3), (225, .goto 97, 3), (292, .invokevirtual 416, 3), (295, .goto 27, 3), (299, .invokevirtual 419, 3), (302, .goto 20, 3), (311, .invokevirtual 183, 3), (314, .goto 8, 3), (254, .goto 4, 3), (250, .if_icmp .ne 7, 3), (258, .invokevirtual 334, 3), (262, .invokevirtual 337, 3), (281, .invokevirtual 337, 3), (277, .goto 7, 3), (273, .if_icmp .ne 7, 3), (284, .invokevirtual 413, 3), (287, .goto 35, 3), (319, .invokevirtual 422, 3), (236, .goto 4, 3), (232, .if_icmp .ne 7, 3), (240, .invokevirtual 410, 3), (243, .goto 79, 3)])
set_option maxRecDepth 100000 in
theorem m_Ma_low : hx_mok M_Ma_low = true := by decide +kernel
theorem pd_Ma_low : (parseMethodDescriptor M_Ma_low.2.1.desc).map (fun q => q.parameters.length) = some 1 := by decide +kernel
theorem y_Ma_low : hx_okV M_Ma_low := ⟨⟨lw_g (lw_at lw_m6 107 rfl) rfl, lw_g (lw_at lw_m6 106 rfl) rfl, qs69, lw_g (lw_at lw_m1 5 rfl) rfl, rfl, by decide, by decide, by decide⟩, rfl, by decide, plainFor_of_name (by decide)⟩
noncomputable def f_Ma_low (x1 : Int32) (h : hH) : Option (hH ⊕ (Unit × hH)) :=
  bET (P := Unit) (X := (Unit × hH)) (
    bET (P := Unit) (X := (Unit ⊕ (Unit × hH))) (
      bET (P := Unit) (X := (Unit ⊕ (Unit ⊕ (Unit × hH)))) (
        if x1 = (32 : Int32) then (
          bT (f_Ma_need (1 : Int32) h) fun _ h1 =>
          gd (vp_in ((rdI h1 22 15) - (1 : Int32)) 256) <|
          bT (f_Ma_push (Int32.toInt64 (rdI h1 43 (Int32.toNatClampNeg ((rdI h1 22 15) - (1 : Int32))))) h1) fun _ h2 =>
          some (.inr (.inr (.inr (.inr ((), h2)))))
        ) else (
          if x1 = (33 : Int32) then (
            bT (f_Ma_need (1 : Int32) h) fun _ h3 =>
            lz (wrI h3 22 15 ((rdI h3 22 15) - (1 : Int32))) fun h4 =>
            some (.inr (.inr (.inr (.inr ((), h4)))))
          ) else (
            if x1 = (34 : Int32) then (
              lz (wrI h 22 15 (0 : Int32)) fun h5 =>
              some (.inr (.inr (.inr (.inr ((), h5)))))
            ) else (
              if x1 = (35 : Int32) then (
                bT (f_Ma_need (2 : Int32) h) fun _ h6 =>
                bS (f_Ma_pop h6) fun a8 h7 =>
                bS (f_Ma_pop h7) fun a9 h8 =>
                bT (f_Ma_push (Int32.toInt64 a8) h8) fun _ h9 =>
                bT (f_Ma_push (Int32.toInt64 a9) h9) fun _ h10 =>
                some (.inr (.inr (.inr (.inr ((), h10)))))
              ) else (
                if x1 = (36 : Int32) then (
                  bT (f_Ma_push (Int32.toInt64 (rdI h 22 15)) h) fun _ h11 =>
                  some (.inr (.inr (.inr (.inr ((), h11)))))
                ) else (
                  if x1 = (37 : Int32) ∨ x1 = (38 : Int32) then (
                    some (.inr (.inr (.inr (.inl ()))))
                  ) else (
                    if x1 = (42 : Int32) ∨ x1 = (43 : Int32) then (
                      some (.inr (.inl ()))
                    ) else (
                      if x1 = (44 : Int32) then (
                        bT (f_Ma_define x1 h) fun _ h12 =>
                        some (.inr (.inr (.inr (.inr ((), h12)))))
                      ) else (
                        if x1 = (45 : Int32) then (
                          bT (f_Ma_endCall h) fun _ h13 =>
                          some (.inr (.inr (.inr (.inr ((), h13)))))
                        ) else (
                          if x1 = (61 : Int32) then (
                            bS (f_Ma_rounding (32 : Int32) (0 : Int32) (16 : Int32) h) fun _ h14 =>
                            some (.inr (.inr (.inr (.inr ((), h14)))))
                          ) else (
                            some (.inr (.inr (.inl ())))
                          )
                        )
                      )
                    )
                  )
                )
              )
            )
          )
        )
      ) fun p3 =>
      lz (A := Int32) (if x1 = (43 : Int32) then (1 : Int32) else (2 : Int32)) fun p17 =>
      bT (f_Ma_need p17 h) fun _ h15 =>
      bS (f_Ma_pop h15) fun a19 h16 =>
      bJT (P := (Int32 × hH)) (
        if x1 = (43 : Int32) then (
          some (.inr ((1 : Int32), h16))
        ) else (
          bS (f_Ma_pop h16) fun a21 h17 =>
          some (.inr (a21, h17))
        )
      ) fun p20 =>
      bT (f_Ma_callFunction a19 p20.1 p20.2) fun _ h18 =>
      some (.inr (.inr (.inr ((), h18))))
    ) fun p2 =>
    bT (f_Ma_moving x1 h) fun _ h19 =>
    some (.inr (.inr ((), h19)))
  ) fun p1 =>
  lz (A := Int32) (if x1 = (38 : Int32) then (1 : Int32) else (0 : Int32)) fun p23 =>
  bT (f_Ma_fetch p23 h) fun _ h20 =>
  some (.inr ((), h20))
set_option maxRecDepth 20000 in
theorem k_Ma_low (x1 : Int32) (h : hH) : hx_kT S0 M_Ma_low 12 NT [(.ref 22), (.int x1)] h (f_Ma_low x1 h) cvU := by
  have hm := m_Ma_low
  show hx_P S0 M_Ma_low 12 0 [(0, (.ref 22)), (1, (.int x1))] [] NT h (f_Ma_low x1 h) (hx_T NT (hx_Rc cvU NT))
  unfold f_Ma_low
  refine hp_ET 228 (fun (p1 : Unit) => [(0, (.ref 22)), (1, (.int x1))]) (fun (p1 : Unit) => []) (fun (p1 : Unit) => h) ?_ (fun p1 => ?_)
  · refine hp_ET 317 (fun (p2 : Unit) => [(0, (.ref 22)), (1, (.int x1))]) (fun (p2 : Unit) => []) (fun (p2 : Unit) => h) ?_ (fun p2 => ?_)
    · refine hp_ET 246 (fun (p3 : Unit) => [(0, (.ref 22)), (1, (.int x1))]) (fun (p3 : Unit) => []) (fun (p3 : Unit) => h) ?_ (fun p3 => ?_)
      · refine hp_b hm (at1 0 rfl) (L' := [(0, (.ref 22)), (1, (.int x1))]) (st' := [(.int x1)]) rfl (by exact trivial) (pc' := 1) rfl ?_
        refine hp_sw hm 0 rfl (cs := [32]) (off := 135) (by decide) (tgt := 136) rfl (sw1 _ _) ?_ (fun c5 => ?_)
        · refine hp_cVT (M2 := M_Ma_need) hm (at1 1 rfl) (as := [(.int (1 : Int32))]) (rest := []) (z := 22) rfl (by exact trivial) (pc' := 138) rfl 1 rfl (lw_g (lw_at lw_m5 217 rfl) rfl) y_Ma_need rfl (d2 := 7) ⟨le_b rfl, pd_Ma_need, le_b rfl⟩ (le_b rfl) og_22 rfl (k_Ma_need (1 : Int32) h) (fun _ h1 => ?_)
          refine hp_G hm (at1 2 rfl) (L' := [(0, (.ref 22)), (1, (.int x1))]) (st' := [(.long (Int32.toInt64 (rdI h1 43 (Int32.toNatClampNeg ((rdI h1 22 15) - (1 : Int32)))))), (.ref 22)]) rfl (fun hP => (by exact ⟨⟨og_22, og_22⟩, ⟨og_43, hP⟩⟩)) (pc' := 154) rfl (fun q4 => ?_)
          refine hp_cVT (M2 := M_Ma_push) hm at0 (as := [(.long (Int32.toInt64 (rdI h1 43 (Int32.toNatClampNeg ((rdI h1 22 15) - (1 : Int32))))))]) (rest := []) (z := 22) rfl (by exact trivial) (pc' := 154) rfl 2 rfl (lw_g (lw_at lw_m6 42 rfl) rfl) y_Ma_push rfl (d2 := 7) ⟨le_b rfl, pd_Ma_push, le_b rfl⟩ (le_b rfl) og_22 rfl (k_Ma_push (Int32.toInt64 (rdI h1 43 (Int32.toNatClampNeg ((rdI h1 22 15) - (1 : Int32))))) h1) (fun _ h2 => ?_)
          refine hp_goto hm 4 rfl (tgt := 322) rfl ?_
          exact hp_vr hm 3 rfl rfl (fun _ e => e)
        · refine hp_sw hm 0 rfl (cs := [33]) (off := 159) (by decide) (tgt := 160) rfl (sw1 _ _) ?_ (fun c6 => ?_)
          · refine hp_cVT (M2 := M_Ma_need) hm (at1 3 rfl) (as := [(.int (1 : Int32))]) (rest := []) (z := 22) rfl (by exact trivial) (pc' := 162) rfl 5 rfl (lw_g (lw_at lw_m5 217 rfl) rfl) y_Ma_need rfl (d2 := 7) ⟨le_b rfl, pd_Ma_need, le_b rfl⟩ (le_b rfl) og_22 rfl (k_Ma_need (1 : Int32) h) (fun _ h3 => ?_)
            refine hp_w hm (at1 4 rfl) (L' := [(0, (.ref 22)), (1, (.int x1))]) rfl (by exact ⟨og_22, og_22⟩) (pc' := 175) rfl (fun h4 => ?_)
            refine hp_goto hm 6 rfl (tgt := 322) rfl ?_
            exact hp_vr hm 3 rfl rfl (fun _ e => e)
          · refine hp_sw hm 0 rfl (cs := [34]) (off := 177) (by decide) (tgt := 178) rfl (sw1 _ _) ?_ (fun c7 => ?_)
            · refine hp_w hm (at1 5 rfl) (L' := [(0, (.ref 22)), (1, (.int x1))]) rfl (by exact og_22) (pc' := 183) rfl (fun h5 => ?_)
              refine hp_goto hm 7 rfl (tgt := 322) rfl ?_
              exact hp_vr hm 3 rfl rfl (fun _ e => e)
            · refine hp_sw hm 0 rfl (cs := [35]) (off := 185) (by decide) (tgt := 186) rfl (sw1 _ _) ?_ (fun c10 => ?_)
              · refine hp_cVT (M2 := M_Ma_need) hm (at1 6 rfl) (as := [(.int (2 : Int32))]) (rest := []) (z := 22) rfl (by exact trivial) (pc' := 188) rfl 8 rfl (lw_g (lw_at lw_m5 217 rfl) rfl) y_Ma_need rfl (d2 := 7) ⟨le_b rfl, pd_Ma_need, le_b rfl⟩ (le_b rfl) og_22 rfl (k_Ma_need (2 : Int32) h) (fun _ h6 => ?_)
                refine hp_cVS (M2 := M_Ma_pop) hm (at1 7 rfl) (as := []) (rest := []) (z := 22) rfl (by exact trivial) (pc' := 192) rfl 9 rfl (lw_g (lw_at lw_m5 221 rfl) rfl) y_Ma_pop rfl (d2 := 1) ⟨le_b rfl, pd_Ma_pop, le_b rfl⟩ (le_b rfl) og_22 (k_Ma_pop h6) (fun a8 h7 => ?_)
                refine hp_b hm (at1 8 rfl) (L' := [(2, (.int a8)), (0, (.ref 22)), (1, (.int x1))]) (st' := [(.ref 22)]) rfl (by exact trivial) (pc' := 197) rfl ?_
                refine hp_cVS (M2 := M_Ma_pop) hm at0 (as := []) (rest := []) (z := 22) rfl (by exact trivial) (pc' := 197) rfl 10 rfl (lw_g (lw_at lw_m5 221 rfl) rfl) y_Ma_pop rfl (d2 := 1) ⟨le_b rfl, pd_Ma_pop, le_b rfl⟩ (le_b rfl) og_22 (k_Ma_pop h7) (fun a9 h8 => ?_)
                refine hp_b hm (at1 9 rfl) (L' := [(3, (.int a9)), (2, (.int a8)), (0, (.ref 22)), (1, (.int x1))]) (st' := [(.long (Int32.toInt64 a8)), (.ref 22)]) rfl (by exact trivial) (pc' := 204) rfl ?_
                refine hp_cVT (M2 := M_Ma_push) hm at0 (as := [(.long (Int32.toInt64 a8))]) (rest := []) (z := 22) rfl (by exact trivial) (pc' := 204) rfl 11 rfl (lw_g (lw_at lw_m6 42 rfl) rfl) y_Ma_push rfl (d2 := 7) ⟨le_b rfl, pd_Ma_push, le_b rfl⟩ (le_b rfl) og_22 rfl (k_Ma_push (Int32.toInt64 a8) h8) (fun _ h9 => ?_)
                refine hp_cVT (M2 := M_Ma_push) hm (at1 10 rfl) (as := [(.long (Int32.toInt64 a9))]) (rest := []) (z := 22) rfl (by exact trivial) (pc' := 210) rfl 12 rfl (lw_g (lw_at lw_m6 42 rfl) rfl) y_Ma_push rfl (d2 := 7) ⟨le_b rfl, pd_Ma_push, le_b rfl⟩ (le_b rfl) og_22 rfl (k_Ma_push (Int32.toInt64 a9) h9) (fun _ h10 => ?_)
                refine hp_goto hm 13 rfl (tgt := 322) rfl ?_
                exact hp_vr hm 3 rfl rfl (fun _ e => e)
              · refine hp_sw hm 0 rfl (cs := [36]) (off := 215) (by decide) (tgt := 216) rfl (sw1 _ _) ?_ (fun c11 => ?_)
                · refine hp_cVT (M2 := M_Ma_push) hm (at1 11 rfl) (as := [(.long (Int32.toInt64 (rdI h 22 15)))]) (rest := []) (z := 22) rfl (by exact og_22) (pc' := 222) rfl 14 rfl (lw_g (lw_at lw_m6 42 rfl) rfl) y_Ma_push rfl (d2 := 7) ⟨le_b rfl, pd_Ma_push, le_b rfl⟩ (le_b rfl) og_22 rfl (k_Ma_push (Int32.toInt64 (rdI h 22 15)) h) (fun _ h11 => ?_)
                  refine hp_goto hm 15 rfl (tgt := 322) rfl ?_
                  exact hp_vr hm 3 rfl rfl (fun _ e => e)
                · refine hp_sw hm 0 rfl (cs := [37, 38]) (off := 227) (by decide) (tgt := 228) rfl (sw2 _ _ _) ?_ (fun c12 => ?_)
                  · exact hp_lf [0, 1] rfl (fun _ e => e)
                  · refine hp_sw hm 0 rfl (cs := [42, 43]) (off := 245) (by decide) (tgt := 246) rfl (sw2 _ _ _) ?_ (fun c13 => ?_)
                    · exact hp_lf [0, 1] rfl (fun _ e => e)
                    · refine hp_sw hm 0 rfl (cs := [44]) (off := 289) (by decide) (tgt := 290) rfl (sw1 _ _) ?_ (fun c14 => ?_)
                      · refine hp_cVT (M2 := M_Ma_define) hm (at1 12 rfl) (as := [(.int x1)]) (rest := []) (z := 22) rfl (by exact trivial) (pc' := 292) rfl 16 rfl (lw_g (lw_at lw_m6 120 rfl) rfl) y_Ma_define rfl (d2 := 10) ⟨le_b rfl, pd_Ma_define, le_b rfl⟩ (le_b rfl) og_22 rfl (k_Ma_define x1 h) (fun _ h12 => ?_)
                        refine hp_goto hm 17 rfl (tgt := 322) rfl ?_
                        exact hp_vr hm 3 rfl rfl (fun _ e => e)
                      · refine hp_sw hm 0 rfl (cs := [45]) (off := 297) (by decide) (tgt := 298) rfl (sw1 _ _) ?_ (fun c15 => ?_)
                        · refine hp_cVT (M2 := M_Ma_endCall) hm (at1 13 rfl) (as := []) (rest := []) (z := 22) rfl (by exact trivial) (pc' := 299) rfl 18 rfl (lw_g (lw_at lw_m6 129 rfl) rfl) y_Ma_endCall rfl (d2 := 7) ⟨le_b rfl, pd_Ma_endCall, le_b rfl⟩ (le_b rfl) og_22 rfl (k_Ma_endCall h) (fun _ h13 => ?_)
                          refine hp_goto hm 19 rfl (tgt := 322) rfl ?_
                          exact hp_vr hm 3 rfl rfl (fun _ e => e)
                        · refine hp_sw hm 0 rfl (cs := [61]) (off := 304) (by decide) (tgt := 305) rfl (sw1 _ _) ?_ (fun c16 => ?_)
                          · refine hp_cVS (M2 := M_Ma_rounding) hm (at1 14 rfl) (as := [(.int (32 : Int32)), (.int (0 : Int32)), (.int (16 : Int32))]) (rest := []) (z := 22) rfl (by exact trivial) (pc' := 311) rfl 20 rfl (lw_g (lw_at lw_m5 135 rfl) rfl) y_Ma_rounding rfl (d2 := 1) ⟨le_b rfl, pd_Ma_rounding, le_b rfl⟩ (le_b rfl) og_22 (k_Ma_rounding (32 : Int32) (0 : Int32) (16 : Int32) h) (fun _ h14 => ?_)
                            refine hp_goto hm 21 rfl (tgt := 322) rfl ?_
                            exact hp_vr hm 3 rfl rfl (fun _ e => e)
                          · refine hp_sd2 hm 0 rfl (css := [[32], [33], [34], [35], [36], [37, 38], [42, 43], [44], [45], [61]]) (by decide) (by decide) (List.forall_mem_cons.mpr ⟨c5, (List.forall_mem_cons.mpr ⟨c6, (List.forall_mem_cons.mpr ⟨c7, (List.forall_mem_cons.mpr ⟨c10, (List.forall_mem_cons.mpr ⟨c11, (List.forall_mem_cons.mpr ⟨c12, (List.forall_mem_cons.mpr ⟨c13, (List.forall_mem_cons.mpr ⟨c14, (List.forall_mem_cons.mpr ⟨c15, (List.forall_mem_cons.mpr ⟨c16, (fun _ h => absurd h List.not_mem_nil)⟩)⟩)⟩)⟩)⟩)⟩)⟩)⟩)⟩)⟩) (tgt := 317) rfl ?_
                            exact hp_lf [0, 1] rfl (fun _ e => e)
      · refine hp_JZ 258 (fun (p17 : Int32) => [(0, (.ref 22)), (1, (.int x1))]) (fun (p17 : Int32) => [(.int p17), (.ref 22)]) (fun (p17 : Int32) => h) ?_ (fun p17 => ?_)
        · refine hp_sv0 ?_
          refine hp_ic_ne hm (at1 15 rfl) rfl (by exact trivial) (pc' := 250) rfl 23 rfl (tgt := 257) rfl (fun c18 => ?_) (fun c18 => ?_)
          · refine hp_b hm (at1 16 rfl) (L' := [(0, (.ref 22)), (1, (.int x1))]) (st' := [(.int (2 : Int32)), (.ref 22)]) rfl (by exact trivial) (pc' := 258) rfl ?_
            exact hp_lf [0, 1] rfl (fun _ e => e)
          · refine hp_b hm (at1 17 rfl) (L' := [(0, (.ref 22)), (1, (.int x1))]) (st' := [(.int (1 : Int32)), (.ref 22)]) rfl (by exact trivial) (pc' := 254) rfl ?_
            refine hp_goto hm 22 rfl (tgt := 258) rfl ?_
            exact hp_lf [0, 1] rfl (fun _ e => e)
        · refine hp_cVT (M2 := M_Ma_need) hm at0 (as := [(.int p17)]) (rest := []) (z := 22) rfl (by exact trivial) (pc' := 258) rfl 24 rfl (lw_g (lw_at lw_m5 217 rfl) rfl) y_Ma_need rfl (d2 := 7) ⟨le_b rfl, pd_Ma_need, le_b rfl⟩ (le_b rfl) og_22 rfl (k_Ma_need p17 h) (fun _ h15 => ?_)
          refine hp_cVS (M2 := M_Ma_pop) hm (at1 18 rfl) (as := []) (rest := []) (z := 22) rfl (by exact trivial) (pc' := 262) rfl 25 rfl (lw_g (lw_at lw_m5 221 rfl) rfl) y_Ma_pop rfl (d2 := 1) ⟨le_b rfl, pd_Ma_pop, le_b rfl⟩ (le_b rfl) og_22 (k_Ma_pop h15) (fun a19 h16 => ?_)
          refine hp_b hm (at1 19 rfl) (L' := [(4, (.int a19)), (0, (.ref 22)), (1, (.int x1))]) (st' := [(.int (43 : Int32)), (.int x1), (.int a19), (.ref 22)]) rfl (by exact trivial) (pc' := 273) rfl ?_
          refine hp_JT 284 (fun (p20 : (Int32 × hH)) => []) (fun (p20 : (Int32 × hH)) => [(.int p20.1), (.int a19), (.ref 22)]) (fun (p20 : (Int32 × hH)) => p20.2) ?_ (fun p20 => ?_)
          · refine hp_ic_ne hm at0 rfl (by exact trivial) (pc' := 273) rfl 28 rfl (tgt := 280) rfl (fun c22 => ?_) (fun c22 => ?_)
            · refine hp_cVS (M2 := M_Ma_pop) hm (at1 20 rfl) (as := []) (rest := [(.int a19), (.ref 22)]) (z := 22) rfl (by exact trivial) (pc' := 281) rfl 26 rfl (lw_g (lw_at lw_m5 221 rfl) rfl) y_Ma_pop rfl (d2 := 1) ⟨le_b rfl, pd_Ma_pop, le_b rfl⟩ (le_b rfl) og_22 (k_Ma_pop h16) (fun a21 h17 => ?_)
              exact hp_lf [] rfl (fun _ e => e)
            · refine hp_b hm (at1 21 rfl) (L' := [(4, (.int a19)), (0, (.ref 22)), (1, (.int x1))]) (st' := [(.int (1 : Int32)), (.int a19), (.ref 22)]) rfl (by exact trivial) (pc' := 277) rfl ?_
              refine hp_goto hm 27 rfl (tgt := 284) rfl ?_
              exact hp_lf [] rfl (fun _ e => e)
          · refine hp_cVT (M2 := M_Ma_callFunction) hm at0 (as := [(.int a19), (.int p20.1)]) (rest := []) (z := 22) rfl (by exact trivial) (pc' := 284) rfl 29 rfl (lw_g (lw_at lw_m6 112 rfl) rfl) y_Ma_callFunction rfl (d2 := 8) ⟨le_b rfl, pd_Ma_callFunction, le_b rfl⟩ (le_b rfl) og_22 rfl (k_Ma_callFunction a19 p20.1 p20.2) (fun _ h18 => ?_)
            refine hp_goto hm 30 rfl (tgt := 322) rfl ?_
            exact hp_vr hm 3 rfl rfl (fun _ e => e)
    · refine hp_cVT (M2 := M_Ma_moving) hm (at1 22 rfl) (as := [(.int x1)]) (rest := []) (z := 22) rfl (by exact trivial) (pc' := 319) rfl 31 rfl (lw_g (lw_at lw_m6 133 rfl) rfl) y_Ma_moving rfl (d2 := 11) ⟨le_b rfl, pd_Ma_moving, le_b rfl⟩ (le_b rfl) og_22 rfl (k_Ma_moving x1 h) (fun _ h19 => ?_)
      exact hp_vr hm 3 rfl rfl (fun _ e => e)
  · refine hp_JZ 240 (fun (p23 : Int32) => []) (fun (p23 : Int32) => [(.int p23), (.ref 22)]) (fun (p23 : Int32) => h) ?_ (fun p23 => ?_)
    · refine hp_sv0 ?_
      refine hp_ic_ne hm (at1 23 rfl) rfl (by exact trivial) (pc' := 232) rfl 33 rfl (tgt := 239) rfl (fun c24 => ?_) (fun c24 => ?_)
      · refine hp_b hm (at1 24 rfl) (L' := [(0, (.ref 22)), (1, (.int x1))]) (st' := [(.int (0 : Int32)), (.ref 22)]) rfl (by exact trivial) (pc' := 240) rfl ?_
        exact hp_lf [] rfl (fun _ e => e)
      · refine hp_b hm (at1 25 rfl) (L' := [(0, (.ref 22)), (1, (.int x1))]) (st' := [(.int (1 : Int32)), (.ref 22)]) rfl (by exact trivial) (pc' := 236) rfl ?_
        refine hp_goto hm 32 rfl (tgt := 240) rfl ?_
        exact hp_lf [] rfl (fun _ e => e)
    · refine hp_cVT (M2 := M_Ma_fetch) hm at0 (as := [(.int p23)]) (rest := []) (z := 22) rfl (by exact trivial) (pc' := 240) rfl 34 rfl (lw_g (lw_at lw_m6 108 rfl) rfl) y_Ma_fetch rfl (d2 := 8) ⟨le_b rfl, pd_Ma_fetch, le_b rfl⟩ (le_b rfl) og_22 rfl (k_Ma_fetch p23 h) (fun _ h20 => ?_)
      refine hp_goto hm 35 rfl (tgt := 322) rfl ?_
      exact hp_vr hm 3 rfl rfl (fun _ e => e)
/-! HintHouse$Machine.deltas(IZ)V -/
def M_Ma_deltas : hM := (4, ⟨"HintHouse$Machine", "deltas", "(IZ)V"⟩, prog_6_method_63_code, 12, (Option.none : Option Jvm.ClassFile.FieldType), [], [(0, [(.aload_n 0, 1, 0, 0, 0, .null), (.iconst 1, 1, 0, 0, 0, (.int (1 : Int32)))]), (5, [(.aload_n 0, 1, 0, 0, 0, .null)]), (9, [(.istore_n 3, 1, 0, 0, 0, .null), (.aload_n 0, 1, 0, 0, 0, .null), (.iload_n 3, 1, 0, 0, 0, .null)]), (19, [(.iconst 0, 1, 0, 0, 0, (.int (0 : Int32)))]), (15, [(.iconst 1, 1, 0, 0, 0, (.int (1 : Int32)))]), (20, [(.bipush 11, 2, 0, 0, 0, (.int (11 : Int32)))]), (25, [(.aload_n 0, 1, 0, 0, 0, .null), (.aload_n 0, 1, 0, 0, 0, .null), (.getfield 170, 3, 4, 15, 0, .null), (.i2l, 1, 0, 0, 0, .null), (.ldc2_w 287, 3, 0, 0, 0, (.long (2 : Int64))), (.iload_n 3, 1, 0, 0, 0, .null), (.i2l, 1, 0, 0, 0, .null), (.lmul, 1, 0, 0, 0, .null), (.lcmp, 1, 0, 0, 0, .null)]), (45, [(.iconst 0, 1, 0, 0, 0, (.int (0 : Int32)))]), (41, [(.iconst 1, 1, 0, 0, 0, (.int (1 : Int32)))]), (46, [(.iconst 1, 1, 0, 0, 0, (.int (1 : Int32)))]), (50, [(.iconst 0, 1, 0, 0, 0, (.int (0 : Int32))), (.istore 4, 2, 0, 0, 0, .null)]), (53, [(.iload 4, 2, 0, 0, 0, .null), (.iload_n 3, 1, 0, 0, 0, .null)]), (59, [(.aload_n 0, 1, 0, 0, 0, .null)]), (63, [(.istore 5, 2, 0, 0, 0, .null), (.aload_n 0, 1, 0, 0, 0, .null)]), (69, [(.istore 6, 2, 0, 0, 0, .null), (.aload_n 0, 1, 0, 0, 0, .null), (.getfield 12, 3, 4, 1, 4, .null), (.getfield 134, 3, 5, 5, 4, .null), (.getfield 520, 3, 7, 5, 0, .null), (.i2l, 1, 0, 0, 0, .null), (.iload 6, 2, 0, 0, 0, .null), (.iconst 4, 1, 0, 0, 0, (.int (4 : Int32))), (.ishr, 1, 0, 0, 0, .null), (.bipush 15, 2, 0, 0, 0, (.int (15 : Int32))), (.iand, 1, 0, 0, 0, .null), (.i2l, 1, 0, 0, 0, .null), (.ladd, 1, 0, 0, 0, .null), (.iload_n 1, 1, 0, 0, 0, .null), (.i2l, 1, 0, 0, 0, .null), (.ladd, 1, 0, 0, 0, .null), (.lstore 7, 2, 0, 0, 0, .null)]), (96, [(.iload 6, 2, 0, 0, 0, .null), (.bipush 15, 2, 0, 0, 0, (.int (15 : Int32))), (.iand, 1, 0, 0, 0, .null), (.bipush 8, 2, 0, 0, 0, (.int (8 : Int32))), (.isub, 1, 0, 0, 0, .null), (.istore 9, 2, 0, 0, 0, .null)]), (106, [(.iload 9, 2, 0, 0, 0, .null)]), (118, [(.iload 9, 2, 0, 0, 0, .null)]), (111, [(.iload 9, 2, 0, 0, 0, .null), (.iconst 1, 1, 0, 0, 0, (.int (1 : Int32))), (.iadd, 1, 0, 0, 0, .null)]), (120, [(.i2l, 1, 0, 0, 0, .null), (.bipush 6, 2, 0, 0, 0, (.int (6 : Int32))), (.aload_n 0, 1, 0, 0, 0, .null), (.getfield 12, 3, 4, 1, 4, .null), (.getfield 134, 3, 5, 5, 4, .null), (.getfield 525, 3, 7, 6, 0, .null), (.isub, 1, 0, 0, 0, .null), (.lshl, 1, 0, 0, 0, .null), (.lstore 10, 2, 0, 0, 0, .null)]), (137, [(.lload 7, 2, 0, 0, 0, .null), (.aload_n 0, 1, 0, 0, 0, .null), (.getfield 84, 3, 4, 4, 0, .null), (.i2l, 1, 0, 0, 0, .null), (.lcmp, 1, 0, 0, 0, .null)]), (148, [(.iload_n 2, 1, 0, 0, 0, .null)]), (152, [(.aload_n 0, 1, 0, 0, 0, .null), (.iload 5, 2, 0, 0, 0, .null), (.i2l, 1, 0, 0, 0, .null), (.lconst 0, 1, 0, 0, 0, (.long (0 : Int64))), (.aload_n 0, 1, 0, 0, 0, .null), (.getfield 12, 3, 4, 1, 4, .null), (.getfield 106, 3, 5, 1, 0, .null), (.iconst 1, 1, 0, 0, 0, (.int (1 : Int32))), (.isub, 1, 0, 0, 0, .null), (.i2l, 1, 0, 0, 0, .null)]), (170, [(.bipush 6, 2, 0, 0, 0, (.int (6 : Int32)))]), (175, [(.aload_n 0, 1, 0, 0, 0, .null), (.getfield 12, 3, 4, 1, 4, .null), (.getfield 107, 3, 5, 0, 4, .null), (.iload 5, 2, 0, 0, 0, .null), (.aload_n 0, 1, 0, 0, 0, .null), (.getfield 12, 3, 4, 1, 4, .null), (.getfield 107, 3, 5, 0, 4, .null), (.iload 5, 2, 0, 0, 0, .null), (.iaload, 1, 0, 0, 0, .null), (.i2l, 1, 0, 0, 0, .null), (.lload 10, 2, 0, 0, 0, .null), (.ladd, 1, 0, 0, 0, .null), (.l2i, 1, 0, 0, 0, .null), (.iastore, 1, 0, 0, 0, .null)]), (203, [(.lload 7, 2, 0, 0, 0, .null), (.aload_n 0, 1, 0, 0, 0, .null), (.getfield 84, 3, 4, 4, 0, .null), (.i2l, 1, 0, 0, 0, .null), (.lcmp, 1, 0, 0, 0, .null)]), (214, [(.aload_n 0, 1, 0, 0, 0, .null), (.aload_n 0, 1, 0, 0, 0, .null), (.iconst 0, 1, 0, 0, 0, (.int (0 : Int32)))]), (220, [(.aload_n 0, 1, 0, 0, 0, .null), (.aload_n 0, 1, 0, 0, 0, .null), (.iconst 0, 1, 0, 0, 0, (.int (0 : Int32)))]), (226, [(.iload 5, 2, 0, 0, 0, .null)]), (231, [(.lload 10, 2, 0, 0, 0, .null)]), (236, [(.iinc 4 1, 3, 0, 0, 0, (.int (1 : Int32)))])], [(2, .invokevirtual 334, 3), (6, .invokevirtual 337, 3), (16, .goto 4, 3), (12, .ifCond .lt 7, 3), (22, .invokevirtual 187, 3), (42, .goto 4, 3), (38, .ifCond .lt 7, 3), (47, .invokevirtual 187, 3), (60, .invokevirtual 337, 3), (66, .invokevirtual 337, 3), (115, .goto 5, 3), (108, .ifCond .lt 10, 3), (149, .ifCond .eq 54, 3), (145, .ifCond .ne 58, 3), (167, .invokestatic 246, 3), (172, .invokevirtual 187, 3), (200, .goto 36, 3), (217, .invokevirtual 362, 3), (223, .invokevirtual 362, 3), (228, .invokevirtual 366, 3), (233, .invokevirtual 429, 3), (211, .ifCond .ne 25, 3), (239, .goto (-186), 3), (56, .if_icmp .ge 186, 3), (242, .return_, 1)])
set_option maxRecDepth 100000 in
theorem m_Ma_deltas : hx_mok M_Ma_deltas = true := by decide +kernel
theorem pd_Ma_deltas : (parseMethodDescriptor M_Ma_deltas.2.1.desc).map (fun q => q.parameters.length) = some 2 := by decide +kernel
theorem y_Ma_deltas : hx_okV M_Ma_deltas := ⟨⟨lw_g (lw_at lw_m6 195 rfl) rfl, lw_g (lw_at lw_m6 194 rfl) rfl, qs89, lw_g (lw_at lw_m1 5 rfl) rfl, rfl, by decide, by decide, by decide⟩, rfl, by decide, plainFor_of_name (by decide)⟩
noncomputable def f_Ma_deltas (x1 : Int32) (x2 : Int32) (h : hH) : Option (hH ⊕ (Unit × hH)) :=
  bT (f_Ma_need (1 : Int32) h) fun _ h1 =>
  bS (f_Ma_pop h1) fun a1 h2 =>
  lz (A := Int32) (if a1 < 0 then (0 : Int32) else (1 : Int32)) fun p2 =>
  bT (f_Ma_want p2 (11 : Int32) h2) fun _ h3 =>
  lz (A := Int32) (if (Int32.toInt64 (rdI h3 22 15)) < ((2 : Int64) * (Int32.toInt64 a1)) then (0 : Int32) else (1 : Int32)) fun p4 =>
  bT (f_Ma_want p4 (1 : Int32) h3) fun _ h4 =>
  bJT (P := hH) (
    whT (A := (Int32 × hH)) (B := hH) (fun p6 =>
        if a1 ≤ p6.1 then (
          some (.inr (.inr p6.2))
        ) else (
          bS (f_Ma_pop p6.2) fun a8 h5 =>
          bS (f_Ma_pop h5) fun a9 h6 =>
          lz (A := Int64) (((Int32.toInt64 (rdI h6 33 5)) + (Int32.toInt64 ((a9 >>> ((4 : Int32) &&& 31)) &&& (15 : Int32)))) + (Int32.toInt64 x1)) fun v10 =>
          lz (A := Int32) ((a9 &&& (15 : Int32)) - (8 : Int32)) fun v11 =>
          lz (A := Int32) (if v11 < 0 then v11 else (v11 + (1 : Int32))) fun p12 =>
          lz (A := Int64) ((Int32.toInt64 p12) <<< ((Int32.toInt64 ((6 : Int32) - (rdI h6 33 6))) &&& 63)) fun v14 =>
          bJT (P := hH) (
            if (v10 = (Int32.toInt64 (rdI h6 22 4)) ∧ ¬ (x2 = 0)) then (
              bP (f_HH_within (Int32.toInt64 a8) (0 : Int64) (Int32.toInt64 ((rdI h6 23 1) - (1 : Int32)))) fun a21 =>
              bT (f_Ma_want a21 (6 : Int32) h6) fun _ h7 =>
              gd (vp_in a8 256) <|
              lz (wrI h7 24 (Int32.toNatClampNeg a8) (Int64.toInt32 ((Int32.toInt64 (rdI h7 24 (Int32.toNatClampNeg a8))) + v14))) fun h8 =>
              some (.inr h8)
            ) else (
              if v10 = (Int32.toInt64 (rdI h6 22 4)) then (
                bP (f_Ma_zone (0 : Int32) h6) fun a23 =>
                bP (f_Ma_zone (0 : Int32) h6) fun a24 =>
                gd (isA 6 a24) <|
                bT (f_Ma_point a24 a8 h6) fun a26 h9 =>
                gd (isA 6 a23) <|
                bS (f_Ma_move a23 a26 v14 h9) fun _ h10 =>
                some (.inr h10)
              ) else (
                some (.inr h6)
              )
            )
          ) fun p15 =>
          lz (A := Int32) (p6.1 + (1 : Int32)) fun v29 =>
          some (.inr (.inl (v29, p15)))
        )
    ) ((0 : Int32), h4)
  ) fun p7 =>
  some (.inr ((), p7))
set_option maxRecDepth 20000 in
theorem k_Ma_deltas (x1 : Int32) (x2 : Int32) (h : hH) : hx_kT S0 M_Ma_deltas 8 NT [(.ref 22), (.int x1), (.int x2)] h (f_Ma_deltas x1 x2 h) cvU := by
  have hm := m_Ma_deltas
  show hx_P S0 M_Ma_deltas 8 0 [(0, (.ref 22)), (1, (.int x1)), (2, (.int x2))] [] NT h (f_Ma_deltas x1 x2 h) (hx_T NT (hx_Rc cvU NT))
  unfold f_Ma_deltas
  refine hp_cVT (M2 := M_Ma_need) hm (at1 0 rfl) (as := [(.int (1 : Int32))]) (rest := []) (z := 22) rfl (by exact trivial) (pc' := 2) rfl 0 rfl (lw_g (lw_at lw_m5 217 rfl) rfl) y_Ma_need rfl (d2 := 7) ⟨le_b rfl, pd_Ma_need, le_b rfl⟩ (le_b rfl) og_22 rfl (k_Ma_need (1 : Int32) h) (fun _ h1 => ?_)
  refine hp_cVS (M2 := M_Ma_pop) hm (at1 1 rfl) (as := []) (rest := []) (z := 22) rfl (by exact trivial) (pc' := 6) rfl 1 rfl (lw_g (lw_at lw_m5 221 rfl) rfl) y_Ma_pop rfl (d2 := 1) ⟨le_b rfl, pd_Ma_pop, le_b rfl⟩ (le_b rfl) og_22 (k_Ma_pop h1) (fun a1 h2 => ?_)
  refine hp_b hm (at1 2 rfl) (L' := [(3, (.int a1)), (0, (.ref 22)), (1, (.int x1)), (2, (.int x2))]) (st' := [(.int a1), (.ref 22)]) rfl (by exact trivial) (pc' := 12) rfl ?_
  refine hp_JZ 20 (fun (p2 : Int32) => [(0, (.ref 22)), (1, (.int x1)), (2, (.int x2)), (3, (.int a1))]) (fun (p2 : Int32) => [(.int p2), (.ref 22)]) (fun (p2 : Int32) => h2) ?_ (fun p2 => ?_)
  · refine hp_sv0 ?_
    refine hp_if_lt hm at0 rfl (by exact trivial) (pc' := 12) rfl 3 rfl (tgt := 19) rfl (fun c3 => ?_) (fun c3 => ?_)
    · refine hp_b hm (at1 3 rfl) (L' := [(3, (.int a1)), (0, (.ref 22)), (1, (.int x1)), (2, (.int x2))]) (st' := [(.int (0 : Int32)), (.ref 22)]) rfl (by exact trivial) (pc' := 20) rfl ?_
      exact hp_lf [1, 2, 3, 0] rfl (fun _ e => e)
    · refine hp_b hm (at1 4 rfl) (L' := [(3, (.int a1)), (0, (.ref 22)), (1, (.int x1)), (2, (.int x2))]) (st' := [(.int (1 : Int32)), (.ref 22)]) rfl (by exact trivial) (pc' := 16) rfl ?_
      refine hp_goto hm 2 rfl (tgt := 20) rfl ?_
      exact hp_lf [1, 2, 3, 0] rfl (fun _ e => e)
  · refine hp_cVT (M2 := M_Ma_want) hm (at1 5 rfl) (as := [(.int p2), (.int (11 : Int32))]) (rest := []) (z := 22) rfl (by exact trivial) (pc' := 22) rfl 4 rfl (lw_g (lw_at lw_m5 139 rfl) rfl) y_Ma_want rfl (d2 := 6) ⟨le_b rfl, pd_Ma_want, le_b rfl⟩ (le_b rfl) og_22 rfl (k_Ma_want p2 (11 : Int32) h2) (fun _ h3 => ?_)
    refine hp_JZ 46 (fun (p4 : Int32) => [(0, (.ref 22)), (1, (.int x1)), (2, (.int x2)), (3, (.int a1))]) (fun (p4 : Int32) => [(.int p4), (.ref 22)]) (fun (p4 : Int32) => h3) ?_ (fun p4 => ?_)
    · refine hp_sv0 ?_
      refine hp_lc_lt hm (at1 6 rfl) rfl (by exact og_22) (pc' := 38) rfl 6 rfl (tgt := 45) rfl (fun c5 => ?_) (fun c5 => ?_)
      · refine hp_b hm (at1 7 rfl) (L' := [(0, (.ref 22)), (1, (.int x1)), (2, (.int x2)), (3, (.int a1))]) (st' := [(.int (0 : Int32)), (.ref 22)]) rfl (by exact trivial) (pc' := 46) rfl ?_
        exact hp_lf [0, 1, 2, 3] rfl (fun _ e => e)
      · refine hp_b hm (at1 8 rfl) (L' := [(0, (.ref 22)), (1, (.int x1)), (2, (.int x2)), (3, (.int a1))]) (st' := [(.int (1 : Int32)), (.ref 22)]) rfl (by exact trivial) (pc' := 42) rfl ?_
        refine hp_goto hm 5 rfl (tgt := 46) rfl ?_
        exact hp_lf [0, 1, 2, 3] rfl (fun _ e => e)
    · refine hp_cVT (M2 := M_Ma_want) hm (at1 9 rfl) (as := [(.int p4), (.int (1 : Int32))]) (rest := []) (z := 22) rfl (by exact trivial) (pc' := 47) rfl 7 rfl (lw_g (lw_at lw_m5 139 rfl) rfl) y_Ma_want rfl (d2 := 6) ⟨le_b rfl, pd_Ma_want, le_b rfl⟩ (le_b rfl) og_22 rfl (k_Ma_want p4 (1 : Int32) h3) (fun _ h4 => ?_)
      refine hp_b hm (at1 10 rfl) (L' := [(4, (.int (0 : Int32))), (0, (.ref 22)), (1, (.int x1)), (2, (.int x2)), (3, (.int a1))]) (st' := []) rfl (by exact trivial) (pc' := 53) rfl ?_
      refine hp_JT 242 (fun (p7 : hH) => []) (fun (p7 : hH) => []) (fun (p7 : hH) => p7) ?_ (fun p7 => ?_)
      · refine hp_s [1, 2, 3, 4, 0] rfl (L' := [(0, (.ref 22)), (1, (.int x1)), (2, (.int x2)), (3, (.int a1)), (4, (.int (0 : Int32)))]) ?_
        refine hp_whT (fun (p6 : (Int32 × hH)) => [(0, (.ref 22)), (1, (.int x1)), (2, (.int x2)), (3, (.int a1)), (4, (.int p6.1))]) [] (fun (p6 : (Int32 × hH)) => p6.2) (fun p6 => ?_) ((0 : Int32), h4)
        refine hp_ic_ge hm (at1 11 rfl) rfl (by exact trivial) (pc' := 56) rfl 23 rfl (tgt := 242) rfl (fun c30 => ?_) (fun c30 => ?_)
        · exact hp_lf [] rfl (fun _ e => e)
        · refine hp_cVS (M2 := M_Ma_pop) hm (at1 12 rfl) (as := []) (rest := []) (z := 22) rfl (by exact trivial) (pc' := 60) rfl 8 rfl (lw_g (lw_at lw_m5 221 rfl) rfl) y_Ma_pop rfl (d2 := 1) ⟨le_b rfl, pd_Ma_pop, le_b rfl⟩ (le_b rfl) og_22 (k_Ma_pop p6.2) (fun a8 h5 => ?_)
          refine hp_b hm (at1 13 rfl) (L' := [(5, (.int a8)), (0, (.ref 22)), (1, (.int x1)), (2, (.int x2)), (3, (.int a1)), (4, (.int p6.1))]) (st' := [(.ref 22)]) rfl (by exact trivial) (pc' := 66) rfl ?_
          refine hp_cVS (M2 := M_Ma_pop) hm at0 (as := []) (rest := []) (z := 22) rfl (by exact trivial) (pc' := 66) rfl 9 rfl (lw_g (lw_at lw_m5 221 rfl) rfl) y_Ma_pop rfl (d2 := 1) ⟨le_b rfl, pd_Ma_pop, le_b rfl⟩ (le_b rfl) og_22 (k_Ma_pop h5) (fun a9 h6 => ?_)
          refine hp_z hm (at1 14 rfl) (fun (v10 : Int64) => [(7, (.long v10)), (6, (.int a9)), (5, (.int a8)), (0, (.ref 22)), (1, (.int x1)), (2, (.int x2)), (3, (.int a1)), (4, (.int p6.1))]) (fun (v10 : Int64) => []) rfl (by exact ⟨⟨og_22, og_23⟩, og_33⟩) (pc' := 96) rfl (fun v10 => ?_)
          refine hp_z hm (at1 15 rfl) (fun (v11 : Int32) => [(9, (.int v11)), (7, (.long v10)), (6, (.int a9)), (5, (.int a8)), (0, (.ref 22)), (1, (.int x1)), (2, (.int x2)), (3, (.int a1)), (4, (.int p6.1))]) (fun (v11 : Int32) => []) rfl (by exact trivial) (pc' := 106) rfl (fun v11 => ?_)
          refine hp_JZ 120 (fun (p12 : Int32) => [(0, (.ref 22)), (1, (.int x1)), (2, (.int x2)), (3, (.int a1)), (4, (.int p6.1)), (5, (.int a8)), (7, (.long v10))]) (fun (p12 : Int32) => [(.int p12)]) (fun (p12 : Int32) => h6) ?_ (fun p12 => ?_)
          · refine hp_sv0 ?_
            refine hp_if_lt hm (at1 16 rfl) rfl (by exact trivial) (pc' := 108) rfl 11 rfl (tgt := 118) rfl (fun c13 => ?_) (fun c13 => ?_)
            · refine hp_b hm (at1 17 rfl) (L' := [(9, (.int v11)), (7, (.long v10)), (6, (.int a9)), (5, (.int a8)), (0, (.ref 22)), (1, (.int x1)), (2, (.int x2)), (3, (.int a1)), (4, (.int p6.1))]) (st' := [(.int v11)]) rfl (by exact trivial) (pc' := 120) rfl ?_
              exact hp_lf [4, 5, 6, 7, 8, 3, 1] rfl (fun _ e => e)
            · refine hp_b hm (at1 18 rfl) (L' := [(9, (.int v11)), (7, (.long v10)), (6, (.int a9)), (5, (.int a8)), (0, (.ref 22)), (1, (.int x1)), (2, (.int x2)), (3, (.int a1)), (4, (.int p6.1))]) (st' := [(.int (v11 + (1 : Int32)))]) rfl (by exact trivial) (pc' := 115) rfl ?_
              refine hp_goto hm 10 rfl (tgt := 120) rfl ?_
              exact hp_lf [4, 5, 6, 7, 8, 3, 1] rfl (fun _ e => e)
          · refine hp_z hm (at1 19 rfl) (fun (v14 : Int64) => [(10, (.long v14)), (0, (.ref 22)), (1, (.int x1)), (2, (.int x2)), (3, (.int a1)), (4, (.int p6.1)), (5, (.int a8)), (7, (.long v10))]) (fun (v14 : Int64) => []) rfl (by exact ⟨⟨og_22, og_23⟩, og_33⟩) (pc' := 137) rfl (fun v14 => ?_)
            refine hp_JT 236 (fun (p15 : hH) => [(0, (.ref 22)), (1, (.int x1)), (2, (.int x2)), (3, (.int a1)), (4, (.int p6.1))]) (fun (p15 : hH) => []) (fun (p15 : hH) => p15) ?_ (fun p15 => ?_)
            · refine hp_cI (L0 := [(10, (.long v14)), (0, (.ref 22)), (1, (.int x1)), (2, (.int x2)), (3, (.int a1)), (4, (.int p6.1)), (5, (.int a8)), (7, (.long v10))]) (s0 := []) 152 203 ?_ (fun c20 => ?_) (fun c20 => ?_)
              · refine hp_and ?_
                refine hp_lc_ne hm (at1 20 rfl) rfl (by exact og_22) (pc' := 145) rfl 13 rfl (tgt := 203) rfl (fun c17 => ?_) (fun c17 => ?_)
                · exact hp_l0 (fun _ e => e)
                · refine hp_decn ?_
                  refine hp_if_eq hm (at1 21 rfl) rfl (by exact trivial) (pc' := 149) rfl 12 rfl (tgt := 203) rfl (fun c16 => ?_) (fun c16 => ?_)
                  · exact hp_l0 (fun _ e => e)
                  · exact hp_l0 (fun _ e => e)
              · refine hp_cNP (M2 := M_HH_within) hm (at1 22 rfl) (as := [(.long (Int32.toInt64 a8)), (.long (0 : Int64)), (.long (Int32.toInt64 ((rdI h6 23 1) - (1 : Int32))))]) (rest := [(.ref 22)]) rfl (by exact ⟨og_22, og_23⟩) (pc' := 167) rfl 14 rfl (hmn_4_246) y_HH_within rfl (d2 := 1) ⟨le_b rfl, pd_HH_within, le_b rfl⟩ (le_b rfl) (k_HH_within (Int32.toInt64 a8) (0 : Int64) (Int32.toInt64 ((rdI h6 23 1) - (1 : Int32))) h6) (fun a21 => ?_)
                refine hp_cVT (M2 := M_Ma_want) hm (at1 23 rfl) (as := [(.int a21), (.int (6 : Int32))]) (rest := []) (z := 22) rfl (by exact trivial) (pc' := 172) rfl 15 rfl (lw_g (lw_at lw_m5 139 rfl) rfl) y_Ma_want rfl (d2 := 6) ⟨le_b rfl, pd_Ma_want, le_b rfl⟩ (le_b rfl) og_22 rfl (k_Ma_want a21 (6 : Int32) h6) (fun _ h7 => ?_)
                refine hp_GW hm (at1 24 rfl) (L' := [(10, (.long v14)), (0, (.ref 22)), (1, (.int x1)), (2, (.int x2)), (3, (.int a1)), (4, (.int p6.1)), (5, (.int a8)), (7, (.long v10))]) rfl (fun hP => (by exact ⟨⟨⟨⟨⟨og_22, og_23⟩, og_22⟩, og_23⟩, ⟨og_24, hP⟩⟩, ⟨og_24, hP⟩⟩)) (pc' := 200) rfl (fun q22 h8 => ?_)
                refine hp_goto hm 16 rfl (tgt := 236) rfl ?_
                exact hp_lf [1, 2, 3, 4, 5] rfl (fun _ e => e)
              · refine hp_lc_ne hm (at1 25 rfl) rfl (by exact og_22) (pc' := 211) rfl 21 rfl (tgt := 236) rfl (fun c28 => ?_) (fun c28 => ?_)
                · exact hp_lf [1, 2, 3, 4, 5] rfl (fun _ e => e)
                · refine hp_cVP (M2 := M_Ma_zone) hm (at1 26 rfl) (as := [(.int (0 : Int32))]) (rest := [(.ref 22)]) (z := 22) rfl (by exact trivial) (pc' := 217) rfl 17 rfl (lw_g (lw_at lw_m5 225 rfl) rfl) y_Ma_zone rfl (d2 := 1) ⟨le_b rfl, pd_Ma_zone, le_b rfl⟩ (le_b rfl) og_22 (k_Ma_zone (0 : Int32) h6) (fun a23 => ?_)
                  refine hp_cVP (M2 := M_Ma_zone) hm (at1 27 rfl) (as := [(.int (0 : Int32))]) (rest := [(.ref 22), (.ref a23), (.ref 22)]) (z := 22) rfl (by exact trivial) (pc' := 223) rfl 18 rfl (lw_g (lw_at lw_m5 225 rfl) rfl) y_Ma_zone rfl (d2 := 1) ⟨le_b rfl, pd_Ma_zone, le_b rfl⟩ (le_b rfl) og_22 (k_Ma_zone (0 : Int32) h6) (fun a24 => ?_)
                  refine hp_G0 (fun q25 => ?_)
                  refine hp_b hm (at1 28 rfl) (L' := [(10, (.long v14)), (0, (.ref 22)), (1, (.int x1)), (2, (.int x2)), (3, (.int a1)), (4, (.int p6.1)), (5, (.int a8)), (7, (.long v10))]) (st' := [(.int a8), (.ref a24), (.ref 22), (.ref a23), (.ref 22)]) rfl (by exact trivial) (pc' := 228) rfl ?_
                  refine hp_cVT (M2 := M_Ma_point) hm at0 (as := [(.ref a24), (.int a8)]) (rest := [(.ref a23), (.ref 22)]) (z := 22) rfl (by exact trivial) (pc' := 228) rfl 19 rfl (lw_g (lw_at lw_m5 229 rfl) rfl) y_Ma_point rfl (d2 := 7) ⟨le_b rfl, pd_Ma_point, le_b rfl⟩ (le_b rfl) og_22 rfl (k_Ma_point a24 a8 h6 q25) (fun a26 h9 => ?_)
                  refine hp_G0 (fun q27 => ?_)
                  refine hp_b hm (at1 29 rfl) (L' := [(10, (.long v14)), (0, (.ref 22)), (1, (.int x1)), (2, (.int x2)), (3, (.int a1)), (4, (.int p6.1)), (5, (.int a8)), (7, (.long v10))]) (st' := [(.long v14), (.int a26), (.ref a23), (.ref 22)]) rfl (by exact trivial) (pc' := 233) rfl ?_
                  refine hp_cVS (M2 := M_Ma_move) hm at0 (as := [(.ref a23), (.int a26), (.long v14)]) (rest := []) (z := 22) rfl (by exact trivial) (pc' := 233) rfl 20 rfl (lw_g (lw_at lw_m6 25 rfl) rfl) y_Ma_move rfl (d2 := 3) ⟨le_b rfl, pd_Ma_move, le_b rfl⟩ (le_b rfl) og_22 (k_Ma_move a23 a26 v14 h9 q27) (fun _ h10 => ?_)
                  exact hp_lf [1, 2, 3, 4, 5] rfl (fun _ e => e)
            · refine hp_z hm (at1 30 rfl) (fun (v29 : Int32) => [(4, (.int v29)), (0, (.ref 22)), (1, (.int x1)), (2, (.int x2)), (3, (.int a1))]) (fun (v29 : Int32) => []) rfl (by exact trivial) (pc' := 239) rfl (fun v29 => ?_)
              refine hp_goto hm 22 rfl (tgt := 53) rfl ?_
              exact hp_lf [1, 2, 3, 4, 0] rfl (fun _ e => e)
      · exact hp_vr hm 24 rfl rfl (fun _ e => e)
/-! HintHouse$Machine.index(II)I -/
def M_Ma_index : hM := (4, ⟨"HintHouse$Machine", "index", "(II)I"⟩, prog_6_method_59_code, 3, (Option.some Jvm.ClassFile.FieldType.int), [], [(0, [(.aload_n 0, 1, 0, 0, 0, .null), (.iload_n 1, 1, 0, 0, 0, .null), (.i2l, 1, 0, 0, 0, .null), (.lconst 0, 1, 0, 0, 0, (.long (0 : Int64))), (.iload_n 2, 1, 0, 0, 0, .null), (.iconst 1, 1, 0, 0, 0, (.int (1 : Int32))), (.isub, 1, 0, 0, 0, .null), (.i2l, 1, 0, 0, 0, .null)]), (11, [(.bipush 6, 2, 0, 0, 0, (.int (6 : Int32)))]), (16, [(.iload_n 1, 1, 0, 0, 0, .null)])], [(8, .invokestatic 246, 3), (13, .invokevirtual 187, 3), (17, .ireturn, 1)])
set_option maxRecDepth 100000 in
theorem m_Ma_index : hx_mok M_Ma_index = true := by decide +kernel
theorem pd_Ma_index : (parseMethodDescriptor M_Ma_index.2.1.desc).map (fun q => q.parameters.length) = some 2 := by decide +kernel
theorem y_Ma_index : hx_okV M_Ma_index := ⟨⟨lw_g (lw_at lw_m6 203 rfl) rfl, lw_g (lw_at lw_m6 202 rfl) rfl, qs91, lw_g (lw_at lw_m1 5 rfl) rfl, rfl, by decide, by decide, by decide⟩, rfl, by decide, plainFor_of_name (by decide)⟩
noncomputable def f_Ma_index (x1 : Int32) (x2 : Int32) (h : hH) : Option (hH ⊕ (Int32 × hH)) :=
  bP (f_HH_within (Int32.toInt64 x1) (0 : Int64) (Int32.toInt64 (x2 - (1 : Int32)))) fun a1 =>
  bT (f_Ma_want a1 (6 : Int32) h) fun _ h1 =>
  some (.inr (x1, h1))
set_option maxRecDepth 20000 in
theorem k_Ma_index (x1 : Int32) (x2 : Int32) (h : hH) : hx_kT S0 M_Ma_index 7 NT [(.ref 22), (.int x1), (.int x2)] h (f_Ma_index x1 x2 h) cvI := by
  have hm := m_Ma_index
  show hx_P S0 M_Ma_index 7 0 [(0, (.ref 22)), (1, (.int x1)), (2, (.int x2))] [] NT h (f_Ma_index x1 x2 h) (hx_T NT (hx_Rc cvI NT))
  unfold f_Ma_index
  refine hp_cNP (M2 := M_HH_within) hm (at1 0 rfl) (as := [(.long (Int32.toInt64 x1)), (.long (0 : Int64)), (.long (Int32.toInt64 (x2 - (1 : Int32))))]) (rest := [(.ref 22)]) rfl (by exact trivial) (pc' := 8) rfl 0 rfl (hmn_4_246) y_HH_within rfl (d2 := 1) ⟨le_b rfl, pd_HH_within, le_b rfl⟩ (le_b rfl) (k_HH_within (Int32.toInt64 x1) (0 : Int64) (Int32.toInt64 (x2 - (1 : Int32))) h) (fun a1 => ?_)
  refine hp_cVT (M2 := M_Ma_want) hm (at1 1 rfl) (as := [(.int a1), (.int (6 : Int32))]) (rest := []) (z := 22) rfl (by exact trivial) (pc' := 13) rfl 1 rfl (lw_g (lw_at lw_m5 139 rfl) rfl) y_Ma_want rfl (d2 := 6) ⟨le_b rfl, pd_Ma_want, le_b rfl⟩ (le_b rfl) og_22 rfl (k_Ma_want a1 (6 : Int32) h) (fun _ h1 => ?_)
  exact hp_ir hm (at1 2 rfl) rfl (by exact trivial) (pc' := 17) rfl 2 rfl rfl (vp_nar_int _) (fun _ e => e)
/-! HintHouse$Machine.setPlace(IJ)V -/
def M_Ma_setPlace : hM := (4, ⟨"HintHouse$Machine", "setPlace", "(IJ)V"⟩, prog_6_method_61_code, 6, (Option.none : Option Jvm.ClassFile.FieldType), [], [(0, [(.aload_n 0, 1, 0, 0, 0, .null), (.iconst 2, 1, 0, 0, 0, (.int (2 : Int32)))]), (5, [(.astore 4, 2, 0, 0, 0, .null), (.aload_n 0, 1, 0, 0, 0, .null), (.aload 4, 2, 0, 0, 0, .null), (.iload_n 1, 1, 0, 0, 0, .null)]), (14, [(.istore 5, 2, 0, 0, 0, .null), (.aload_n 0, 1, 0, 0, 0, .null), (.aload 4, 2, 0, 0, 0, .null), (.iload 5, 2, 0, 0, 0, .null), (.lload_n 2, 1, 0, 0, 0, .null), (.aload_n 0, 1, 0, 0, 0, .null), (.aload 4, 2, 0, 0, 0, .null), (.iload 5, 2, 0, 0, 0, .null)]), (30, [(.i2l, 1, 0, 0, 0, .null), (.lsub, 1, 0, 0, 0, .null)]), (35, [(.aload 4, 2, 0, 0, 0, .null), (.aload_n 0, 1, 0, 0, 0, .null), (.getfield 12, 3, 4, 1, 4, .null), (.getfield 126, 3, 5, 4, 4, .null)]), (47, [(.aload 4, 2, 0, 0, 0, .null), (.getfield 262, 3, 6, 0, 4, .null), (.iload 5, 2, 0, 0, 0, .null), (.aload 4, 2, 0, 0, 0, .null), (.getfield 252, 3, 6, 2, 4, .null), (.iload 5, 2, 0, 0, 0, .null), (.iaload, 1, 0, 0, 0, .null), (.iastore, 1, 0, 0, 0, .null)]), (63, [(.aload 4, 2, 0, 0, 0, .null), (.getfield 265, 3, 6, 1, 4, .null), (.iload 5, 2, 0, 0, 0, .null), (.aload 4, 2, 0, 0, 0, .null), (.getfield 255, 3, 6, 3, 4, .null), (.iload 5, 2, 0, 0, 0, .null), (.iaload, 1, 0, 0, 0, .null), (.iastore, 1, 0, 0, 0, .null)])], [(2, .invokevirtual 362, 3), (11, .invokevirtual 366, 3), (27, .invokevirtual 433, 3), (32, .invokevirtual 429, 3), (79, .return_, 1), (44, .if_acmp .ne 35, 3)])
set_option maxRecDepth 100000 in
theorem m_Ma_setPlace : hx_mok M_Ma_setPlace = true := by decide +kernel
theorem pd_Ma_setPlace : (parseMethodDescriptor M_Ma_setPlace.2.1.desc).map (fun q => q.parameters.length) = some 2 := by decide +kernel
theorem y_Ma_setPlace : hx_okV M_Ma_setPlace := ⟨⟨lw_g (lw_at lw_m6 207 rfl) rfl, lw_g (lw_at lw_m6 206 rfl) rfl, qs92, lw_g (lw_at lw_m1 5 rfl) rfl, rfl, by decide, by decide, by decide⟩, rfl, by decide, plainFor_of_name (by decide)⟩
noncomputable def f_Ma_setPlace (x1 : Int32) (x2 : Int64) (h : hH) : Option (hH ⊕ (Unit × hH)) :=
  bP (f_Ma_zone (2 : Int32) h) fun a1 =>
  gd (isA 6 a1) <|
  bT (f_Ma_point a1 x1 h) fun a3 h1 =>
  bP (f_Ma_place a1 a3 h1) fun a4 =>
  bS (f_Ma_move a1 a3 (x2 - (Int32.toInt64 a4)) h1) fun _ h2 =>
  if a1 = 26 then (
    gd (vp_in a3 (zr a1)) <|
    lz (wrI h2 (rf a1 0) (Int32.toNatClampNeg a3) (rdI h2 (rf a1 2) (Int32.toNatClampNeg a3))) fun h3 =>
    gd (vp_in a3 (zr a1)) <|
    lz (wrI h3 (rf a1 1) (Int32.toNatClampNeg a3) (rdI h3 (rf a1 3) (Int32.toNatClampNeg a3))) fun h4 =>
    some (.inr ((), h4))
  ) else (
    some (.inr ((), h2))
  )
set_option maxRecDepth 20000 in
theorem k_Ma_setPlace (x1 : Int32) (x2 : Int64) (h : hH) : hx_kT S0 M_Ma_setPlace 8 NT [(.ref 22), (.int x1), (.long x2)] h (f_Ma_setPlace x1 x2 h) cvU := by
  have hm := m_Ma_setPlace
  show hx_P S0 M_Ma_setPlace 8 0 [(0, (.ref 22)), (1, (.int x1)), (2, (.long x2))] [] NT h (f_Ma_setPlace x1 x2 h) (hx_T NT (hx_Rc cvU NT))
  unfold f_Ma_setPlace
  refine hp_cVP (M2 := M_Ma_zone) hm (at1 0 rfl) (as := [(.int (2 : Int32))]) (rest := []) (z := 22) rfl (by exact trivial) (pc' := 2) rfl 0 rfl (lw_g (lw_at lw_m5 225 rfl) rfl) y_Ma_zone rfl (d2 := 1) ⟨le_b rfl, pd_Ma_zone, le_b rfl⟩ (le_b rfl) og_22 (k_Ma_zone (2 : Int32) h) (fun a1 => ?_)
  refine hp_b hm (at1 1 rfl) (L' := [(4, (.ref a1)), (0, (.ref 22)), (1, (.int x1)), (2, (.long x2))]) (st' := [(.int x1), (.ref a1), (.ref 22)]) rfl (by exact trivial) (pc' := 11) rfl ?_
  refine hp_G0 (fun q2 => ?_)
  refine hp_cVT (M2 := M_Ma_point) hm at0 (as := [(.ref a1), (.int x1)]) (rest := []) (z := 22) rfl (by exact trivial) (pc' := 11) rfl 1 rfl (lw_g (lw_at lw_m5 229 rfl) rfl) y_Ma_point rfl (d2 := 7) ⟨le_b rfl, pd_Ma_point, le_b rfl⟩ (le_b rfl) og_22 rfl (k_Ma_point a1 x1 h q2) (fun a3 h1 => ?_)
  refine hp_b hm (at1 2 rfl) (L' := [(5, (.int a3)), (4, (.ref a1)), (0, (.ref 22)), (1, (.int x1)), (2, (.long x2))]) (st' := [(.int a3), (.ref a1), (.ref 22), (.long x2), (.int a3), (.ref a1), (.ref 22)]) rfl (by exact trivial) (pc' := 27) rfl ?_
  refine hp_cVP (M2 := M_Ma_place) hm at0 (as := [(.ref a1), (.int a3)]) (rest := [(.long x2), (.int a3), (.ref a1), (.ref 22)]) (z := 22) rfl (by exact trivial) (pc' := 27) rfl 2 rfl (lw_g (lw_at lw_m6 137 rfl) rfl) y_Ma_place rfl (d2 := 4) ⟨le_b rfl, pd_Ma_place, le_b rfl⟩ (le_b rfl) og_22 (k_Ma_place a1 a3 h1 q2) (fun a4 => ?_)
  refine hp_cVS (M2 := M_Ma_move) hm (at1 3 rfl) (as := [(.ref a1), (.int a3), (.long (x2 - (Int32.toInt64 a4)))]) (rest := []) (z := 22) rfl (by exact trivial) (pc' := 32) rfl 3 rfl (lw_g (lw_at lw_m6 25 rfl) rfl) y_Ma_move rfl (d2 := 3) ⟨le_b rfl, pd_Ma_move, le_b rfl⟩ (le_b rfl) og_22 (k_Ma_move a1 a3 (x2 - (Int32.toInt64 a4)) h1 q2) (fun _ h2 => ?_)
  refine hp_ane hm (at1 4 rfl) rfl (by exact ⟨og_22, og_23⟩) (pc' := 44) rfl 5 rfl (tgt := 79) rfl (q2).2 (og_26).2 (fun c7 => ?_) (fun c7 => ?_)
  · exact hp_vr hm 4 rfl rfl (fun _ e => e)
  · refine hp_GW hm (at1 5 rfl) (L' := [(5, (.int a3)), (4, (.ref a1)), (0, (.ref 22)), (1, (.int x1)), (2, (.long x2))]) rfl (fun hP => (by exact ⟨⟨⟨q2, q2⟩, ⟨(rt_6_2 q2), (vp_cst (rl_6_2 q2) hP)⟩⟩, ⟨(rt_6_0 q2), (vp_cst (rl_6_0 q2) hP)⟩⟩)) (pc' := 63) rfl (fun q5 h3 => ?_)
    refine hp_GW hm (at1 6 rfl) (L' := [(5, (.int a3)), (4, (.ref a1)), (0, (.ref 22)), (1, (.int x1)), (2, (.long x2))]) rfl (fun hP => (by exact ⟨⟨⟨q2, q2⟩, ⟨(rt_6_3 q2), (vp_cst (rl_6_3 q2) hP)⟩⟩, ⟨(rt_6_1 q2), (vp_cst (rl_6_1 q2) hP)⟩⟩)) (pc' := 79) rfl (fun q6 h4 => ?_)
    exact hp_vr hm 4 rfl rfl (fun _ e => e)
/-! HintHouse$Machine.held(I)V -/
def M_Ma_held : hM := (4, ⟨"HintHouse$Machine", "held", "(I)V"⟩, prog_6_method_60_code, 8, (Option.none : Option Jvm.ClassFile.FieldType), [], [(0, [(.iconst 0, 1, 0, 0, 0, (.int (0 : Int32))), (.istore_n 2, 1, 0, 0, 0, .null), (.iconst 0, 1, 0, 0, 0, (.int (0 : Int32))), (.istore_n 3, 1, 0, 0, 0, .null), (.iload_n 1, 1, 0, 0, 0, .null), (.bipush 67, 2, 0, 0, 0, (.int (67 : Int32)))]), (10, [(.iload_n 1, 1, 0, 0, 0, .null), (.bipush 69, 2, 0, 0, 0, (.int (69 : Int32)))]), (16, [(.iload_n 1, 1, 0, 0, 0, .null), (.bipush 70, 2, 0, 0, 0, (.int (70 : Int32)))]), (22, [(.iload_n 1, 1, 0, 0, 0, .null), (.bipush 71, 2, 0, 0, 0, (.int (71 : Int32)))]), (28, [(.aload_n 0, 1, 0, 0, 0, .null), (.iconst 1, 1, 0, 0, 0, (.int (1 : Int32)))]), (33, [(.aload_n 0, 1, 0, 0, 0, .null)]), (37, [(.istore_n 3, 1, 0, 0, 0, .null)]), (41, [(.aload_n 0, 1, 0, 0, 0, .null), (.iconst 2, 1, 0, 0, 0, (.int (2 : Int32)))]), (46, [(.aload_n 0, 1, 0, 0, 0, .null)]), (50, [(.istore_n 2, 1, 0, 0, 0, .null), (.aload_n 0, 1, 0, 0, 0, .null)]), (55, [(.istore_n 3, 1, 0, 0, 0, .null)]), (56, [(.iload_n 1, 1, 0, 0, 0, .null)]), (100, [(.aload_n 0, 1, 0, 0, 0, .null), (.getfield 12, 3, 4, 1, 4, .null), (.getfield 93, 3, 5, 2, 4, .null), (.aload_n 0, 1, 0, 0, 0, .null), (.iload_n 3, 1, 0, 0, 0, .null), (.aload_n 0, 1, 0, 0, 0, .null), (.getfield 12, 3, 4, 1, 4, .null), (.getfield 100, 3, 5, 3, 0, .null)]), (119, [(.iload_n 2, 1, 0, 0, 0, .null), (.iastore, 1, 0, 0, 0, .null)]), (124, [(.aload_n 0, 1, 0, 0, 0, .null), (.aload_n 0, 1, 0, 0, 0, .null), (.getfield 12, 3, 4, 1, 4, .null), (.getfield 93, 3, 5, 2, 4, .null), (.aload_n 0, 1, 0, 0, 0, .null), (.iload_n 3, 1, 0, 0, 0, .null), (.aload_n 0, 1, 0, 0, 0, .null), (.getfield 12, 3, 4, 1, 4, .null), (.getfield 100, 3, 5, 3, 0, .null)]), (144, [(.iaload, 1, 0, 0, 0, .null), (.i2l, 1, 0, 0, 0, .null)]), (152, [(.aload_n 0, 1, 0, 0, 0, .null), (.getfield 12, 3, 4, 1, 4, .null), (.getfield 107, 3, 5, 0, 4, .null), (.aload_n 0, 1, 0, 0, 0, .null), (.iload_n 3, 1, 0, 0, 0, .null), (.aload_n 0, 1, 0, 0, 0, .null), (.getfield 12, 3, 4, 1, 4, .null), (.getfield 106, 3, 5, 1, 0, .null)]), (171, [(.iload_n 2, 1, 0, 0, 0, .null), (.iastore, 1, 0, 0, 0, .null)]), (176, [(.aload_n 0, 1, 0, 0, 0, .null), (.aload_n 0, 1, 0, 0, 0, .null), (.getfield 12, 3, 4, 1, 4, .null), (.getfield 107, 3, 5, 0, 4, .null), (.aload_n 0, 1, 0, 0, 0, .null), (.iload_n 3, 1, 0, 0, 0, .null), (.aload_n 0, 1, 0, 0, 0, .null), (.getfield 12, 3, 4, 1, 4, .null), (.getfield 106, 3, 5, 1, 0, .null)]), (196, [(.iaload, 1, 0, 0, 0, .null), (.i2l, 1, 0, 0, 0, .null)]), (273, [(.aload_n 0, 1, 0, 0, 0, .null), (.iload_n 3, 1, 0, 0, 0, .null), (.iload_n 2, 1, 0, 0, 0, .null), (.i2l, 1, 0, 0, 0, .null)]), (283, [(.aload_n 0, 1, 0, 0, 0, .null), (.aload_n 0, 1, 0, 0, 0, .null), (.iconst 0, 1, 0, 0, 0, (.int (0 : Int32)))]), (289, [(.iload_n 3, 1, 0, 0, 0, .null)]), (293, [(.istore 6, 2, 0, 0, 0, .null), (.aload_n 0, 1, 0, 0, 0, .null), (.aload_n 0, 1, 0, 0, 0, .null), (.iconst 1, 1, 0, 0, 0, (.int (1 : Int32)))]), (301, [(.iload_n 2, 1, 0, 0, 0, .null)]), (305, [(.istore 7, 2, 0, 0, 0, .null), (.aload_n 0, 1, 0, 0, 0, .null), (.iload_n 1, 1, 0, 0, 0, .null), (.bipush 73, 2, 0, 0, 0, (.int (73 : Int32)))]), (336, [(.aload_n 0, 1, 0, 0, 0, .null), (.aload_n 0, 1, 0, 0, 0, .null), (.iconst 0, 1, 0, 0, 0, (.int (0 : Int32)))]), (342, [(.iload 6, 2, 0, 0, 0, .null), (.aload_n 0, 1, 0, 0, 0, .null), (.iconst 1, 1, 0, 0, 0, (.int (1 : Int32)))]), (349, [(.iload 7, 2, 0, 0, 0, .null)]), (354, [(.i2l, 1, 0, 0, 0, .null)]), (314, [(.aload_n 0, 1, 0, 0, 0, .null), (.aload_n 0, 1, 0, 0, 0, .null), (.iconst 0, 1, 0, 0, 0, (.int (0 : Int32)))]), (320, [(.iload 6, 2, 0, 0, 0, .null), (.aload_n 0, 1, 0, 0, 0, .null), (.iconst 1, 1, 0, 0, 0, (.int (1 : Int32)))]), (327, [(.iload 7, 2, 0, 0, 0, .null)]), (332, [(.i2l, 1, 0, 0, 0, .null)]), (204, [(.aload_n 0, 1, 0, 0, 0, .null), (.iconst 2, 1, 0, 0, 0, (.int (2 : Int32)))]), (209, [(.astore 4, 2, 0, 0, 0, .null), (.aload_n 0, 1, 0, 0, 0, .null), (.aload 4, 2, 0, 0, 0, .null), (.iload_n 3, 1, 0, 0, 0, .null)]), (218, [(.istore 5, 2, 0, 0, 0, .null), (.aload_n 0, 1, 0, 0, 0, .null), (.iload_n 1, 1, 0, 0, 0, .null), (.bipush 70, 2, 0, 0, 0, (.int (70 : Int32)))]), (239, [(.aload 4, 2, 0, 0, 0, .null), (.getfield 262, 3, 6, 0, 4, .null), (.iload 5, 2, 0, 0, 0, .null), (.iaload, 1, 0, 0, 0, .null), (.aload 4, 2, 0, 0, 0, .null), (.getfield 265, 3, 6, 1, 4, .null), (.iload 5, 2, 0, 0, 0, .null), (.iaload, 1, 0, 0, 0, .null), (.aload_n 0, 1, 0, 0, 0, .null), (.getfield 212, 3, 4, 32, 0, .null), (.aload_n 0, 1, 0, 0, 0, .null), (.getfield 215, 3, 4, 33, 0, .null)]), (266, [(.i2l, 1, 0, 0, 0, .null)]), (227, [(.aload_n 0, 1, 0, 0, 0, .null), (.aload 4, 2, 0, 0, 0, .null), (.iload 5, 2, 0, 0, 0, .null)]), (235, [(.i2l, 1, 0, 0, 0, .null)])], [(25, .if_icmp .ne 16, 3), (19, .if_icmp .eq 9, 3), (13, .if_icmp .eq 15, 3), (7, .if_icmp .eq 21, 3), (30, .invokevirtual 334, 3), (34, .invokevirtual 337, 3), (38, .goto 18, 3), (43, .invokevirtual 334, 3), (47, .invokevirtual 337, 3), (52, .invokevirtual 337, 3), (57, .tableswitch 226 66 72 #[43, 67, 95, 119, 147, 147, 216], 43), (116, .invokevirtual 508, 3), (358, .return_, 1), (121, .goto 237, 3), (141, .invokevirtual 508, 3), (146, .invokevirtual 242, 3), (149, .goto 209, 3), (168, .invokevirtual 508, 3), (173, .goto 185, 3), (193, .invokevirtual 508, 3), (198, .invokevirtual 242, 3), (201, .goto 157, 3), (277, .invokevirtual 511, 3), (280, .goto 78, 3), (286, .invokevirtual 362, 3), (290, .invokevirtual 366, 3), (298, .invokevirtual 362, 3), (302, .invokevirtual 366, 3), (339, .invokevirtual 362, 3), (346, .invokevirtual 362, 3), (351, .invokevirtual 493, 3), (317, .invokevirtual 362, 3), (324, .invokevirtual 362, 3), (329, .invokevirtual 425, 3), (333, .goto 22, 3), (311, .if_icmp .ne 25, 3), (355, .invokevirtual 242, 3), (206, .invokevirtual 362, 3), (215, .invokevirtual 366, 3), (263, .invokestatic 258, 3), (232, .invokevirtual 433, 3), (236, .goto 31, 3), (224, .if_icmp .ne 15, 3), (267, .invokevirtual 242, 3), (270, .goto 88, 3)])
set_option maxRecDepth 100000 in
theorem m_Ma_held : hx_mok M_Ma_held = true := by decide +kernel
theorem pd_Ma_held : (parseMethodDescriptor M_Ma_held.2.1.desc).map (fun q => q.parameters.length) = some 1 := by decide +kernel
theorem y_Ma_held : hx_okV M_Ma_held := ⟨⟨lw_g (lw_at lw_m6 199 rfl) rfl, lw_g (lw_at lw_m6 198 rfl) rfl, qs90, lw_g (lw_at lw_m1 5 rfl) rfl, rfl, by decide, by decide, by decide⟩, rfl, by decide, plainFor_of_name (by decide)⟩
noncomputable def f_Ma_held (x1 : Int32) (h : hH) : Option (hH ⊕ (Unit × hH)) :=
  bJT (P := (Int32 × Int32 × hH)) (
    cO (
      if x1 = (67 : Int32) then (
        some true
      ) else (
        cO (
          if x1 = (69 : Int32) then (
            some true
          ) else (
            if (x1 = (70 : Int32) ∨ x1 = (71 : Int32)) then (
              some true
            ) else (
              some false
            )
          )
        ) (
          some true
        ) (
          some false
        )
      )
    ) (
      bT (f_Ma_need (1 : Int32) h) fun _ h1 =>
      bS (f_Ma_pop h1) fun a28 h2 =>
      some (.inr ((0 : Int32), a28, h2))
    ) (
      bT (f_Ma_need (2 : Int32) h) fun _ h3 =>
      bS (f_Ma_pop h3) fun a29 h4 =>
      bS (f_Ma_pop h4) fun a30 h5 =>
      some (.inr (a29, a30, h5))
    )
  ) fun p1 =>
  bET (P := Unit) (X := (Unit × hH)) (
    if x1 = (66 : Int32) then (
      bT (f_Ma_index p1.2.1 (rdI p1.2.2 23 3) p1.2.2) fun a32 h6 =>
      gd (vp_in a32 64) <|
      lz (wrI h6 25 (Int32.toNatClampNeg a32) p1.1) fun h7 =>
      some (.inr (.inr ((), h7)))
    ) else (
      if x1 = (67 : Int32) then (
        bT (f_Ma_index p1.2.1 (rdI p1.2.2 23 3) p1.2.2) fun a35 h8 =>
        gd (vp_in a35 64) <|
        bT (f_Ma_push (Int32.toInt64 (rdI h8 25 (Int32.toNatClampNeg a35))) h8) fun _ h9 =>
        some (.inr (.inr ((), h9)))
      ) else (
        if x1 = (68 : Int32) then (
          bT (f_Ma_index p1.2.1 (rdI p1.2.2 23 1) p1.2.2) fun a38 h10 =>
          gd (vp_in a38 256) <|
          lz (wrI h10 24 (Int32.toNatClampNeg a38) p1.1) fun h11 =>
          some (.inr (.inr ((), h11)))
        ) else (
          if x1 = (69 : Int32) then (
            bT (f_Ma_index p1.2.1 (rdI p1.2.2 23 1) p1.2.2) fun a41 h12 =>
            gd (vp_in a41 256) <|
            bT (f_Ma_push (Int32.toInt64 (rdI h12 24 (Int32.toNatClampNeg a41))) h12) fun _ h13 =>
            some (.inr (.inr ((), h13)))
          ) else (
            if x1 = (70 : Int32) ∨ x1 = (71 : Int32) then (
              some (.inr (.inl ()))
            ) else (
              if x1 = (72 : Int32) then (
                bT (f_Ma_setPlace p1.2.1 (Int32.toInt64 p1.1) p1.2.2) fun _ h14 =>
                some (.inr (.inr ((), h14)))
              ) else (
                bP (f_Ma_zone (0 : Int32) p1.2.2) fun a46 =>
                gd (isA 6 a46) <|
                bT (f_Ma_point a46 p1.2.1 p1.2.2) fun a48 h15 =>
                bP (f_Ma_zone (1 : Int32) h15) fun a49 =>
                gd (isA 6 a49) <|
                bT (f_Ma_point a49 p1.1 h15) fun a51 h16 =>
                bJT (P := Int64) (
                  if x1 = (73 : Int32) then (
                    bP (f_Ma_zone (0 : Int32) h16) fun a57 =>
                    bP (f_Ma_zone (1 : Int32) h16) fun a58 =>
                    gd (isA 6 a57 ∧ isA 6 a58) <|
                    bP (f_Ma_distance a57 a48 a58 a51 h16) fun a60 =>
                    some (.inr (Int32.toInt64 a60))
                  ) else (
                    bP (f_Ma_zone (0 : Int32) h16) fun a53 =>
                    bP (f_Ma_zone (1 : Int32) h16) fun a54 =>
                    gd (isA 6 a53 ∧ isA 6 a54) <|
                    bP (f_Ma_oldDistance a53 a48 a54 a51 h16) fun a56 =>
                    some (.inr (Int32.toInt64 a56))
                  )
                ) fun p52 =>
                bT (f_Ma_push p52 h16) fun _ h17 =>
                some (.inr (.inr ((), h17)))
              )
            )
          )
        )
      )
    )
  ) fun p31 =>
  bP (f_Ma_zone (2 : Int32) p1.2.2) fun a62 =>
  gd (isA 6 a62) <|
  bT (f_Ma_point a62 p1.2.1 p1.2.2) fun a64 h18 =>
  bJT (P := Int64) (
    if x1 = (70 : Int32) then (
      bP (f_Ma_place a62 a64 h18) fun a68 =>
      some (.inr (Int32.toInt64 a68))
    ) else (
      gd (vp_in a64 (zr a62)) <|
      bP (f_Ma_along (rdI h18 (rf a62 0) (Int32.toNatClampNeg a64)) (rdI h18 (rf a62 1) (Int32.toNatClampNeg a64)) (rdI h18 22 32) (rdI h18 22 33)) fun a67 =>
      some (.inr (Int32.toInt64 a67))
    )
  ) fun p65 =>
  bT (f_Ma_push p65 h18) fun _ h19 =>
  some (.inr ((), h19))
set_option maxRecDepth 20000 in
theorem k_Ma_held (x1 : Int32) (h : hH) : hx_kT S0 M_Ma_held 9 NT [(.ref 22), (.int x1)] h (f_Ma_held x1 h) cvU := by
  have hm := m_Ma_held
  show hx_P S0 M_Ma_held 9 0 [(0, (.ref 22)), (1, (.int x1))] [] NT h (f_Ma_held x1 h) (hx_T NT (hx_Rc cvU NT))
  unfold f_Ma_held
  refine hp_b hm (at1 0 rfl) (L' := [(3, (.int (0 : Int32))), (2, (.int (0 : Int32))), (0, (.ref 22)), (1, (.int x1))]) (st' := [(.int (67 : Int32)), (.int x1)]) rfl (by exact trivial) (pc' := 7) rfl ?_
  refine hp_JT 56 (fun (p1 : (Int32 × Int32 × hH)) => [(0, (.ref 22)), (1, (.int x1)), (2, (.int p1.1)), (3, (.int p1.2.1))]) (fun (p1 : (Int32 × Int32 × hH)) => []) (fun (p1 : (Int32 × Int32 × hH)) => p1.2.2) ?_ (fun p1 => ?_)
  · refine hp_cO (L0 := [(3, (.int (0 : Int32))), (2, (.int (0 : Int32))), (0, (.ref 22)), (1, (.int x1))]) (s0 := []) 28 41 ?_ ?_ ?_
    · refine hp_ic_eq hm at0 rfl (by exact trivial) (pc' := 7) rfl 3 rfl (tgt := 28) rfl (fun c14 => ?_) (fun c14 => ?_)
      · exact hp_l0 (fun _ e => e)
      · refine hp_cO (L0 := [(3, (.int (0 : Int32))), (2, (.int (0 : Int32))), (0, (.ref 22)), (1, (.int x1))]) (s0 := []) 28 41 ?_ ?_ ?_
        · refine hp_ic_eq hm (at1 1 rfl) rfl (by exact trivial) (pc' := 13) rfl 2 rfl (tgt := 28) rfl (fun c7 => ?_) (fun c7 => ?_)
          · exact hp_l0 (fun _ e => e)
          · refine hp_cI (L0 := [(3, (.int (0 : Int32))), (2, (.int (0 : Int32))), (0, (.ref 22)), (1, (.int x1))]) (s0 := []) 28 41 ?_ (fun c6 => ?_) (fun c6 => ?_)
            · refine hp_or ?_
              refine hp_ic_eq hm (at1 2 rfl) rfl (by exact trivial) (pc' := 19) rfl 1 rfl (tgt := 28) rfl (fun c3 => ?_) (fun c3 => ?_)
              · exact hp_l0 (fun _ e => e)
              · refine hp_dec ?_
                refine hp_ic_ne hm (at1 3 rfl) rfl (by exact trivial) (pc' := 25) rfl 0 rfl (tgt := 41) rfl (fun c2 => ?_) (fun c2 => ?_)
                · exact hp_l0 (fun _ e => e)
                · exact hp_l0 (fun _ e => e)
            · exact hp_l0 (fun _ e => e)
            · exact hp_l0 (fun _ e => e)
        · exact hp_l0 (fun _ e => e)
        · exact hp_l0 (fun _ e => e)
    · refine hp_cVT (M2 := M_Ma_need) hm (at1 4 rfl) (as := [(.int (1 : Int32))]) (rest := []) (z := 22) rfl (by exact trivial) (pc' := 30) rfl 4 rfl (lw_g (lw_at lw_m5 217 rfl) rfl) y_Ma_need rfl (d2 := 7) ⟨le_b rfl, pd_Ma_need, le_b rfl⟩ (le_b rfl) og_22 rfl (k_Ma_need (1 : Int32) h) (fun _ h1 => ?_)
      refine hp_cVS (M2 := M_Ma_pop) hm (at1 5 rfl) (as := []) (rest := []) (z := 22) rfl (by exact trivial) (pc' := 34) rfl 5 rfl (lw_g (lw_at lw_m5 221 rfl) rfl) y_Ma_pop rfl (d2 := 1) ⟨le_b rfl, pd_Ma_pop, le_b rfl⟩ (le_b rfl) og_22 (k_Ma_pop h1) (fun a28 h2 => ?_)
      refine hp_b hm (at1 6 rfl) (L' := [(3, (.int a28)), (2, (.int (0 : Int32))), (0, (.ref 22)), (1, (.int x1))]) (st' := []) rfl (by exact trivial) (pc' := 38) rfl ?_
      refine hp_goto hm 6 rfl (tgt := 56) rfl ?_
      exact hp_lf [2, 3, 1, 0] rfl (fun _ e => e)
    · refine hp_cVT (M2 := M_Ma_need) hm (at1 7 rfl) (as := [(.int (2 : Int32))]) (rest := []) (z := 22) rfl (by exact trivial) (pc' := 43) rfl 7 rfl (lw_g (lw_at lw_m5 217 rfl) rfl) y_Ma_need rfl (d2 := 7) ⟨le_b rfl, pd_Ma_need, le_b rfl⟩ (le_b rfl) og_22 rfl (k_Ma_need (2 : Int32) h) (fun _ h3 => ?_)
      refine hp_cVS (M2 := M_Ma_pop) hm (at1 8 rfl) (as := []) (rest := []) (z := 22) rfl (by exact trivial) (pc' := 47) rfl 8 rfl (lw_g (lw_at lw_m5 221 rfl) rfl) y_Ma_pop rfl (d2 := 1) ⟨le_b rfl, pd_Ma_pop, le_b rfl⟩ (le_b rfl) og_22 (k_Ma_pop h3) (fun a29 h4 => ?_)
      refine hp_b hm (at1 9 rfl) (L' := [(2, (.int a29)), (3, (.int (0 : Int32))), (0, (.ref 22)), (1, (.int x1))]) (st' := [(.ref 22)]) rfl (by exact trivial) (pc' := 52) rfl ?_
      refine hp_cVS (M2 := M_Ma_pop) hm at0 (as := []) (rest := []) (z := 22) rfl (by exact trivial) (pc' := 52) rfl 9 rfl (lw_g (lw_at lw_m5 221 rfl) rfl) y_Ma_pop rfl (d2 := 1) ⟨le_b rfl, pd_Ma_pop, le_b rfl⟩ (le_b rfl) og_22 (k_Ma_pop h4) (fun a30 h5 => ?_)
      refine hp_b hm (at1 10 rfl) (L' := [(3, (.int a30)), (2, (.int a29)), (0, (.ref 22)), (1, (.int x1))]) (st' := []) rfl (by exact trivial) (pc' := 56) rfl ?_
      exact hp_lf [2, 3, 1, 0] rfl (fun _ e => e)
  · refine hp_ET 204 (fun (p31 : Unit) => [(0, (.ref 22)), (1, (.int x1)), (3, (.int p1.2.1))]) (fun (p31 : Unit) => []) (fun (p31 : Unit) => p1.2.2) ?_ (fun p31 => ?_)
    · refine hp_b hm (at1 11 rfl) (L' := [(0, (.ref 22)), (1, (.int x1)), (2, (.int p1.1)), (3, (.int p1.2.1))]) (st' := [(.int x1)]) rfl (by exact trivial) (pc' := 57) rfl ?_
      refine hp_sw hm 10 rfl (cs := [66]) (off := 43) (by decide) (tgt := 100) rfl (sw1 _ _) ?_ (fun c34 => ?_)
      · refine hp_cVT (M2 := M_Ma_index) hm (at1 12 rfl) (as := [(.int p1.2.1), (.int (rdI p1.2.2 23 3))]) (rest := [(.ref 25)]) (z := 22) rfl (by exact ⟨⟨⟨og_22, og_23⟩, og_22⟩, og_23⟩) (pc' := 116) rfl 11 rfl (lw_g (lw_at lw_m6 200 rfl) rfl) y_Ma_index rfl (d2 := 7) ⟨le_b rfl, pd_Ma_index, le_b rfl⟩ (le_b rfl) og_22 rfl (k_Ma_index p1.2.1 (rdI p1.2.2 23 3) p1.2.2) (fun a32 h6 => ?_)
        refine hp_GW hm (at1 13 rfl) (L' := [(0, (.ref 22)), (1, (.int x1)), (2, (.int p1.1)), (3, (.int p1.2.1))]) rfl (fun hP => (by exact ⟨og_25, hP⟩)) (pc' := 121) rfl (fun q33 h7 => ?_)
        refine hp_goto hm 13 rfl (tgt := 358) rfl ?_
        exact hp_vr hm 12 rfl rfl (fun _ e => e)
      · refine hp_sw hm 10 rfl (cs := [67]) (off := 67) (by decide) (tgt := 124) rfl (sw1 _ _) ?_ (fun c37 => ?_)
        · refine hp_cVT (M2 := M_Ma_index) hm (at1 14 rfl) (as := [(.int p1.2.1), (.int (rdI p1.2.2 23 3))]) (rest := [(.ref 25), (.ref 22)]) (z := 22) rfl (by exact ⟨⟨⟨og_22, og_23⟩, og_22⟩, og_23⟩) (pc' := 141) rfl 14 rfl (lw_g (lw_at lw_m6 200 rfl) rfl) y_Ma_index rfl (d2 := 7) ⟨le_b rfl, pd_Ma_index, le_b rfl⟩ (le_b rfl) og_22 rfl (k_Ma_index p1.2.1 (rdI p1.2.2 23 3) p1.2.2) (fun a35 h8 => ?_)
          refine hp_G hm (at1 15 rfl) (L' := [(0, (.ref 22)), (1, (.int x1)), (2, (.int p1.1)), (3, (.int p1.2.1))]) (st' := [(.long (Int32.toInt64 (rdI h8 25 (Int32.toNatClampNeg a35)))), (.ref 22)]) rfl (fun hP => (by exact ⟨og_25, hP⟩)) (pc' := 146) rfl (fun q36 => ?_)
          refine hp_cVT (M2 := M_Ma_push) hm at0 (as := [(.long (Int32.toInt64 (rdI h8 25 (Int32.toNatClampNeg a35))))]) (rest := []) (z := 22) rfl (by exact trivial) (pc' := 146) rfl 15 rfl (lw_g (lw_at lw_m6 42 rfl) rfl) y_Ma_push rfl (d2 := 7) ⟨le_b rfl, pd_Ma_push, le_b rfl⟩ (le_b rfl) og_22 rfl (k_Ma_push (Int32.toInt64 (rdI h8 25 (Int32.toNatClampNeg a35))) h8) (fun _ h9 => ?_)
          refine hp_goto hm 16 rfl (tgt := 358) rfl ?_
          exact hp_vr hm 12 rfl rfl (fun _ e => e)
        · refine hp_sw hm 10 rfl (cs := [68]) (off := 95) (by decide) (tgt := 152) rfl (sw1 _ _) ?_ (fun c40 => ?_)
          · refine hp_cVT (M2 := M_Ma_index) hm (at1 16 rfl) (as := [(.int p1.2.1), (.int (rdI p1.2.2 23 1))]) (rest := [(.ref 24)]) (z := 22) rfl (by exact ⟨⟨⟨og_22, og_23⟩, og_22⟩, og_23⟩) (pc' := 168) rfl 17 rfl (lw_g (lw_at lw_m6 200 rfl) rfl) y_Ma_index rfl (d2 := 7) ⟨le_b rfl, pd_Ma_index, le_b rfl⟩ (le_b rfl) og_22 rfl (k_Ma_index p1.2.1 (rdI p1.2.2 23 1) p1.2.2) (fun a38 h10 => ?_)
            refine hp_GW hm (at1 17 rfl) (L' := [(0, (.ref 22)), (1, (.int x1)), (2, (.int p1.1)), (3, (.int p1.2.1))]) rfl (fun hP => (by exact ⟨og_24, hP⟩)) (pc' := 173) rfl (fun q39 h11 => ?_)
            refine hp_goto hm 18 rfl (tgt := 358) rfl ?_
            exact hp_vr hm 12 rfl rfl (fun _ e => e)
          · refine hp_sw hm 10 rfl (cs := [69]) (off := 119) (by decide) (tgt := 176) rfl (sw1 _ _) ?_ (fun c43 => ?_)
            · refine hp_cVT (M2 := M_Ma_index) hm (at1 18 rfl) (as := [(.int p1.2.1), (.int (rdI p1.2.2 23 1))]) (rest := [(.ref 24), (.ref 22)]) (z := 22) rfl (by exact ⟨⟨⟨og_22, og_23⟩, og_22⟩, og_23⟩) (pc' := 193) rfl 19 rfl (lw_g (lw_at lw_m6 200 rfl) rfl) y_Ma_index rfl (d2 := 7) ⟨le_b rfl, pd_Ma_index, le_b rfl⟩ (le_b rfl) og_22 rfl (k_Ma_index p1.2.1 (rdI p1.2.2 23 1) p1.2.2) (fun a41 h12 => ?_)
              refine hp_G hm (at1 19 rfl) (L' := [(0, (.ref 22)), (1, (.int x1)), (2, (.int p1.1)), (3, (.int p1.2.1))]) (st' := [(.long (Int32.toInt64 (rdI h12 24 (Int32.toNatClampNeg a41)))), (.ref 22)]) rfl (fun hP => (by exact ⟨og_24, hP⟩)) (pc' := 198) rfl (fun q42 => ?_)
              refine hp_cVT (M2 := M_Ma_push) hm at0 (as := [(.long (Int32.toInt64 (rdI h12 24 (Int32.toNatClampNeg a41))))]) (rest := []) (z := 22) rfl (by exact trivial) (pc' := 198) rfl 20 rfl (lw_g (lw_at lw_m6 42 rfl) rfl) y_Ma_push rfl (d2 := 7) ⟨le_b rfl, pd_Ma_push, le_b rfl⟩ (le_b rfl) og_22 rfl (k_Ma_push (Int32.toInt64 (rdI h12 24 (Int32.toNatClampNeg a41))) h12) (fun _ h13 => ?_)
              refine hp_goto hm 21 rfl (tgt := 358) rfl ?_
              exact hp_vr hm 12 rfl rfl (fun _ e => e)
            · refine hp_sw hm 10 rfl (cs := [70, 71]) (off := 147) (by decide) (tgt := 204) rfl (sw2 _ _ _) ?_ (fun c44 => ?_)
              · exact hp_lf [0, 1, 3] rfl (fun _ e => e)
              · refine hp_sw hm 10 rfl (cs := [72]) (off := 216) (by decide) (tgt := 273) rfl (sw1 _ _) ?_ (fun c45 => ?_)
                · refine hp_cVT (M2 := M_Ma_setPlace) hm (at1 20 rfl) (as := [(.int p1.2.1), (.long (Int32.toInt64 p1.1))]) (rest := []) (z := 22) rfl (by exact trivial) (pc' := 277) rfl 22 rfl (lw_g (lw_at lw_m6 204 rfl) rfl) y_Ma_setPlace rfl (d2 := 8) ⟨le_b rfl, pd_Ma_setPlace, le_b rfl⟩ (le_b rfl) og_22 rfl (k_Ma_setPlace p1.2.1 (Int32.toInt64 p1.1) p1.2.2) (fun _ h14 => ?_)
                  refine hp_goto hm 23 rfl (tgt := 358) rfl ?_
                  exact hp_vr hm 12 rfl rfl (fun _ e => e)
                · refine hp_sd2 hm 10 rfl (css := [[66], [67], [68], [69], [70, 71], [72]]) (by decide) (by decide) (List.forall_mem_cons.mpr ⟨c34, (List.forall_mem_cons.mpr ⟨c37, (List.forall_mem_cons.mpr ⟨c40, (List.forall_mem_cons.mpr ⟨c43, (List.forall_mem_cons.mpr ⟨c44, (List.forall_mem_cons.mpr ⟨c45, (fun _ h => absurd h List.not_mem_nil)⟩)⟩)⟩)⟩)⟩)⟩) (tgt := 283) rfl ?_
                  refine hp_cVP (M2 := M_Ma_zone) hm (at1 21 rfl) (as := [(.int (0 : Int32))]) (rest := [(.ref 22)]) (z := 22) rfl (by exact trivial) (pc' := 286) rfl 24 rfl (lw_g (lw_at lw_m5 225 rfl) rfl) y_Ma_zone rfl (d2 := 1) ⟨le_b rfl, pd_Ma_zone, le_b rfl⟩ (le_b rfl) og_22 (k_Ma_zone (0 : Int32) p1.2.2) (fun a46 => ?_)
                  refine hp_G0 (fun q47 => ?_)
                  refine hp_b hm (at1 22 rfl) (L' := [(0, (.ref 22)), (1, (.int x1)), (2, (.int p1.1)), (3, (.int p1.2.1))]) (st' := [(.int p1.2.1), (.ref a46), (.ref 22)]) rfl (by exact trivial) (pc' := 290) rfl ?_
                  refine hp_cVT (M2 := M_Ma_point) hm at0 (as := [(.ref a46), (.int p1.2.1)]) (rest := []) (z := 22) rfl (by exact trivial) (pc' := 290) rfl 25 rfl (lw_g (lw_at lw_m5 229 rfl) rfl) y_Ma_point rfl (d2 := 7) ⟨le_b rfl, pd_Ma_point, le_b rfl⟩ (le_b rfl) og_22 rfl (k_Ma_point a46 p1.2.1 p1.2.2 q47) (fun a48 h15 => ?_)
                  refine hp_b hm (at1 23 rfl) (L' := [(6, (.int a48)), (0, (.ref 22)), (1, (.int x1)), (2, (.int p1.1)), (3, (.int p1.2.1))]) (st' := [(.int (1 : Int32)), (.ref 22), (.ref 22)]) rfl (by exact trivial) (pc' := 298) rfl ?_
                  refine hp_cVP (M2 := M_Ma_zone) hm at0 (as := [(.int (1 : Int32))]) (rest := [(.ref 22)]) (z := 22) rfl (by exact trivial) (pc' := 298) rfl 26 rfl (lw_g (lw_at lw_m5 225 rfl) rfl) y_Ma_zone rfl (d2 := 1) ⟨le_b rfl, pd_Ma_zone, le_b rfl⟩ (le_b rfl) og_22 (k_Ma_zone (1 : Int32) h15) (fun a49 => ?_)
                  refine hp_G0 (fun q50 => ?_)
                  refine hp_b hm (at1 24 rfl) (L' := [(6, (.int a48)), (0, (.ref 22)), (1, (.int x1)), (2, (.int p1.1)), (3, (.int p1.2.1))]) (st' := [(.int p1.1), (.ref a49), (.ref 22)]) rfl (by exact trivial) (pc' := 302) rfl ?_
                  refine hp_cVT (M2 := M_Ma_point) hm at0 (as := [(.ref a49), (.int p1.1)]) (rest := []) (z := 22) rfl (by exact trivial) (pc' := 302) rfl 27 rfl (lw_g (lw_at lw_m5 229 rfl) rfl) y_Ma_point rfl (d2 := 7) ⟨le_b rfl, pd_Ma_point, le_b rfl⟩ (le_b rfl) og_22 rfl (k_Ma_point a49 p1.1 h15 q50) (fun a51 h16 => ?_)
                  refine hp_b hm (at1 25 rfl) (L' := [(7, (.int a51)), (6, (.int a48)), (0, (.ref 22)), (1, (.int x1)), (2, (.int p1.1)), (3, (.int p1.2.1))]) (st' := [(.int (73 : Int32)), (.int x1), (.ref 22)]) rfl (by exact trivial) (pc' := 311) rfl ?_
                  refine hp_JT 355 (fun (p52 : Int64) => []) (fun (p52 : Int64) => [(.long p52), (.ref 22)]) (fun (p52 : Int64) => h16) ?_ (fun p52 => ?_)
                  · refine hp_ic_ne hm at0 rfl (by exact trivial) (pc' := 311) rfl 35 rfl (tgt := 336) rfl (fun c61 => ?_) (fun c61 => ?_)
                    · refine hp_cVP (M2 := M_Ma_zone) hm (at1 26 rfl) (as := [(.int (0 : Int32))]) (rest := [(.ref 22), (.ref 22)]) (z := 22) rfl (by exact trivial) (pc' := 339) rfl 28 rfl (lw_g (lw_at lw_m5 225 rfl) rfl) y_Ma_zone rfl (d2 := 1) ⟨le_b rfl, pd_Ma_zone, le_b rfl⟩ (le_b rfl) og_22 (k_Ma_zone (0 : Int32) h16) (fun a53 => ?_)
                      refine hp_cVP (M2 := M_Ma_zone) hm (at1 27 rfl) (as := [(.int (1 : Int32))]) (rest := [(.int a48), (.ref a53), (.ref 22), (.ref 22)]) (z := 22) rfl (by exact trivial) (pc' := 346) rfl 29 rfl (lw_g (lw_at lw_m5 225 rfl) rfl) y_Ma_zone rfl (d2 := 1) ⟨le_b rfl, pd_Ma_zone, le_b rfl⟩ (le_b rfl) og_22 (k_Ma_zone (1 : Int32) h16) (fun a54 => ?_)
                      refine hp_G0 (fun q55 => ?_)
                      refine hp_b hm (at1 28 rfl) (L' := [(7, (.int a51)), (6, (.int a48)), (0, (.ref 22)), (1, (.int x1)), (2, (.int p1.1)), (3, (.int p1.2.1))]) (st' := [(.int a51), (.ref a54), (.int a48), (.ref a53), (.ref 22), (.ref 22)]) rfl (by exact trivial) (pc' := 351) rfl ?_
                      refine hp_cVP (M2 := M_Ma_oldDistance) hm at0 (as := [(.ref a53), (.int a48), (.ref a54), (.int a51)]) (rest := [(.ref 22)]) (z := 22) rfl (by exact trivial) (pc' := 351) rfl 30 rfl (lw_g (lw_at lw_m6 5 rfl) rfl) y_Ma_oldDistance rfl (d2 := 4) ⟨le_b rfl, pd_Ma_oldDistance, le_b rfl⟩ (le_b rfl) og_22 (k_Ma_oldDistance a53 a48 a54 a51 h16 q55.1 q55.2) (fun a56 => ?_)
                      refine hp_b hm (at1 29 rfl) (L' := [(7, (.int a51)), (6, (.int a48)), (0, (.ref 22)), (1, (.int x1)), (2, (.int p1.1)), (3, (.int p1.2.1))]) (st' := [(.long (Int32.toInt64 a56)), (.ref 22)]) rfl (by exact trivial) (pc' := 355) rfl ?_
                      exact hp_lf [] rfl (fun _ e => e)
                    · refine hp_cVP (M2 := M_Ma_zone) hm (at1 30 rfl) (as := [(.int (0 : Int32))]) (rest := [(.ref 22), (.ref 22)]) (z := 22) rfl (by exact trivial) (pc' := 317) rfl 31 rfl (lw_g (lw_at lw_m5 225 rfl) rfl) y_Ma_zone rfl (d2 := 1) ⟨le_b rfl, pd_Ma_zone, le_b rfl⟩ (le_b rfl) og_22 (k_Ma_zone (0 : Int32) h16) (fun a57 => ?_)
                      refine hp_cVP (M2 := M_Ma_zone) hm (at1 31 rfl) (as := [(.int (1 : Int32))]) (rest := [(.int a48), (.ref a57), (.ref 22), (.ref 22)]) (z := 22) rfl (by exact trivial) (pc' := 324) rfl 32 rfl (lw_g (lw_at lw_m5 225 rfl) rfl) y_Ma_zone rfl (d2 := 1) ⟨le_b rfl, pd_Ma_zone, le_b rfl⟩ (le_b rfl) og_22 (k_Ma_zone (1 : Int32) h16) (fun a58 => ?_)
                      refine hp_G0 (fun q59 => ?_)
                      refine hp_b hm (at1 32 rfl) (L' := [(7, (.int a51)), (6, (.int a48)), (0, (.ref 22)), (1, (.int x1)), (2, (.int p1.1)), (3, (.int p1.2.1))]) (st' := [(.int a51), (.ref a58), (.int a48), (.ref a57), (.ref 22), (.ref 22)]) rfl (by exact trivial) (pc' := 329) rfl ?_
                      refine hp_cVP (M2 := M_Ma_distance) hm at0 (as := [(.ref a57), (.int a48), (.ref a58), (.int a51)]) (rest := [(.ref 22)]) (z := 22) rfl (by exact trivial) (pc' := 329) rfl 33 rfl (lw_g (lw_at lw_m6 21 rfl) rfl) y_Ma_distance rfl (d2 := 4) ⟨le_b rfl, pd_Ma_distance, le_b rfl⟩ (le_b rfl) og_22 (k_Ma_distance a57 a48 a58 a51 h16 q59.1 q59.2) (fun a60 => ?_)
                      refine hp_b hm (at1 33 rfl) (L' := [(7, (.int a51)), (6, (.int a48)), (0, (.ref 22)), (1, (.int x1)), (2, (.int p1.1)), (3, (.int p1.2.1))]) (st' := [(.long (Int32.toInt64 a60)), (.ref 22)]) rfl (by exact trivial) (pc' := 333) rfl ?_
                      refine hp_goto hm 34 rfl (tgt := 355) rfl ?_
                      exact hp_lf [] rfl (fun _ e => e)
                  · refine hp_cVT (M2 := M_Ma_push) hm at0 (as := [(.long p52)]) (rest := []) (z := 22) rfl (by exact trivial) (pc' := 355) rfl 36 rfl (lw_g (lw_at lw_m6 42 rfl) rfl) y_Ma_push rfl (d2 := 7) ⟨le_b rfl, pd_Ma_push, le_b rfl⟩ (le_b rfl) og_22 rfl (k_Ma_push p52 h16) (fun _ h17 => ?_)
                    exact hp_vr hm 12 rfl rfl (fun _ e => e)
    · refine hp_cVP (M2 := M_Ma_zone) hm (at1 34 rfl) (as := [(.int (2 : Int32))]) (rest := []) (z := 22) rfl (by exact trivial) (pc' := 206) rfl 37 rfl (lw_g (lw_at lw_m5 225 rfl) rfl) y_Ma_zone rfl (d2 := 1) ⟨le_b rfl, pd_Ma_zone, le_b rfl⟩ (le_b rfl) og_22 (k_Ma_zone (2 : Int32) p1.2.2) (fun a62 => ?_)
      refine hp_b hm (at1 35 rfl) (L' := [(4, (.ref a62)), (0, (.ref 22)), (1, (.int x1)), (3, (.int p1.2.1))]) (st' := [(.int p1.2.1), (.ref a62), (.ref 22)]) rfl (by exact trivial) (pc' := 215) rfl ?_
      refine hp_G0 (fun q63 => ?_)
      refine hp_cVT (M2 := M_Ma_point) hm at0 (as := [(.ref a62), (.int p1.2.1)]) (rest := []) (z := 22) rfl (by exact trivial) (pc' := 215) rfl 38 rfl (lw_g (lw_at lw_m5 229 rfl) rfl) y_Ma_point rfl (d2 := 7) ⟨le_b rfl, pd_Ma_point, le_b rfl⟩ (le_b rfl) og_22 rfl (k_Ma_point a62 p1.2.1 p1.2.2 q63) (fun a64 h18 => ?_)
      refine hp_b hm (at1 36 rfl) (L' := [(5, (.int a64)), (4, (.ref a62)), (0, (.ref 22)), (1, (.int x1)), (3, (.int p1.2.1))]) (st' := [(.int (70 : Int32)), (.int x1), (.ref 22)]) rfl (by exact trivial) (pc' := 224) rfl ?_
      refine hp_JT 267 (fun (p65 : Int64) => []) (fun (p65 : Int64) => [(.long p65), (.ref 22)]) (fun (p65 : Int64) => h18) ?_ (fun p65 => ?_)
      · refine hp_ic_ne hm at0 rfl (by exact trivial) (pc' := 224) rfl 42 rfl (tgt := 239) rfl (fun c69 => ?_) (fun c69 => ?_)
        · refine hp_G hm (at1 37 rfl) (L' := [(5, (.int a64)), (4, (.ref a62)), (0, (.ref 22)), (1, (.int x1)), (3, (.int p1.2.1))]) (st' := [(.int (rdI h18 22 33)), (.int (rdI h18 22 32)), (.int (rdI h18 (rf a62 1) (Int32.toNatClampNeg a64))), (.int (rdI h18 (rf a62 0) (Int32.toNatClampNeg a64))), (.ref 22)]) rfl (fun hP => (by exact ⟨⟨⟨⟨⟨q63, ⟨(rt_6_0 q63), (vp_cst (rl_6_0 q63) hP)⟩⟩, q63⟩, ⟨(rt_6_1 q63), (vp_cst (rl_6_1 q63) hP)⟩⟩, og_22⟩, og_22⟩)) (pc' := 263) rfl (fun q66 => ?_)
          refine hp_cSP (M2 := M_Ma_along) hm at0 (as := [(.int (rdI h18 (rf a62 0) (Int32.toNatClampNeg a64))), (.int (rdI h18 (rf a62 1) (Int32.toNatClampNeg a64))), (.int (rdI h18 22 32)), (.int (rdI h18 22 33))]) (rest := [(.ref 22)]) rfl (by exact trivial) (pc' := 263) rfl 39 rfl (lw_g (lw_at lw_m6 9 rfl) rfl) y_Ma_along rfl (d2 := 3) ⟨le_b rfl, pd_Ma_along, le_b rfl⟩ (le_b rfl) (k_Ma_along (rdI h18 (rf a62 0) (Int32.toNatClampNeg a64)) (rdI h18 (rf a62 1) (Int32.toNatClampNeg a64)) (rdI h18 22 32) (rdI h18 22 33) h18) (fun a67 => ?_)
          refine hp_b hm (at1 38 rfl) (L' := [(5, (.int a64)), (4, (.ref a62)), (0, (.ref 22)), (1, (.int x1)), (3, (.int p1.2.1))]) (st' := [(.long (Int32.toInt64 a67)), (.ref 22)]) rfl (by exact trivial) (pc' := 267) rfl ?_
          exact hp_lf [] rfl (fun _ e => e)
        · refine hp_cVP (M2 := M_Ma_place) hm (at1 39 rfl) (as := [(.ref a62), (.int a64)]) (rest := [(.ref 22)]) (z := 22) rfl (by exact trivial) (pc' := 232) rfl 40 rfl (lw_g (lw_at lw_m6 137 rfl) rfl) y_Ma_place rfl (d2 := 4) ⟨le_b rfl, pd_Ma_place, le_b rfl⟩ (le_b rfl) og_22 (k_Ma_place a62 a64 h18 q63) (fun a68 => ?_)
          refine hp_b hm (at1 40 rfl) (L' := [(5, (.int a64)), (4, (.ref a62)), (0, (.ref 22)), (1, (.int x1)), (3, (.int p1.2.1))]) (st' := [(.long (Int32.toInt64 a68)), (.ref 22)]) rfl (by exact trivial) (pc' := 236) rfl ?_
          refine hp_goto hm 41 rfl (tgt := 267) rfl ?_
          exact hp_lf [] rfl (fun _ e => e)
      · refine hp_cVT (M2 := M_Ma_push) hm at0 (as := [(.long p65)]) (rest := []) (z := 22) rfl (by exact trivial) (pc' := 267) rfl 43 rfl (lw_g (lw_at lw_m6 42 rfl) rfl) y_Ma_push rfl (d2 := 7) ⟨le_b rfl, pd_Ma_push, le_b rfl⟩ (le_b rfl) og_22 rfl (k_Ma_push p65 h18) (fun _ h19 => ?_)
        refine hp_goto hm 44 rfl (tgt := 358) rfl ?_
        exact hp_vr hm 12 rfl rfl (fun _ e => e)
/-! HintHouse$Machine.pushTruth(Z)V -/
def M_Ma_pushTruth : hM := (4, ⟨"HintHouse$Machine", "pushTruth", "(Z)V"⟩, prog_6_method_13_code, 2, (Option.none : Option Jvm.ClassFile.FieldType), [], [(0, [(.aload_n 0, 1, 0, 0, 0, .null), (.iload_n 1, 1, 0, 0, 0, .null)]), (9, [(.lconst 0, 1, 0, 0, 0, (.long (0 : Int64)))]), (5, [(.lconst 1, 1, 0, 0, 0, (.long (1 : Int64)))])], [(6, .goto 4, 3), (2, .ifCond .eq 7, 3), (10, .invokevirtual 242, 3), (13, .return_, 1)])
set_option maxRecDepth 100000 in
theorem m_Ma_pushTruth : hx_mok M_Ma_pushTruth = true := by decide +kernel
theorem pd_Ma_pushTruth : (parseMethodDescriptor M_Ma_pushTruth.2.1.desc).map (fun q => q.parameters.length) = some 1 := by decide +kernel
theorem y_Ma_pushTruth : hx_okV M_Ma_pushTruth := ⟨⟨lw_g (lw_at lw_m6 215 rfl) rfl, lw_g (lw_at lw_m6 214 rfl) rfl, qs94, lw_g (lw_at lw_m1 5 rfl) rfl, rfl, by decide, by decide, by decide⟩, rfl, by decide, plainFor_of_name (by decide)⟩
noncomputable def f_Ma_pushTruth (x1 : Int32) (h : hH) : Option (hH ⊕ (Unit × hH)) :=
  lz (A := Int64) (if x1 = 0 then (0 : Int64) else (1 : Int64)) fun p1 =>
  bT (f_Ma_push p1 h) fun _ h1 =>
  some (.inr ((), h1))
set_option maxRecDepth 20000 in
theorem k_Ma_pushTruth (x1 : Int32) (h : hH) : hx_kT S0 M_Ma_pushTruth 8 NT [(.ref 22), (.int x1)] h (f_Ma_pushTruth x1 h) cvU := by
  have hm := m_Ma_pushTruth
  show hx_P S0 M_Ma_pushTruth 8 0 [(0, (.ref 22)), (1, (.int x1))] [] NT h (f_Ma_pushTruth x1 h) (hx_T NT (hx_Rc cvU NT))
  unfold f_Ma_pushTruth
  refine hp_JZ 10 (fun (p1 : Int64) => []) (fun (p1 : Int64) => [(.long p1), (.ref 22)]) (fun (p1 : Int64) => h) ?_ (fun p1 => ?_)
  · refine hp_sv0 ?_
    refine hp_if_eq hm (at1 0 rfl) rfl (by exact trivial) (pc' := 2) rfl 1 rfl (tgt := 9) rfl (fun c2 => ?_) (fun c2 => ?_)
    · refine hp_b hm (at1 1 rfl) (L' := [(0, (.ref 22)), (1, (.int x1))]) (st' := [(.long (0 : Int64)), (.ref 22)]) rfl (by exact trivial) (pc' := 10) rfl ?_
      exact hp_lf [] rfl (fun _ e => e)
    · refine hp_b hm (at1 2 rfl) (L' := [(0, (.ref 22)), (1, (.int x1))]) (st' := [(.long (1 : Int64)), (.ref 22)]) rfl (by exact trivial) (pc' := 6) rfl ?_
      refine hp_goto hm 0 rfl (tgt := 10) rfl ?_
      exact hp_lf [] rfl (fun _ e => e)
  · refine hp_cVT (M2 := M_Ma_push) hm at0 (as := [(.long p1)]) (rest := []) (z := 22) rfl (by exact trivial) (pc' := 10) rfl 2 rfl (lw_g (lw_at lw_m6 42 rfl) rfl) y_Ma_push rfl (d2 := 7) ⟨le_b rfl, pd_Ma_push, le_b rfl⟩ (le_b rfl) og_22 rfl (k_Ma_push p1 h) (fun _ h1 => ?_)
    exact hp_vr hm 3 rfl rfl (fun _ e => e)
/-! HintHouse$Machine.compare(I)V -/
def M_Ma_compare : hM := (4, ⟨"HintHouse$Machine", "compare", "(I)V"⟩, prog_6_method_62_code, 5, (Option.none : Option Jvm.ClassFile.FieldType), [], [(0, [(.iload_n 1, 1, 0, 0, 0, .null), (.bipush 79, 2, 0, 0, 0, (.int (79 : Int32)))]), (12, [(.iload_n 1, 1, 0, 0, 0, .null), (.bipush 86, 2, 0, 0, 0, (.int (86 : Int32)))]), (36, [(.iconst 1, 1, 0, 0, 0, (.int (1 : Int32)))]), (18, [(.iload_n 1, 1, 0, 0, 0, .null), (.bipush 87, 2, 0, 0, 0, (.int (87 : Int32)))]), (24, [(.iload_n 1, 1, 0, 0, 0, .null), (.bipush 92, 2, 0, 0, 0, (.int (92 : Int32)))]), (30, [(.iload_n 1, 1, 0, 0, 0, .null), (.bipush 94, 2, 0, 0, 0, (.int (94 : Int32)))]), (40, [(.iconst 0, 1, 0, 0, 0, (.int (0 : Int32)))]), (41, [(.istore_n 2, 1, 0, 0, 0, .null), (.aload_n 0, 1, 0, 0, 0, .null), (.iload_n 2, 1, 0, 0, 0, .null)]), (51, [(.iconst 2, 1, 0, 0, 0, (.int (2 : Int32)))]), (47, [(.iconst 1, 1, 0, 0, 0, (.int (1 : Int32)))]), (55, [(.aload_n 0, 1, 0, 0, 0, .null)]), (59, [(.istore_n 3, 1, 0, 0, 0, .null), (.iload_n 2, 1, 0, 0, 0, .null)]), (68, [(.aload_n 0, 1, 0, 0, 0, .null)]), (64, [(.iconst 0, 1, 0, 0, 0, (.int (0 : Int32)))]), (72, [(.istore 4, 2, 0, 0, 0, .null), (.iload_n 1, 1, 0, 0, 0, .null)]), (148, [(.aload_n 0, 1, 0, 0, 0, .null), (.iload 4, 2, 0, 0, 0, .null), (.iload_n 3, 1, 0, 0, 0, .null)]), (159, [(.iconst 0, 1, 0, 0, 0, (.int (0 : Int32)))]), (155, [(.iconst 1, 1, 0, 0, 0, (.int (1 : Int32)))]), (166, [(.aload_n 0, 1, 0, 0, 0, .null), (.iload 4, 2, 0, 0, 0, .null), (.iload_n 3, 1, 0, 0, 0, .null)]), (177, [(.iconst 0, 1, 0, 0, 0, (.int (0 : Int32)))]), (173, [(.iconst 1, 1, 0, 0, 0, (.int (1 : Int32)))]), (184, [(.aload_n 0, 1, 0, 0, 0, .null), (.iload 4, 2, 0, 0, 0, .null), (.iload_n 3, 1, 0, 0, 0, .null)]), (195, [(.iconst 0, 1, 0, 0, 0, (.int (0 : Int32)))]), (191, [(.iconst 1, 1, 0, 0, 0, (.int (1 : Int32)))]), (202, [(.aload_n 0, 1, 0, 0, 0, .null), (.iload 4, 2, 0, 0, 0, .null), (.iload_n 3, 1, 0, 0, 0, .null)]), (213, [(.iconst 0, 1, 0, 0, 0, (.int (0 : Int32)))]), (209, [(.iconst 1, 1, 0, 0, 0, (.int (1 : Int32)))]), (220, [(.aload_n 0, 1, 0, 0, 0, .null), (.iload 4, 2, 0, 0, 0, .null), (.iload_n 3, 1, 0, 0, 0, .null)]), (231, [(.iconst 0, 1, 0, 0, 0, (.int (0 : Int32)))]), (227, [(.iconst 1, 1, 0, 0, 0, (.int (1 : Int32)))]), (238, [(.aload_n 0, 1, 0, 0, 0, .null), (.iload 4, 2, 0, 0, 0, .null), (.iload_n 3, 1, 0, 0, 0, .null)]), (249, [(.iconst 0, 1, 0, 0, 0, (.int (0 : Int32)))]), (245, [(.iconst 1, 1, 0, 0, 0, (.int (1 : Int32)))]), (295, [(.aload_n 0, 1, 0, 0, 0, .null), (.iload 4, 2, 0, 0, 0, .null)]), (309, [(.iconst 0, 1, 0, 0, 0, (.int (0 : Int32)))]), (301, [(.iload_n 3, 1, 0, 0, 0, .null)]), (305, [(.iconst 1, 1, 0, 0, 0, (.int (1 : Int32)))]), (316, [(.aload_n 0, 1, 0, 0, 0, .null), (.iload 4, 2, 0, 0, 0, .null)]), (326, [(.iconst 1, 1, 0, 0, 0, (.int (1 : Int32)))]), (322, [(.iload_n 3, 1, 0, 0, 0, .null)]), (330, [(.iconst 0, 1, 0, 0, 0, (.int (0 : Int32)))]), (337, [(.aload_n 0, 1, 0, 0, 0, .null), (.iload_n 3, 1, 0, 0, 0, .null)]), (346, [(.iconst 0, 1, 0, 0, 0, (.int (0 : Int32)))]), (342, [(.iconst 1, 1, 0, 0, 0, (.int (1 : Int32)))]), (353, [(.aload_n 0, 1, 0, 0, 0, .null), (.getfield 12, 3, 4, 1, 4, .null), (.getfield 134, 3, 5, 5, 4, .null), (.iload_n 3, 1, 0, 0, 0, .null), (.putfield 520, 3, 7, 5, 0, .null)]), (367, [(.aload_n 0, 1, 0, 0, 0, .null), (.iload_n 3, 1, 0, 0, 0, .null), (.i2l, 1, 0, 0, 0, .null), (.lconst 0, 1, 0, 0, 0, (.long (0 : Int64))), (.ldc2_w 523, 3, 0, 0, 0, (.long (6 : Int64)))]), (377, [(.bipush 11, 2, 0, 0, 0, (.int (11 : Int32)))]), (382, [(.aload_n 0, 1, 0, 0, 0, .null), (.getfield 12, 3, 4, 1, 4, .null), (.getfield 134, 3, 5, 5, 4, .null), (.iload_n 3, 1, 0, 0, 0, .null), (.putfield 525, 3, 7, 6, 0, .null)]), (256, [(.aload_n 0, 1, 0, 0, 0, .null), (.aload_n 0, 1, 0, 0, 0, .null), (.iload_n 3, 1, 0, 0, 0, .null), (.i2l, 1, 0, 0, 0, .null)]), (263, [(.ldc2_w 518, 3, 0, 0, 0, (.long (127 : Int64))), (.land, 1, 0, 0, 0, .null), (.iload_n 1, 1, 0, 0, 0, .null), (.bipush 86, 2, 0, 0, 0, (.int (86 : Int32)))]), (279, [(.lconst 0, 1, 0, 0, 0, (.long (0 : Int64)))]), (273, [(.ldc2_w 149, 3, 0, 0, 0, (.long (64 : Int64)))]), (280, [(.lcmp, 1, 0, 0, 0, .null)]), (288, [(.iconst 0, 1, 0, 0, 0, (.int (0 : Int32)))]), (284, [(.iconst 1, 1, 0, 0, 0, (.int (1 : Int32)))]), (6, [(.aload_n 0, 1, 0, 0, 0, .null), (.iload_n 1, 1, 0, 0, 0, .null)])], [(37, .goto 4, 3), (33, .if_icmp .lt 7, 3), (27, .if_icmp .eq 9, 3), (21, .if_icmp .eq 15, 3), (15, .if_icmp .eq 21, 3), (48, .goto 4, 3), (44, .ifCond .eq 7, 3), (52, .invokevirtual 334, 3), (56, .invokevirtual 337, 3), (69, .invokevirtual 337, 3), (65, .goto 7, 3), (61, .ifCond .eq 7, 3), (75, .tableswitch 292 80 94 #[73, 91, 109, 127, 145, 163, 181, 181, 292, 292, 220, 241, 262, 292, 278], 73), (156, .goto 4, 3), (152, .if_icmp .ge 7, 3), (160, .invokevirtual 515, 3), (393, .return_, 1), (163, .goto 230, 3), (174, .goto 4, 3), (170, .if_icmp .gt 7, 3), (178, .invokevirtual 515, 3), (181, .goto 212, 3), (192, .goto 4, 3), (188, .if_icmp .le 7, 3), (196, .invokevirtual 515, 3), (199, .goto 194, 3), (210, .goto 4, 3), (206, .if_icmp .lt 7, 3), (214, .invokevirtual 515, 3), (217, .goto 176, 3), (228, .goto 4, 3), (224, .if_icmp .ne 7, 3), (232, .invokevirtual 515, 3), (235, .goto 158, 3), (246, .goto 4, 3), (242, .if_icmp .eq 7, 3), (250, .invokevirtual 515, 3), (253, .goto 140, 3), (306, .goto 4, 3), (302, .ifCond .eq 7, 3), (298, .ifCond .eq 11, 3), (310, .invokevirtual 515, 3), (313, .goto 80, 3), (327, .goto 4, 3), (323, .ifCond .eq 7, 3), (319, .ifCond .ne 7, 3), (331, .invokevirtual 515, 3), (334, .goto 59, 3), (343, .goto 4, 3), (339, .ifCond .ne 7, 3), (347, .invokevirtual 515, 3), (350, .goto 43, 3), (364, .goto 29, 3), (374, .invokestatic 246, 3), (379, .invokevirtual 187, 3), (260, .invokevirtual 301, 3), (276, .goto 4, 3), (270, .if_icmp .ne 9, 3), (285, .goto 4, 3), (281, .ifCond .ne 7, 3), (289, .invokevirtual 515, 3), (292, .goto 101, 3), (8, .invokevirtual 383, 3), (11, .return_, 1), (3, .if_icmp .ne 9, 3)])
set_option maxRecDepth 100000 in
theorem m_Ma_compare : hx_mok M_Ma_compare = true := by decide +kernel
theorem pd_Ma_compare : (parseMethodDescriptor M_Ma_compare.2.1.desc).map (fun q => q.parameters.length) = some 1 := by decide +kernel
theorem y_Ma_compare : hx_okV M_Ma_compare := ⟨⟨lw_g (lw_at lw_m6 211 rfl) rfl, lw_g (lw_at lw_m6 210 rfl) rfl, qs93, lw_g (lw_at lw_m1 5 rfl) rfl, rfl, by decide, by decide, by decide⟩, rfl, by decide, plainFor_of_name (by decide)⟩
noncomputable def f_Ma_compare (x1 : Int32) (h : hH) : Option (hH ⊕ (Unit × hH)) :=
  if x1 = (79 : Int32) then (
    bT (f_Ma_unknown x1 h) fun _ h17 =>
    some (.inr ((), h17))
  ) else (
    lz (A := Int32) (if x1 = (86 : Int32) then (1 : Int32) else (if x1 = (87 : Int32) then (1 : Int32) else (if x1 = (92 : Int32) then (1 : Int32) else (if x1 < (94 : Int32) then (0 : Int32) else (1 : Int32))))) fun p1 =>
    lz (A := Int32) (if p1 = 0 then (2 : Int32) else (1 : Int32)) fun p6 =>
    bT (f_Ma_need p6 h) fun _ h1 =>
    bS (f_Ma_pop h1) fun a8 h2 =>
    bJT (P := (Int32 × hH)) (
      if p1 = 0 then (
        bS (f_Ma_pop h2) fun a10 h3 =>
        some (.inr (a10, h3))
      ) else (
        some (.inr ((0 : Int32), h2))
      )
    ) fun p9 =>
    bET (P := Unit) (X := (Unit × hH)) (
      bET (P := Unit) (X := (Unit ⊕ (Unit × hH))) (
        if x1 = (80 : Int32) then (
          lz (A := Int32) (if a8 ≤ p9.1 then (0 : Int32) else (1 : Int32)) fun p14 =>
          bT (f_Ma_pushTruth p14 p9.2) fun _ h4 =>
          some (.inr (.inr (.inr ((), h4))))
        ) else (
          if x1 = (81 : Int32) then (
            lz (A := Int32) (if a8 < p9.1 then (0 : Int32) else (1 : Int32)) fun p17 =>
            bT (f_Ma_pushTruth p17 p9.2) fun _ h5 =>
            some (.inr (.inr (.inr ((), h5))))
          ) else (
            if x1 = (82 : Int32) then (
              lz (A := Int32) (if p9.1 ≤ a8 then (0 : Int32) else (1 : Int32)) fun p20 =>
              bT (f_Ma_pushTruth p20 p9.2) fun _ h6 =>
              some (.inr (.inr (.inr ((), h6))))
            ) else (
              if x1 = (83 : Int32) then (
                lz (A := Int32) (if p9.1 < a8 then (0 : Int32) else (1 : Int32)) fun p23 =>
                bT (f_Ma_pushTruth p23 p9.2) fun _ h7 =>
                some (.inr (.inr (.inr ((), h7))))
              ) else (
                if x1 = (84 : Int32) then (
                  lz (A := Int32) (if p9.1 = a8 then (1 : Int32) else (0 : Int32)) fun p26 =>
                  bT (f_Ma_pushTruth p26 p9.2) fun _ h8 =>
                  some (.inr (.inr (.inr ((), h8))))
                ) else (
                  if x1 = (85 : Int32) then (
                    lz (A := Int32) (if p9.1 = a8 then (0 : Int32) else (1 : Int32)) fun p29 =>
                    bT (f_Ma_pushTruth p29 p9.2) fun _ h9 =>
                    some (.inr (.inr (.inr ((), h9))))
                  ) else (
                    if x1 = (86 : Int32) ∨ x1 = (87 : Int32) then (
                      some (.inr (.inr (.inl ())))
                    ) else (
                      if x1 = (90 : Int32) then (
                        lz (A := Int32) (if p9.1 = 0 then (0 : Int32) else (if a8 = 0 then (0 : Int32) else (1 : Int32))) fun p33 =>
                        bT (f_Ma_pushTruth p33 p9.2) fun _ h10 =>
                        some (.inr (.inr (.inr ((), h10))))
                      ) else (
                        if x1 = (91 : Int32) then (
                          lz (A := Int32) (if p9.1 = 0 then (if a8 = 0 then (0 : Int32) else (1 : Int32)) else (1 : Int32)) fun p37 =>
                          bT (f_Ma_pushTruth p37 p9.2) fun _ h11 =>
                          some (.inr (.inr (.inr ((), h11))))
                        ) else (
                          if x1 = (92 : Int32) then (
                            lz (A := Int32) (if a8 = 0 then (1 : Int32) else (0 : Int32)) fun p41 =>
                            bT (f_Ma_pushTruth p41 p9.2) fun _ h12 =>
                            some (.inr (.inr (.inr ((), h12))))
                          ) else (
                            if x1 = (94 : Int32) then (
                              lz (wrI p9.2 33 5 a8) fun h13 =>
                              some (.inr (.inr (.inr ((), h13))))
                            ) else (
                              some (.inr (.inl ()))
                            )
                          )
                        )
                      )
                    )
                  )
                )
              )
            )
          )
        )
      ) fun p13 =>
      bP (f_HH_within (Int32.toInt64 a8) (0 : Int64) (6 : Int64)) fun a45 =>
      bT (f_Ma_want a45 (11 : Int32) p9.2) fun _ h14 =>
      lz (wrI h14 33 6 a8) fun h15 =>
      some (.inr (.inr ((), h15)))
    ) fun p12 =>
    bP (f_Ma_rounded 2 (Int32.toInt64 a8) p9.2) fun a46 =>
    lz (A := Int64) (if x1 = (86 : Int32) then (64 : Int64) else (0 : Int64)) fun p47 =>
    lz (A := Int32) (if (a46 &&& (127 : Int64)) = p47 then (1 : Int32) else (0 : Int32)) fun p49 =>
    bT (f_Ma_pushTruth p49 p9.2) fun _ h16 =>
    some (.inr ((), h16))
  )
set_option maxRecDepth 20000 in
theorem k_Ma_compare (x1 : Int32) (h : hH) : hx_kT S0 M_Ma_compare 9 NT [(.ref 22), (.int x1)] h (f_Ma_compare x1 h) cvU := by
  have hm := m_Ma_compare
  show hx_P S0 M_Ma_compare 9 0 [(0, (.ref 22)), (1, (.int x1))] [] NT h (f_Ma_compare x1 h) (hx_T NT (hx_Rc cvU NT))
  unfold f_Ma_compare
  refine hp_ic_ne hm (at1 0 rfl) rfl (by exact trivial) (pc' := 3) rfl 64 rfl (tgt := 12) rfl (fun c51 => ?_) (fun c51 => ?_)
  · refine hp_JZ 41 (fun (p1 : Int32) => [(0, (.ref 22)), (1, (.int x1))]) (fun (p1 : Int32) => [(.int p1)]) (fun (p1 : Int32) => h) ?_ (fun p1 => ?_)
    · refine hp_sv0 ?_
      refine hp_ic_eq hm (at1 1 rfl) rfl (by exact trivial) (pc' := 15) rfl 4 rfl (tgt := 36) rfl (fun c5 => ?_) (fun c5 => ?_)
      · refine hp_b hm (at1 2 rfl) (L' := [(0, (.ref 22)), (1, (.int x1))]) (st' := [(.int (1 : Int32))]) rfl (by exact trivial) (pc' := 37) rfl ?_
        refine hp_goto hm 0 rfl (tgt := 41) rfl ?_
        exact hp_lf [0, 1] rfl (fun _ e => e)
      · refine hp_sv0 ?_
        refine hp_ic_eq hm (at1 3 rfl) rfl (by exact trivial) (pc' := 21) rfl 3 rfl (tgt := 36) rfl (fun c4 => ?_) (fun c4 => ?_)
        · refine hp_b hm (at1 2 rfl) (L' := [(0, (.ref 22)), (1, (.int x1))]) (st' := [(.int (1 : Int32))]) rfl (by exact trivial) (pc' := 37) rfl ?_
          refine hp_goto hm 0 rfl (tgt := 41) rfl ?_
          exact hp_lf [0, 1] rfl (fun _ e => e)
        · refine hp_sv0 ?_
          refine hp_ic_eq hm (at1 4 rfl) rfl (by exact trivial) (pc' := 27) rfl 2 rfl (tgt := 36) rfl (fun c3 => ?_) (fun c3 => ?_)
          · refine hp_b hm (at1 2 rfl) (L' := [(0, (.ref 22)), (1, (.int x1))]) (st' := [(.int (1 : Int32))]) rfl (by exact trivial) (pc' := 37) rfl ?_
            refine hp_goto hm 0 rfl (tgt := 41) rfl ?_
            exact hp_lf [0, 1] rfl (fun _ e => e)
          · refine hp_sv0 ?_
            refine hp_ic_lt hm (at1 5 rfl) rfl (by exact trivial) (pc' := 33) rfl 1 rfl (tgt := 40) rfl (fun c2 => ?_) (fun c2 => ?_)
            · refine hp_b hm (at1 6 rfl) (L' := [(0, (.ref 22)), (1, (.int x1))]) (st' := [(.int (0 : Int32))]) rfl (by exact trivial) (pc' := 41) rfl ?_
              exact hp_lf [0, 1] rfl (fun _ e => e)
            · refine hp_b hm (at1 2 rfl) (L' := [(0, (.ref 22)), (1, (.int x1))]) (st' := [(.int (1 : Int32))]) rfl (by exact trivial) (pc' := 37) rfl ?_
              refine hp_goto hm 0 rfl (tgt := 41) rfl ?_
              exact hp_lf [0, 1] rfl (fun _ e => e)
    · refine hp_b hm (at1 7 rfl) (L' := [(2, (.int p1)), (0, (.ref 22)), (1, (.int x1))]) (st' := [(.int p1), (.ref 22)]) rfl (by exact trivial) (pc' := 44) rfl ?_
      refine hp_JZ 52 (fun (p6 : Int32) => [(0, (.ref 22)), (1, (.int x1)), (2, (.int p1))]) (fun (p6 : Int32) => [(.int p6), (.ref 22)]) (fun (p6 : Int32) => h) ?_ (fun p6 => ?_)
      · refine hp_sv0 ?_
        refine hp_if_eq hm at0 rfl (by exact trivial) (pc' := 44) rfl 6 rfl (tgt := 51) rfl (fun c7 => ?_) (fun c7 => ?_)
        · refine hp_b hm (at1 8 rfl) (L' := [(2, (.int p1)), (0, (.ref 22)), (1, (.int x1))]) (st' := [(.int (2 : Int32)), (.ref 22)]) rfl (by exact trivial) (pc' := 52) rfl ?_
          exact hp_lf [1, 2, 0] rfl (fun _ e => e)
        · refine hp_b hm (at1 9 rfl) (L' := [(2, (.int p1)), (0, (.ref 22)), (1, (.int x1))]) (st' := [(.int (1 : Int32)), (.ref 22)]) rfl (by exact trivial) (pc' := 48) rfl ?_
          refine hp_goto hm 5 rfl (tgt := 52) rfl ?_
          exact hp_lf [1, 2, 0] rfl (fun _ e => e)
      · refine hp_cVT (M2 := M_Ma_need) hm at0 (as := [(.int p6)]) (rest := []) (z := 22) rfl (by exact trivial) (pc' := 52) rfl 7 rfl (lw_g (lw_at lw_m5 217 rfl) rfl) y_Ma_need rfl (d2 := 7) ⟨le_b rfl, pd_Ma_need, le_b rfl⟩ (le_b rfl) og_22 rfl (k_Ma_need p6 h) (fun _ h1 => ?_)
        refine hp_cVS (M2 := M_Ma_pop) hm (at1 10 rfl) (as := []) (rest := []) (z := 22) rfl (by exact trivial) (pc' := 56) rfl 8 rfl (lw_g (lw_at lw_m5 221 rfl) rfl) y_Ma_pop rfl (d2 := 1) ⟨le_b rfl, pd_Ma_pop, le_b rfl⟩ (le_b rfl) og_22 (k_Ma_pop h1) (fun a8 h2 => ?_)
        refine hp_b hm (at1 11 rfl) (L' := [(3, (.int a8)), (0, (.ref 22)), (1, (.int x1)), (2, (.int p1))]) (st' := [(.int p1)]) rfl (by exact trivial) (pc' := 61) rfl ?_
        refine hp_JT 72 (fun (p9 : (Int32 × hH)) => [(0, (.ref 22)), (1, (.int x1)), (3, (.int a8))]) (fun (p9 : (Int32 × hH)) => [(.int p9.1)]) (fun (p9 : (Int32 × hH)) => p9.2) ?_ (fun p9 => ?_)
        · refine hp_if_eq hm at0 rfl (by exact trivial) (pc' := 61) rfl 11 rfl (tgt := 68) rfl (fun c11 => ?_) (fun c11 => ?_)
          · refine hp_cVS (M2 := M_Ma_pop) hm (at1 12 rfl) (as := []) (rest := []) (z := 22) rfl (by exact trivial) (pc' := 69) rfl 9 rfl (lw_g (lw_at lw_m5 221 rfl) rfl) y_Ma_pop rfl (d2 := 1) ⟨le_b rfl, pd_Ma_pop, le_b rfl⟩ (le_b rfl) og_22 (k_Ma_pop h2) (fun a10 h3 => ?_)
            exact hp_lf [1, 2, 0] rfl (fun _ e => e)
          · refine hp_b hm (at1 13 rfl) (L' := [(3, (.int a8)), (0, (.ref 22)), (1, (.int x1)), (2, (.int p1))]) (st' := [(.int (0 : Int32))]) rfl (by exact trivial) (pc' := 65) rfl ?_
            refine hp_goto hm 10 rfl (tgt := 72) rfl ?_
            exact hp_lf [1, 2, 0] rfl (fun _ e => e)
        · refine hp_ET 256 (fun (p12 : Unit) => [(0, (.ref 22)), (1, (.int x1)), (3, (.int a8))]) (fun (p12 : Unit) => []) (fun (p12 : Unit) => p9.2) ?_ (fun p12 => ?_)
          · refine hp_ET 367 (fun (p13 : Unit) => [(0, (.ref 22)), (3, (.int a8))]) (fun (p13 : Unit) => []) (fun (p13 : Unit) => p9.2) ?_ (fun p13 => ?_)
            · refine hp_b hm (at1 14 rfl) (L' := [(4, (.int p9.1)), (0, (.ref 22)), (1, (.int x1)), (3, (.int a8))]) (st' := [(.int x1)]) rfl (by exact trivial) (pc' := 75) rfl ?_
              refine hp_sw hm 12 rfl (cs := [80]) (off := 73) (by decide) (tgt := 148) rfl (sw1 _ _) ?_ (fun c16 => ?_)
              · refine hp_JZ 160 (fun (p14 : Int32) => []) (fun (p14 : Int32) => [(.int p14), (.ref 22)]) (fun (p14 : Int32) => p9.2) ?_ (fun p14 => ?_)
                · refine hp_sv0 ?_
                  refine hp_ic_ge hm (at1 15 rfl) rfl (by exact trivial) (pc' := 152) rfl 14 rfl (tgt := 159) rfl (fun c15 => ?_) (fun c15 => ?_)
                  · refine hp_b hm (at1 16 rfl) (L' := [(4, (.int p9.1)), (0, (.ref 22)), (1, (.int x1)), (3, (.int a8))]) (st' := [(.int (0 : Int32)), (.ref 22)]) rfl (by exact trivial) (pc' := 160) rfl ?_
                    exact hp_lf [] rfl (fun _ e => e)
                  · refine hp_b hm (at1 17 rfl) (L' := [(4, (.int p9.1)), (0, (.ref 22)), (1, (.int x1)), (3, (.int a8))]) (st' := [(.int (1 : Int32)), (.ref 22)]) rfl (by exact trivial) (pc' := 156) rfl ?_
                    refine hp_goto hm 13 rfl (tgt := 160) rfl ?_
                    exact hp_lf [] rfl (fun _ e => e)
                · refine hp_cVT (M2 := M_Ma_pushTruth) hm at0 (as := [(.int p14)]) (rest := []) (z := 22) rfl (by exact trivial) (pc' := 160) rfl 15 rfl (lw_g (lw_at lw_m6 212 rfl) rfl) y_Ma_pushTruth rfl (d2 := 8) ⟨le_b rfl, pd_Ma_pushTruth, le_b rfl⟩ (le_b rfl) og_22 rfl (k_Ma_pushTruth p14 p9.2) (fun _ h4 => ?_)
                  refine hp_goto hm 17 rfl (tgt := 393) rfl ?_
                  exact hp_vr hm 16 rfl rfl (fun _ e => e)
              · refine hp_sw hm 12 rfl (cs := [81]) (off := 91) (by decide) (tgt := 166) rfl (sw1 _ _) ?_ (fun c19 => ?_)
                · refine hp_JZ 178 (fun (p17 : Int32) => []) (fun (p17 : Int32) => [(.int p17), (.ref 22)]) (fun (p17 : Int32) => p9.2) ?_ (fun p17 => ?_)
                  · refine hp_sv0 ?_
                    refine hp_ic_gt hm (at1 18 rfl) rfl (by exact trivial) (pc' := 170) rfl 19 rfl (tgt := 177) rfl (fun c18 => ?_) (fun c18 => ?_)
                    · refine hp_b hm (at1 19 rfl) (L' := [(4, (.int p9.1)), (0, (.ref 22)), (1, (.int x1)), (3, (.int a8))]) (st' := [(.int (0 : Int32)), (.ref 22)]) rfl (by exact trivial) (pc' := 178) rfl ?_
                      exact hp_lf [] rfl (fun _ e => e)
                    · refine hp_b hm (at1 20 rfl) (L' := [(4, (.int p9.1)), (0, (.ref 22)), (1, (.int x1)), (3, (.int a8))]) (st' := [(.int (1 : Int32)), (.ref 22)]) rfl (by exact trivial) (pc' := 174) rfl ?_
                      refine hp_goto hm 18 rfl (tgt := 178) rfl ?_
                      exact hp_lf [] rfl (fun _ e => e)
                  · refine hp_cVT (M2 := M_Ma_pushTruth) hm at0 (as := [(.int p17)]) (rest := []) (z := 22) rfl (by exact trivial) (pc' := 178) rfl 20 rfl (lw_g (lw_at lw_m6 212 rfl) rfl) y_Ma_pushTruth rfl (d2 := 8) ⟨le_b rfl, pd_Ma_pushTruth, le_b rfl⟩ (le_b rfl) og_22 rfl (k_Ma_pushTruth p17 p9.2) (fun _ h5 => ?_)
                    refine hp_goto hm 21 rfl (tgt := 393) rfl ?_
                    exact hp_vr hm 16 rfl rfl (fun _ e => e)
                · refine hp_sw hm 12 rfl (cs := [82]) (off := 109) (by decide) (tgt := 184) rfl (sw1 _ _) ?_ (fun c22 => ?_)
                  · refine hp_JZ 196 (fun (p20 : Int32) => []) (fun (p20 : Int32) => [(.int p20), (.ref 22)]) (fun (p20 : Int32) => p9.2) ?_ (fun p20 => ?_)
                    · refine hp_sv0 ?_
                      refine hp_ic_le hm (at1 21 rfl) rfl (by exact trivial) (pc' := 188) rfl 23 rfl (tgt := 195) rfl (fun c21 => ?_) (fun c21 => ?_)
                      · refine hp_b hm (at1 22 rfl) (L' := [(4, (.int p9.1)), (0, (.ref 22)), (1, (.int x1)), (3, (.int a8))]) (st' := [(.int (0 : Int32)), (.ref 22)]) rfl (by exact trivial) (pc' := 196) rfl ?_
                        exact hp_lf [] rfl (fun _ e => e)
                      · refine hp_b hm (at1 23 rfl) (L' := [(4, (.int p9.1)), (0, (.ref 22)), (1, (.int x1)), (3, (.int a8))]) (st' := [(.int (1 : Int32)), (.ref 22)]) rfl (by exact trivial) (pc' := 192) rfl ?_
                        refine hp_goto hm 22 rfl (tgt := 196) rfl ?_
                        exact hp_lf [] rfl (fun _ e => e)
                    · refine hp_cVT (M2 := M_Ma_pushTruth) hm at0 (as := [(.int p20)]) (rest := []) (z := 22) rfl (by exact trivial) (pc' := 196) rfl 24 rfl (lw_g (lw_at lw_m6 212 rfl) rfl) y_Ma_pushTruth rfl (d2 := 8) ⟨le_b rfl, pd_Ma_pushTruth, le_b rfl⟩ (le_b rfl) og_22 rfl (k_Ma_pushTruth p20 p9.2) (fun _ h6 => ?_)
                      refine hp_goto hm 25 rfl (tgt := 393) rfl ?_
                      exact hp_vr hm 16 rfl rfl (fun _ e => e)
                  · refine hp_sw hm 12 rfl (cs := [83]) (off := 127) (by decide) (tgt := 202) rfl (sw1 _ _) ?_ (fun c25 => ?_)
                    · refine hp_JZ 214 (fun (p23 : Int32) => []) (fun (p23 : Int32) => [(.int p23), (.ref 22)]) (fun (p23 : Int32) => p9.2) ?_ (fun p23 => ?_)
                      · refine hp_sv0 ?_
                        refine hp_ic_lt hm (at1 24 rfl) rfl (by exact trivial) (pc' := 206) rfl 27 rfl (tgt := 213) rfl (fun c24 => ?_) (fun c24 => ?_)
                        · refine hp_b hm (at1 25 rfl) (L' := [(4, (.int p9.1)), (0, (.ref 22)), (1, (.int x1)), (3, (.int a8))]) (st' := [(.int (0 : Int32)), (.ref 22)]) rfl (by exact trivial) (pc' := 214) rfl ?_
                          exact hp_lf [] rfl (fun _ e => e)
                        · refine hp_b hm (at1 26 rfl) (L' := [(4, (.int p9.1)), (0, (.ref 22)), (1, (.int x1)), (3, (.int a8))]) (st' := [(.int (1 : Int32)), (.ref 22)]) rfl (by exact trivial) (pc' := 210) rfl ?_
                          refine hp_goto hm 26 rfl (tgt := 214) rfl ?_
                          exact hp_lf [] rfl (fun _ e => e)
                      · refine hp_cVT (M2 := M_Ma_pushTruth) hm at0 (as := [(.int p23)]) (rest := []) (z := 22) rfl (by exact trivial) (pc' := 214) rfl 28 rfl (lw_g (lw_at lw_m6 212 rfl) rfl) y_Ma_pushTruth rfl (d2 := 8) ⟨le_b rfl, pd_Ma_pushTruth, le_b rfl⟩ (le_b rfl) og_22 rfl (k_Ma_pushTruth p23 p9.2) (fun _ h7 => ?_)
                        refine hp_goto hm 29 rfl (tgt := 393) rfl ?_
                        exact hp_vr hm 16 rfl rfl (fun _ e => e)
                    · refine hp_sw hm 12 rfl (cs := [84]) (off := 145) (by decide) (tgt := 220) rfl (sw1 _ _) ?_ (fun c28 => ?_)
                      · refine hp_JZ 232 (fun (p26 : Int32) => []) (fun (p26 : Int32) => [(.int p26), (.ref 22)]) (fun (p26 : Int32) => p9.2) ?_ (fun p26 => ?_)
                        · refine hp_sv0 ?_
                          refine hp_ic_ne hm (at1 27 rfl) rfl (by exact trivial) (pc' := 224) rfl 31 rfl (tgt := 231) rfl (fun c27 => ?_) (fun c27 => ?_)
                          · refine hp_b hm (at1 28 rfl) (L' := [(4, (.int p9.1)), (0, (.ref 22)), (1, (.int x1)), (3, (.int a8))]) (st' := [(.int (0 : Int32)), (.ref 22)]) rfl (by exact trivial) (pc' := 232) rfl ?_
                            exact hp_lf [] rfl (fun _ e => e)
                          · refine hp_b hm (at1 29 rfl) (L' := [(4, (.int p9.1)), (0, (.ref 22)), (1, (.int x1)), (3, (.int a8))]) (st' := [(.int (1 : Int32)), (.ref 22)]) rfl (by exact trivial) (pc' := 228) rfl ?_
                            refine hp_goto hm 30 rfl (tgt := 232) rfl ?_
                            exact hp_lf [] rfl (fun _ e => e)
                        · refine hp_cVT (M2 := M_Ma_pushTruth) hm at0 (as := [(.int p26)]) (rest := []) (z := 22) rfl (by exact trivial) (pc' := 232) rfl 32 rfl (lw_g (lw_at lw_m6 212 rfl) rfl) y_Ma_pushTruth rfl (d2 := 8) ⟨le_b rfl, pd_Ma_pushTruth, le_b rfl⟩ (le_b rfl) og_22 rfl (k_Ma_pushTruth p26 p9.2) (fun _ h8 => ?_)
                          refine hp_goto hm 33 rfl (tgt := 393) rfl ?_
                          exact hp_vr hm 16 rfl rfl (fun _ e => e)
                      · refine hp_sw hm 12 rfl (cs := [85]) (off := 163) (by decide) (tgt := 238) rfl (sw1 _ _) ?_ (fun c31 => ?_)
                        · refine hp_JZ 250 (fun (p29 : Int32) => []) (fun (p29 : Int32) => [(.int p29), (.ref 22)]) (fun (p29 : Int32) => p9.2) ?_ (fun p29 => ?_)
                          · refine hp_sv0 ?_
                            refine hp_ic_eq hm (at1 30 rfl) rfl (by exact trivial) (pc' := 242) rfl 35 rfl (tgt := 249) rfl (fun c30 => ?_) (fun c30 => ?_)
                            · refine hp_b hm (at1 31 rfl) (L' := [(4, (.int p9.1)), (0, (.ref 22)), (1, (.int x1)), (3, (.int a8))]) (st' := [(.int (0 : Int32)), (.ref 22)]) rfl (by exact trivial) (pc' := 250) rfl ?_
                              exact hp_lf [] rfl (fun _ e => e)
                            · refine hp_b hm (at1 32 rfl) (L' := [(4, (.int p9.1)), (0, (.ref 22)), (1, (.int x1)), (3, (.int a8))]) (st' := [(.int (1 : Int32)), (.ref 22)]) rfl (by exact trivial) (pc' := 246) rfl ?_
                              refine hp_goto hm 34 rfl (tgt := 250) rfl ?_
                              exact hp_lf [] rfl (fun _ e => e)
                          · refine hp_cVT (M2 := M_Ma_pushTruth) hm at0 (as := [(.int p29)]) (rest := []) (z := 22) rfl (by exact trivial) (pc' := 250) rfl 36 rfl (lw_g (lw_at lw_m6 212 rfl) rfl) y_Ma_pushTruth rfl (d2 := 8) ⟨le_b rfl, pd_Ma_pushTruth, le_b rfl⟩ (le_b rfl) og_22 rfl (k_Ma_pushTruth p29 p9.2) (fun _ h9 => ?_)
                            refine hp_goto hm 37 rfl (tgt := 393) rfl ?_
                            exact hp_vr hm 16 rfl rfl (fun _ e => e)
                        · refine hp_sw hm 12 rfl (cs := [86, 87]) (off := 181) (by decide) (tgt := 256) rfl (sw2 _ _ _) ?_ (fun c32 => ?_)
                          · exact hp_lf [1, 2, 3] rfl (fun _ e => e)
                          · refine hp_sw hm 12 rfl (cs := [90]) (off := 220) (by decide) (tgt := 295) rfl (sw1 _ _) ?_ (fun c36 => ?_)
                            · refine hp_JZ 310 (fun (p33 : Int32) => []) (fun (p33 : Int32) => [(.int p33), (.ref 22)]) (fun (p33 : Int32) => p9.2) ?_ (fun p33 => ?_)
                              · refine hp_sv0 ?_
                                refine hp_if_eq hm (at1 33 rfl) rfl (by exact trivial) (pc' := 298) rfl 40 rfl (tgt := 309) rfl (fun c35 => ?_) (fun c35 => ?_)
                                · refine hp_b hm (at1 34 rfl) (L' := [(4, (.int p9.1)), (0, (.ref 22)), (1, (.int x1)), (3, (.int a8))]) (st' := [(.int (0 : Int32)), (.ref 22)]) rfl (by exact trivial) (pc' := 310) rfl ?_
                                  exact hp_lf [] rfl (fun _ e => e)
                                · refine hp_sv0 ?_
                                  refine hp_if_eq hm (at1 35 rfl) rfl (by exact trivial) (pc' := 302) rfl 39 rfl (tgt := 309) rfl (fun c34 => ?_) (fun c34 => ?_)
                                  · refine hp_b hm (at1 34 rfl) (L' := [(4, (.int p9.1)), (0, (.ref 22)), (1, (.int x1)), (3, (.int a8))]) (st' := [(.int (0 : Int32)), (.ref 22)]) rfl (by exact trivial) (pc' := 310) rfl ?_
                                    exact hp_lf [] rfl (fun _ e => e)
                                  · refine hp_b hm (at1 36 rfl) (L' := [(4, (.int p9.1)), (0, (.ref 22)), (1, (.int x1)), (3, (.int a8))]) (st' := [(.int (1 : Int32)), (.ref 22)]) rfl (by exact trivial) (pc' := 306) rfl ?_
                                    refine hp_goto hm 38 rfl (tgt := 310) rfl ?_
                                    exact hp_lf [] rfl (fun _ e => e)
                              · refine hp_cVT (M2 := M_Ma_pushTruth) hm at0 (as := [(.int p33)]) (rest := []) (z := 22) rfl (by exact trivial) (pc' := 310) rfl 41 rfl (lw_g (lw_at lw_m6 212 rfl) rfl) y_Ma_pushTruth rfl (d2 := 8) ⟨le_b rfl, pd_Ma_pushTruth, le_b rfl⟩ (le_b rfl) og_22 rfl (k_Ma_pushTruth p33 p9.2) (fun _ h10 => ?_)
                                refine hp_goto hm 42 rfl (tgt := 393) rfl ?_
                                exact hp_vr hm 16 rfl rfl (fun _ e => e)
                            · refine hp_sw hm 12 rfl (cs := [91]) (off := 241) (by decide) (tgt := 316) rfl (sw1 _ _) ?_ (fun c40 => ?_)
                              · refine hp_JZ 331 (fun (p37 : Int32) => []) (fun (p37 : Int32) => [(.int p37), (.ref 22)]) (fun (p37 : Int32) => p9.2) ?_ (fun p37 => ?_)
                                · refine hp_sv0 ?_
                                  refine hp_if_ne hm (at1 37 rfl) rfl (by exact trivial) (pc' := 319) rfl 45 rfl (tgt := 326) rfl (fun c39 => ?_) (fun c39 => ?_)
                                  · refine hp_b hm (at1 38 rfl) (L' := [(4, (.int p9.1)), (0, (.ref 22)), (1, (.int x1)), (3, (.int a8))]) (st' := [(.int (1 : Int32)), (.ref 22)]) rfl (by exact trivial) (pc' := 327) rfl ?_
                                    refine hp_goto hm 43 rfl (tgt := 331) rfl ?_
                                    exact hp_lf [] rfl (fun _ e => e)
                                  · refine hp_sv0 ?_
                                    refine hp_if_eq hm (at1 39 rfl) rfl (by exact trivial) (pc' := 323) rfl 44 rfl (tgt := 330) rfl (fun c38 => ?_) (fun c38 => ?_)
                                    · refine hp_b hm (at1 40 rfl) (L' := [(4, (.int p9.1)), (0, (.ref 22)), (1, (.int x1)), (3, (.int a8))]) (st' := [(.int (0 : Int32)), (.ref 22)]) rfl (by exact trivial) (pc' := 331) rfl ?_
                                      exact hp_lf [] rfl (fun _ e => e)
                                    · refine hp_b hm (at1 38 rfl) (L' := [(4, (.int p9.1)), (0, (.ref 22)), (1, (.int x1)), (3, (.int a8))]) (st' := [(.int (1 : Int32)), (.ref 22)]) rfl (by exact trivial) (pc' := 327) rfl ?_
                                      refine hp_goto hm 43 rfl (tgt := 331) rfl ?_
                                      exact hp_lf [] rfl (fun _ e => e)
                                · refine hp_cVT (M2 := M_Ma_pushTruth) hm at0 (as := [(.int p37)]) (rest := []) (z := 22) rfl (by exact trivial) (pc' := 331) rfl 46 rfl (lw_g (lw_at lw_m6 212 rfl) rfl) y_Ma_pushTruth rfl (d2 := 8) ⟨le_b rfl, pd_Ma_pushTruth, le_b rfl⟩ (le_b rfl) og_22 rfl (k_Ma_pushTruth p37 p9.2) (fun _ h11 => ?_)
                                  refine hp_goto hm 47 rfl (tgt := 393) rfl ?_
                                  exact hp_vr hm 16 rfl rfl (fun _ e => e)
                              · refine hp_sw hm 12 rfl (cs := [92]) (off := 262) (by decide) (tgt := 337) rfl (sw1 _ _) ?_ (fun c43 => ?_)
                                · refine hp_JZ 347 (fun (p41 : Int32) => []) (fun (p41 : Int32) => [(.int p41), (.ref 22)]) (fun (p41 : Int32) => p9.2) ?_ (fun p41 => ?_)
                                  · refine hp_sv0 ?_
                                    refine hp_if_ne hm (at1 41 rfl) rfl (by exact trivial) (pc' := 339) rfl 49 rfl (tgt := 346) rfl (fun c42 => ?_) (fun c42 => ?_)
                                    · refine hp_b hm (at1 42 rfl) (L' := [(4, (.int p9.1)), (0, (.ref 22)), (1, (.int x1)), (3, (.int a8))]) (st' := [(.int (0 : Int32)), (.ref 22)]) rfl (by exact trivial) (pc' := 347) rfl ?_
                                      exact hp_lf [] rfl (fun _ e => e)
                                    · refine hp_b hm (at1 43 rfl) (L' := [(4, (.int p9.1)), (0, (.ref 22)), (1, (.int x1)), (3, (.int a8))]) (st' := [(.int (1 : Int32)), (.ref 22)]) rfl (by exact trivial) (pc' := 343) rfl ?_
                                      refine hp_goto hm 48 rfl (tgt := 347) rfl ?_
                                      exact hp_lf [] rfl (fun _ e => e)
                                  · refine hp_cVT (M2 := M_Ma_pushTruth) hm at0 (as := [(.int p41)]) (rest := []) (z := 22) rfl (by exact trivial) (pc' := 347) rfl 50 rfl (lw_g (lw_at lw_m6 212 rfl) rfl) y_Ma_pushTruth rfl (d2 := 8) ⟨le_b rfl, pd_Ma_pushTruth, le_b rfl⟩ (le_b rfl) og_22 rfl (k_Ma_pushTruth p41 p9.2) (fun _ h12 => ?_)
                                    refine hp_goto hm 51 rfl (tgt := 393) rfl ?_
                                    exact hp_vr hm 16 rfl rfl (fun _ e => e)
                                · refine hp_sw hm 12 rfl (cs := [94]) (off := 278) (by decide) (tgt := 353) rfl (sw1 _ _) ?_ (fun c44 => ?_)
                                  · refine hp_w hm (at1 44 rfl) (L' := [(4, (.int p9.1)), (0, (.ref 22)), (1, (.int x1)), (3, (.int a8))]) rfl (by exact ⟨⟨og_22, og_23⟩, og_33⟩) (pc' := 364) rfl (fun h13 => ?_)
                                    refine hp_goto hm 52 rfl (tgt := 393) rfl ?_
                                    exact hp_vr hm 16 rfl rfl (fun _ e => e)
                                  · refine hp_sd2 hm 12 rfl (css := [[80], [81], [82], [83], [84], [85], [86, 87], [90], [91], [92], [94]]) (by decide) (by decide) (List.forall_mem_cons.mpr ⟨c16, (List.forall_mem_cons.mpr ⟨c19, (List.forall_mem_cons.mpr ⟨c22, (List.forall_mem_cons.mpr ⟨c25, (List.forall_mem_cons.mpr ⟨c28, (List.forall_mem_cons.mpr ⟨c31, (List.forall_mem_cons.mpr ⟨c32, (List.forall_mem_cons.mpr ⟨c36, (List.forall_mem_cons.mpr ⟨c40, (List.forall_mem_cons.mpr ⟨c43, (List.forall_mem_cons.mpr ⟨c44, (fun _ h => absurd h List.not_mem_nil)⟩)⟩)⟩)⟩)⟩)⟩)⟩)⟩)⟩)⟩)⟩) (tgt := 367) rfl ?_
                                    exact hp_lf [1, 3] rfl (fun _ e => e)
            · refine hp_cNP (M2 := M_HH_within) hm (at1 45 rfl) (as := [(.long (Int32.toInt64 a8)), (.long (0 : Int64)), (.long (6 : Int64))]) (rest := [(.ref 22)]) rfl (by exact trivial) (pc' := 374) rfl 53 rfl (hmn_4_246) y_HH_within rfl (d2 := 1) ⟨le_b rfl, pd_HH_within, le_b rfl⟩ (le_b rfl) (k_HH_within (Int32.toInt64 a8) (0 : Int64) (6 : Int64) p9.2) (fun a45 => ?_)
              refine hp_cVT (M2 := M_Ma_want) hm (at1 46 rfl) (as := [(.int a45), (.int (11 : Int32))]) (rest := []) (z := 22) rfl (by exact trivial) (pc' := 379) rfl 54 rfl (lw_g (lw_at lw_m5 139 rfl) rfl) y_Ma_want rfl (d2 := 6) ⟨le_b rfl, pd_Ma_want, le_b rfl⟩ (le_b rfl) og_22 rfl (k_Ma_want a45 (11 : Int32) p9.2) (fun _ h14 => ?_)
              refine hp_w hm (at1 47 rfl) (L' := [(0, (.ref 22)), (3, (.int a8))]) rfl (by exact ⟨⟨og_22, og_23⟩, og_33⟩) (pc' := 393) rfl (fun h15 => ?_)
              exact hp_vr hm 16 rfl rfl (fun _ e => e)
          · refine hp_cVP (M2 := M_Ma_rounded) hm (at1 48 rfl) (as := [(.long (Int32.toInt64 a8))]) (rest := [(.ref 22)]) (z := 22) rfl (by exact trivial) (pc' := 260) rfl 55 rfl (lw_g (lw_at lw_m6 12 rfl) rfl) y_Ma_rounded rfl (d2 := 5) ⟨le_b rfl, pd_Ma_rounded, le_b rfl⟩ (le_b rfl) og_22 (k_Ma_rounded 2 (Int32.toInt64 a8) p9.2) (fun a46 => ?_)
            refine hp_JZ 280 (fun (p47 : Int64) => []) (fun (p47 : Int64) => [(.long p47), (.long (a46 &&& (127 : Int64))), (.ref 22)]) (fun (p47 : Int64) => p9.2) ?_ (fun p47 => ?_)
            · refine hp_sv0 ?_
              refine hp_ic_ne hm (at1 49 rfl) rfl (by exact trivial) (pc' := 270) rfl 57 rfl (tgt := 279) rfl (fun c48 => ?_) (fun c48 => ?_)
              · refine hp_b hm (at1 50 rfl) (L' := [(0, (.ref 22)), (1, (.int x1)), (3, (.int a8))]) (st' := [(.long (0 : Int64)), (.long (a46 &&& (127 : Int64))), (.ref 22)]) rfl (by exact trivial) (pc' := 280) rfl ?_
                exact hp_lf [] rfl (fun _ e => e)
              · refine hp_b hm (at1 51 rfl) (L' := [(0, (.ref 22)), (1, (.int x1)), (3, (.int a8))]) (st' := [(.long (64 : Int64)), (.long (a46 &&& (127 : Int64))), (.ref 22)]) rfl (by exact trivial) (pc' := 276) rfl ?_
                refine hp_goto hm 56 rfl (tgt := 280) rfl ?_
                exact hp_lf [] rfl (fun _ e => e)
            · refine hp_JZ 289 (fun (p49 : Int32) => []) (fun (p49 : Int32) => [(.int p49), (.ref 22)]) (fun (p49 : Int32) => p9.2) ?_ (fun p49 => ?_)
              · refine hp_sv0 ?_
                refine hp_lc_ne hm (at1 52 rfl) rfl (by exact trivial) (pc' := 281) rfl 59 rfl (tgt := 288) rfl (fun c50 => ?_) (fun c50 => ?_)
                · refine hp_b hm (at1 53 rfl) (L' := []) (st' := [(.int (0 : Int32)), (.ref 22)]) rfl (by exact trivial) (pc' := 289) rfl ?_
                  exact hp_lf [] rfl (fun _ e => e)
                · refine hp_b hm (at1 54 rfl) (L' := []) (st' := [(.int (1 : Int32)), (.ref 22)]) rfl (by exact trivial) (pc' := 285) rfl ?_
                  refine hp_goto hm 58 rfl (tgt := 289) rfl ?_
                  exact hp_lf [] rfl (fun _ e => e)
              · refine hp_cVT (M2 := M_Ma_pushTruth) hm at0 (as := [(.int p49)]) (rest := []) (z := 22) rfl (by exact trivial) (pc' := 289) rfl 60 rfl (lw_g (lw_at lw_m6 212 rfl) rfl) y_Ma_pushTruth rfl (d2 := 8) ⟨le_b rfl, pd_Ma_pushTruth, le_b rfl⟩ (le_b rfl) og_22 rfl (k_Ma_pushTruth p49 p9.2) (fun _ h16 => ?_)
                refine hp_goto hm 61 rfl (tgt := 393) rfl ?_
                exact hp_vr hm 16 rfl rfl (fun _ e => e)
  · refine hp_cVT (M2 := M_Ma_unknown) hm (at1 55 rfl) (as := [(.int x1)]) (rest := []) (z := 22) rfl (by exact trivial) (pc' := 8) rfl 62 rfl (lw_g (lw_at lw_m6 71 rfl) rfl) y_Ma_unknown rfl (d2 := 8) ⟨le_b rfl, pd_Ma_unknown, le_b rfl⟩ (le_b rfl) og_22 rfl (k_Ma_unknown x1 h) (fun _ h17 => ?_)
    exact hp_vr hm 63 rfl rfl (fun _ e => e)
/-! HintHouse$Machine.middle(I)V -/
def M_Ma_middle : hM := (4, ⟨"HintHouse$Machine", "middle", "(I)V"⟩, prog_6_method_58_code, 3, (Option.none : Option Jvm.ClassFile.FieldType), [], [(0, [(.iload_n 1, 1, 0, 0, 0, .null)]), (210, [(.aload_n 0, 1, 0, 0, 0, .null), (.iconst 1, 1, 0, 0, 0, (.int (1 : Int32)))]), (215, [(.aload_n 0, 1, 0, 0, 0, .null)]), (222, [(.aload_n 0, 1, 0, 0, 0, .null), (.iconst 1, 1, 0, 0, 0, (.int (1 : Int32)))]), (233, [(.aload_n 0, 1, 0, 0, 0, .null), (.iconst 0, 1, 0, 0, 0, (.int (0 : Int32))), (.iconst 0, 1, 0, 0, 0, (.int (0 : Int32)))]), (186, [(.aload_n 0, 1, 0, 0, 0, .null), (.getfield 12, 3, 4, 1, 4, .null), (.getfield 134, 3, 5, 5, 4, .null), (.iload_n 1, 1, 0, 0, 0, .null), (.bipush 77, 2, 0, 0, 0, (.int (77 : Int32)))]), (203, [(.iconst 0, 1, 0, 0, 0, (.int (0 : Int32)))]), (199, [(.iconst 1, 1, 0, 0, 0, (.int (1 : Int32)))]), (204, [(.putfield 496, 3, 7, 4, 1, .null)]), (174, [(.aload_n 0, 1, 0, 0, 0, .null), (.aload_n 0, 1, 0, 0, 0, .null), (.getfield 84, 3, 4, 4, 0, .null), (.i2l, 1, 0, 0, 0, .null)]), (242, [(.iload_n 1, 1, 0, 0, 0, .null), (.bipush 75, 2, 0, 0, 0, (.int (75 : Int32)))]), (256, [(.aload_n 0, 1, 0, 0, 0, .null), (.iload_n 1, 1, 0, 0, 0, .null)]), (248, [(.aload_n 0, 1, 0, 0, 0, .null), (.iload_n 1, 1, 0, 0, 0, .null)]), (136, [(.aload_n 0, 1, 0, 0, 0, .null), (.aload_n 0, 1, 0, 0, 0, .null), (.getfield 164, 3, 4, 11, 0, .null)]), (144, [(.istore_n 2, 1, 0, 0, 0, .null), (.aload_n 0, 1, 0, 0, 0, .null), (.dup, 1, 0, 0, 0, .null), (.getfield 164, 3, 4, 11, 0, .null), (.iconst 1, 1, 0, 0, 0, (.int (1 : Int32))), (.iadd, 1, 0, 0, 0, .null), (.putfield 164, 3, 4, 11, 0, .null)]), (155, [(.aload_n 0, 1, 0, 0, 0, .null), (.iload_n 2, 1, 0, 0, 0, .null), (.iload_n 1, 1, 0, 0, 0, .null), (.bipush 65, 2, 0, 0, 0, (.int (65 : Int32)))]), (167, [(.iconst 0, 1, 0, 0, 0, (.int (0 : Int32)))]), (163, [(.iconst 1, 1, 0, 0, 0, (.int (1 : Int32)))])], [(1, .tableswitch 241 64 93 #[135, 135, 241, 241, 241, 241, 241, 241, 241, 241, 241, 173, 173, 185, 185, 241, 241, 241, 241, 241, 241, 241, 241, 241, 209, 229, 241, 241, 241, 232], 135), (212, .invokevirtual 334, 3), (216, .invokevirtual 337, 3), (261, .return_, 1), (224, .invokevirtual 389, 3), (227, .goto 34, 3), (219, .ifCond .ne 42, 3), (230, .goto 31, 3), (236, .invokevirtual 499, 3), (239, .goto 22, 3), (200, .goto 4, 3), (196, .if_icmp .ne 7, 3), (207, .goto 54, 3), (180, .invokevirtual 242, 3), (183, .goto 78, 3), (258, .invokevirtual 505, 3), (250, .invokevirtual 502, 3), (253, .goto 8, 3), (245, .if_icmp .ge 11, 3), (141, .invokevirtual 197, 3), (164, .goto 4, 3), (160, .if_icmp .ne 7, 3), (168, .invokevirtual 310, 3), (171, .goto 90, 3)])
set_option maxRecDepth 100000 in
theorem m_Ma_middle : hx_mok M_Ma_middle = true := by decide +kernel
theorem pd_Ma_middle : (parseMethodDescriptor M_Ma_middle.2.1.desc).map (fun q => q.parameters.length) = some 1 := by decide +kernel
theorem y_Ma_middle : hx_okV M_Ma_middle := ⟨⟨lw_g (lw_at lw_m6 191 rfl) rfl, lw_g (lw_at lw_m6 190 rfl) rfl, qs88, lw_g (lw_at lw_m1 5 rfl) rfl, rfl, by decide, by decide, by decide⟩, rfl, by decide, plainFor_of_name (by decide)⟩
noncomputable def f_Ma_middle (x1 : Int32) (h : hH) : Option (hH ⊕ (Unit × hH)) :=
  bET (P := Unit) (X := (Unit × hH)) (
    bET (P := Unit) (X := (Unit ⊕ (Unit × hH))) (
      bET (P := Unit) (X := (Unit ⊕ (Unit ⊕ (Unit × hH)))) (
        bET (P := Unit) (X := (Unit ⊕ (Unit ⊕ (Unit ⊕ (Unit × hH))))) (
          if x1 = (64 : Int32) ∨ x1 = (65 : Int32) then (
            some (.inr (.inr (.inr (.inr (.inl ())))))
          ) else (
            if x1 = (75 : Int32) ∨ x1 = (76 : Int32) then (
              some (.inr (.inr (.inl ())))
            ) else (
              if x1 = (77 : Int32) ∨ x1 = (78 : Int32) then (
                some (.inr (.inl ()))
              ) else (
                if x1 = (88 : Int32) then (
                  bT (f_Ma_need (1 : Int32) h) fun _ h1 =>
                  bS (f_Ma_pop h1) fun a8 h2 =>
                  if a8 = 0 then (
                    bT (f_Ma_passIf (1 : Int32) h2) fun _ h3 =>
                    some (.inr (.inr (.inr (.inr (.inr ((), h3))))))
                  ) else (
                    some (.inr (.inr (.inr (.inr (.inr ((), h2))))))
                  )
                ) else (
                  if x1 = (89 : Int32) then (
                    some (.inr (.inr (.inr (.inr (.inr ((), h))))))
                  ) else (
                    if x1 = (93 : Int32) then (
                      bT (f_Ma_deltas (0 : Int32) (0 : Int32) h) fun _ h4 =>
                      some (.inr (.inr (.inr (.inr (.inr ((), h4))))))
                    ) else (
                      some (.inr (.inr (.inr (.inl ()))))
                    )
                  )
                )
              )
            )
          )
        ) fun p4 =>
        lz (A := Int32) (if x1 = (77 : Int32) then (1 : Int32) else (0 : Int32)) fun p13 =>
        gd ((p13 = 0 ∨ p13 = 1)) <|
        lz (wrI h 33 4 p13) fun h5 =>
        some (.inr (.inr (.inr (.inr ((), h5)))))
      ) fun p3 =>
      bT (f_Ma_push (Int32.toInt64 (rdI h 22 4)) h) fun _ h6 =>
      some (.inr (.inr (.inr ((), h6))))
    ) fun p2 =>
    if (75 : Int32) ≤ x1 then (
      bT (f_Ma_compare x1 h) fun _ h7 =>
      some (.inr (.inr ((), h7)))
    ) else (
      bT (f_Ma_held x1 h) fun _ h8 =>
      some (.inr (.inr ((), h8)))
    )
  ) fun p1 =>
  bT (f_Ma_byteAt (rdI h 22 11) h) fun a17 h9 =>
  lz (wrI h9 22 11 ((rdI h9 22 11) + (1 : Int32))) fun h10 =>
  lz (A := Int32) (if x1 = (65 : Int32) then (1 : Int32) else (0 : Int32)) fun p18 =>
  bT (f_Ma_pushBytes a17 p18 h10) fun _ h11 =>
  some (.inr ((), h11))
set_option maxRecDepth 20000 in
theorem k_Ma_middle (x1 : Int32) (h : hH) : hx_kT S0 M_Ma_middle 10 NT [(.ref 22), (.int x1)] h (f_Ma_middle x1 h) cvU := by
  have hm := m_Ma_middle
  show hx_P S0 M_Ma_middle 10 0 [(0, (.ref 22)), (1, (.int x1))] [] NT h (f_Ma_middle x1 h) (hx_T NT (hx_Rc cvU NT))
  unfold f_Ma_middle
  refine hp_ET 136 (fun (p1 : Unit) => [(0, (.ref 22)), (1, (.int x1))]) (fun (p1 : Unit) => []) (fun (p1 : Unit) => h) ?_ (fun p1 => ?_)
  · refine hp_ET 242 (fun (p2 : Unit) => [(0, (.ref 22)), (1, (.int x1))]) (fun (p2 : Unit) => []) (fun (p2 : Unit) => h) ?_ (fun p2 => ?_)
    · refine hp_ET 174 (fun (p3 : Unit) => [(0, (.ref 22))]) (fun (p3 : Unit) => []) (fun (p3 : Unit) => h) ?_ (fun p3 => ?_)
      · refine hp_ET 186 (fun (p4 : Unit) => [(0, (.ref 22)), (1, (.int x1))]) (fun (p4 : Unit) => []) (fun (p4 : Unit) => h) ?_ (fun p4 => ?_)
        · refine hp_b hm (at1 0 rfl) (L' := [(0, (.ref 22)), (1, (.int x1))]) (st' := [(.int x1)]) rfl (by exact trivial) (pc' := 1) rfl ?_
          refine hp_sw hm 0 rfl (cs := [64, 65]) (off := 135) (by decide) (tgt := 136) rfl (sw2 _ _ _) ?_ (fun c5 => ?_)
          · exact hp_lf [0, 1] rfl (fun _ e => e)
          · refine hp_sw hm 0 rfl (cs := [75, 76]) (off := 173) (by decide) (tgt := 174) rfl (sw2 _ _ _) ?_ (fun c6 => ?_)
            · exact hp_lf [0] rfl (fun _ e => e)
            · refine hp_sw hm 0 rfl (cs := [77, 78]) (off := 185) (by decide) (tgt := 186) rfl (sw2 _ _ _) ?_ (fun c7 => ?_)
              · exact hp_lf [0, 1] rfl (fun _ e => e)
              · refine hp_sw hm 0 rfl (cs := [88]) (off := 209) (by decide) (tgt := 210) rfl (sw1 _ _) ?_ (fun c10 => ?_)
                · refine hp_cVT (M2 := M_Ma_need) hm (at1 1 rfl) (as := [(.int (1 : Int32))]) (rest := []) (z := 22) rfl (by exact trivial) (pc' := 212) rfl 1 rfl (lw_g (lw_at lw_m5 217 rfl) rfl) y_Ma_need rfl (d2 := 7) ⟨le_b rfl, pd_Ma_need, le_b rfl⟩ (le_b rfl) og_22 rfl (k_Ma_need (1 : Int32) h) (fun _ h1 => ?_)
                  refine hp_cVS (M2 := M_Ma_pop) hm (at1 2 rfl) (as := []) (rest := []) (z := 22) rfl (by exact trivial) (pc' := 216) rfl 2 rfl (lw_g (lw_at lw_m5 221 rfl) rfl) y_Ma_pop rfl (d2 := 1) ⟨le_b rfl, pd_Ma_pop, le_b rfl⟩ (le_b rfl) og_22 (k_Ma_pop h1) (fun a8 h2 => ?_)
                  refine hp_if_ne hm at0 rfl (by exact trivial) (pc' := 219) rfl 6 rfl (tgt := 261) rfl (fun c9 => ?_) (fun c9 => ?_)
                  · exact hp_vr hm 3 rfl rfl (fun _ e => e)
                  · refine hp_cVT (M2 := M_Ma_passIf) hm (at1 3 rfl) (as := [(.int (1 : Int32))]) (rest := []) (z := 22) rfl (by exact trivial) (pc' := 224) rfl 4 rfl (lw_g (lw_at lw_m6 91 rfl) rfl) y_Ma_passIf rfl (d2 := 9) ⟨le_b rfl, pd_Ma_passIf, le_b rfl⟩ (le_b rfl) og_22 rfl (k_Ma_passIf (1 : Int32) h2) (fun _ h3 => ?_)
                    refine hp_goto hm 5 rfl (tgt := 261) rfl ?_
                    exact hp_vr hm 3 rfl rfl (fun _ e => e)
                · refine hp_sw hm 0 rfl (cs := [89]) (off := 229) (by decide) (tgt := 230) rfl (sw1 _ _) ?_ (fun c11 => ?_)
                  · refine hp_goto hm 7 rfl (tgt := 261) rfl ?_
                    exact hp_vr hm 3 rfl rfl (fun _ e => e)
                  · refine hp_sw hm 0 rfl (cs := [93]) (off := 232) (by decide) (tgt := 233) rfl (sw1 _ _) ?_ (fun c12 => ?_)
                    · refine hp_cVT (M2 := M_Ma_deltas) hm (at1 4 rfl) (as := [(.int (0 : Int32)), (.int (0 : Int32))]) (rest := []) (z := 22) rfl (by exact trivial) (pc' := 236) rfl 8 rfl (lw_g (lw_at lw_m6 192 rfl) rfl) y_Ma_deltas rfl (d2 := 8) ⟨le_b rfl, pd_Ma_deltas, le_b rfl⟩ (le_b rfl) og_22 rfl (k_Ma_deltas (0 : Int32) (0 : Int32) h) (fun _ h4 => ?_)
                      refine hp_goto hm 9 rfl (tgt := 261) rfl ?_
                      exact hp_vr hm 3 rfl rfl (fun _ e => e)
                    · refine hp_sd2 hm 0 rfl (css := [[64, 65], [75, 76], [77, 78], [88], [89], [93]]) (by decide) (by decide) (List.forall_mem_cons.mpr ⟨c5, (List.forall_mem_cons.mpr ⟨c6, (List.forall_mem_cons.mpr ⟨c7, (List.forall_mem_cons.mpr ⟨c10, (List.forall_mem_cons.mpr ⟨c11, (List.forall_mem_cons.mpr ⟨c12, (fun _ h => absurd h List.not_mem_nil)⟩)⟩)⟩)⟩)⟩)⟩) (tgt := 242) rfl ?_
                      exact hp_lf [0, 1] rfl (fun _ e => e)
        · refine hp_JZ 204 (fun (p13 : Int32) => []) (fun (p13 : Int32) => [(.int p13), (.ref 33)]) (fun (p13 : Int32) => h) ?_ (fun p13 => ?_)
          · refine hp_sv0 ?_
            refine hp_ic_ne hm (at1 5 rfl) rfl (by exact ⟨og_22, og_23⟩) (pc' := 196) rfl 11 rfl (tgt := 203) rfl (fun c14 => ?_) (fun c14 => ?_)
            · refine hp_b hm (at1 6 rfl) (L' := [(0, (.ref 22)), (1, (.int x1))]) (st' := [(.int (0 : Int32)), (.ref 33)]) rfl (by exact trivial) (pc' := 204) rfl ?_
              exact hp_lf [] rfl (fun _ e => e)
            · refine hp_b hm (at1 7 rfl) (L' := [(0, (.ref 22)), (1, (.int x1))]) (st' := [(.int (1 : Int32)), (.ref 33)]) rfl (by exact trivial) (pc' := 200) rfl ?_
              refine hp_goto hm 10 rfl (tgt := 204) rfl ?_
              exact hp_lf [] rfl (fun _ e => e)
          · refine hp_GW hm (at1 8 rfl) (L' := []) rfl (fun hP => (by exact ⟨og_33, hP⟩)) (pc' := 207) rfl (fun q15 h5 => ?_)
            refine hp_goto hm 12 rfl (tgt := 261) rfl ?_
            exact hp_vr hm 3 rfl rfl (fun _ e => e)
      · refine hp_cVT (M2 := M_Ma_push) hm (at1 9 rfl) (as := [(.long (Int32.toInt64 (rdI h 22 4)))]) (rest := []) (z := 22) rfl (by exact og_22) (pc' := 180) rfl 13 rfl (lw_g (lw_at lw_m6 42 rfl) rfl) y_Ma_push rfl (d2 := 7) ⟨le_b rfl, pd_Ma_push, le_b rfl⟩ (le_b rfl) og_22 rfl (k_Ma_push (Int32.toInt64 (rdI h 22 4)) h) (fun _ h6 => ?_)
        refine hp_goto hm 14 rfl (tgt := 261) rfl ?_
        exact hp_vr hm 3 rfl rfl (fun _ e => e)
    · refine hp_ic_ge hm (at1 10 rfl) rfl (by exact trivial) (pc' := 245) rfl 18 rfl (tgt := 256) rfl (fun c16 => ?_) (fun c16 => ?_)
      · refine hp_cVT (M2 := M_Ma_compare) hm (at1 11 rfl) (as := [(.int x1)]) (rest := []) (z := 22) rfl (by exact trivial) (pc' := 258) rfl 15 rfl (lw_g (lw_at lw_m6 208 rfl) rfl) y_Ma_compare rfl (d2 := 9) ⟨le_b rfl, pd_Ma_compare, le_b rfl⟩ (le_b rfl) og_22 rfl (k_Ma_compare x1 h) (fun _ h7 => ?_)
        exact hp_vr hm 3 rfl rfl (fun _ e => e)
      · refine hp_cVT (M2 := M_Ma_held) hm (at1 12 rfl) (as := [(.int x1)]) (rest := []) (z := 22) rfl (by exact trivial) (pc' := 250) rfl 16 rfl (lw_g (lw_at lw_m6 196 rfl) rfl) y_Ma_held rfl (d2 := 9) ⟨le_b rfl, pd_Ma_held, le_b rfl⟩ (le_b rfl) og_22 rfl (k_Ma_held x1 h) (fun _ h8 => ?_)
        refine hp_goto hm 17 rfl (tgt := 261) rfl ?_
        exact hp_vr hm 3 rfl rfl (fun _ e => e)
  · refine hp_cVT (M2 := M_Ma_byteAt) hm (at1 13 rfl) (as := [(.int (rdI h 22 11))]) (rest := []) (z := 22) rfl (by exact og_22) (pc' := 141) rfl 19 rfl (lw_g (lw_at lw_m5 208 rfl) rfl) y_Ma_byteAt rfl (d2 := 7) ⟨le_b rfl, pd_Ma_byteAt, le_b rfl⟩ (le_b rfl) og_22 rfl (k_Ma_byteAt (rdI h 22 11) h) (fun a17 h9 => ?_)
    refine hp_w hm (at1 14 rfl) (L' := [(2, (.int a17)), (0, (.ref 22)), (1, (.int x1))]) rfl (by exact ⟨og_22, og_22⟩) (pc' := 155) rfl (fun h10 => ?_)
    refine hp_JZ 168 (fun (p18 : Int32) => []) (fun (p18 : Int32) => [(.int p18), (.int a17), (.ref 22)]) (fun (p18 : Int32) => h10) ?_ (fun p18 => ?_)
    · refine hp_sv0 ?_
      refine hp_ic_ne hm (at1 15 rfl) rfl (by exact trivial) (pc' := 160) rfl 21 rfl (tgt := 167) rfl (fun c19 => ?_) (fun c19 => ?_)
      · refine hp_b hm (at1 16 rfl) (L' := [(2, (.int a17)), (0, (.ref 22)), (1, (.int x1))]) (st' := [(.int (0 : Int32)), (.int a17), (.ref 22)]) rfl (by exact trivial) (pc' := 168) rfl ?_
        exact hp_lf [] rfl (fun _ e => e)
      · refine hp_b hm (at1 17 rfl) (L' := [(2, (.int a17)), (0, (.ref 22)), (1, (.int x1))]) (st' := [(.int (1 : Int32)), (.int a17), (.ref 22)]) rfl (by exact trivial) (pc' := 164) rfl ?_
        refine hp_goto hm 20 rfl (tgt := 168) rfl ?_
        exact hp_lf [] rfl (fun _ e => e)
    · refine hp_cVT (M2 := M_Ma_pushBytes) hm at0 (as := [(.int a17), (.int p18)]) (rest := []) (z := 22) rfl (by exact trivial) (pc' := 168) rfl 22 rfl (lw_g (lw_at lw_m6 34 rfl) rfl) y_Ma_pushBytes rfl (d2 := 9) ⟨le_b rfl, pd_Ma_pushBytes, le_b rfl⟩ (le_b rfl) og_22 rfl (k_Ma_pushBytes a17 p18 h10) (fun _ h11 => ?_)
      refine hp_goto hm 23 rfl (tgt := 261) rfl ?_
      exact hp_vr hm 3 rfl rfl (fun _ e => e)
/-! HintHouse$Machine.reckon(I)V -/
def M_Ma_reckon : hM := (4, ⟨"HintHouse$Machine", "reckon", "(I)V"⟩, prog_6_method_65_code, 7, (Option.none : Option Jvm.ClassFile.FieldType), [], [(0, [(.iload_n 1, 1, 0, 0, 0, .null), (.bipush 100, 2, 0, 0, 0, (.int (100 : Int32)))]), (16, [(.iconst 0, 1, 0, 0, 0, (.int (0 : Int32)))]), (6, [(.iload_n 1, 1, 0, 0, 0, .null), (.bipush 103, 2, 0, 0, 0, (.int (103 : Int32)))]), (12, [(.iconst 1, 1, 0, 0, 0, (.int (1 : Int32)))]), (17, [(.istore_n 2, 1, 0, 0, 0, .null), (.aload_n 0, 1, 0, 0, 0, .null), (.iload_n 2, 1, 0, 0, 0, .null)]), (27, [(.iconst 2, 1, 0, 0, 0, (.int (2 : Int32)))]), (23, [(.iconst 1, 1, 0, 0, 0, (.int (1 : Int32)))]), (31, [(.aload_n 0, 1, 0, 0, 0, .null)]), (35, [(.i2l, 1, 0, 0, 0, .null), (.lstore_n 3, 1, 0, 0, 0, .null)]), (37, [(.iload_n 2, 1, 0, 0, 0, .null)]), (45, [(.aload_n 0, 1, 0, 0, 0, .null)]), (49, [(.i2l, 1, 0, 0, 0, .null)]), (41, [(.lconst 0, 1, 0, 0, 0, (.long (0 : Int64)))]), (50, [(.lstore 5, 2, 0, 0, 0, .null), (.iload_n 1, 1, 0, 0, 0, .null)]), (136, [(.aload_n 0, 1, 0, 0, 0, .null), (.lload 5, 2, 0, 0, 0, .null), (.lload_n 3, 1, 0, 0, 0, .null), (.ladd, 1, 0, 0, 0, .null)]), (147, [(.aload_n 0, 1, 0, 0, 0, .null), (.lload 5, 2, 0, 0, 0, .null), (.lload_n 3, 1, 0, 0, 0, .null), (.lsub, 1, 0, 0, 0, .null)]), (158, [(.aload_n 0, 1, 0, 0, 0, .null), (.lload_n 3, 1, 0, 0, 0, .null), (.lconst 0, 1, 0, 0, 0, (.long (0 : Int64))), (.lcmp, 1, 0, 0, 0, .null)]), (169, [(.iconst 0, 1, 0, 0, 0, (.int (0 : Int32)))]), (165, [(.iconst 1, 1, 0, 0, 0, (.int (1 : Int32)))]), (170, [(.bipush 7, 2, 0, 0, 0, (.int (7 : Int32)))]), (175, [(.aload_n 0, 1, 0, 0, 0, .null), (.lload 5, 2, 0, 0, 0, .null), (.ldc2_w 149, 3, 0, 0, 0, (.long (64 : Int64))), (.lmul, 1, 0, 0, 0, .null), (.lload_n 3, 1, 0, 0, 0, .null), (.ldiv, 1, 0, 0, 0, .null)]), (190, [(.aload_n 0, 1, 0, 0, 0, .null), (.lload 5, 2, 0, 0, 0, .null), (.lload_n 3, 1, 0, 0, 0, .null), (.lmul, 1, 0, 0, 0, .null), (.ldc2_w 149, 3, 0, 0, 0, (.long (64 : Int64)))]), (207, [(.aload_n 0, 1, 0, 0, 0, .null), (.lload_n 3, 1, 0, 0, 0, .null)]), (218, [(.aload_n 0, 1, 0, 0, 0, .null), (.lload_n 3, 1, 0, 0, 0, .null), (.lneg, 1, 0, 0, 0, .null)]), (227, [(.aload_n 0, 1, 0, 0, 0, .null), (.lload_n 3, 1, 0, 0, 0, .null), (.bipush 6, 2, 0, 0, 0, (.int (6 : Int32))), (.lshr, 1, 0, 0, 0, .null), (.bipush 6, 2, 0, 0, 0, (.int (6 : Int32))), (.lshl, 1, 0, 0, 0, .null)]), (241, [(.aload_n 0, 1, 0, 0, 0, .null), (.lload_n 3, 1, 0, 0, 0, .null), (.ldc2_w 537, 3, 0, 0, 0, (.long (63 : Int64))), (.ladd, 1, 0, 0, 0, .null), (.bipush 6, 2, 0, 0, 0, (.int (6 : Int32))), (.lshr, 1, 0, 0, 0, .null), (.bipush 6, 2, 0, 0, 0, (.int (6 : Int32))), (.lshl, 1, 0, 0, 0, .null)]), (259, [(.aload_n 0, 1, 0, 0, 0, .null), (.lload 5, 2, 0, 0, 0, .null), (.lload_n 3, 1, 0, 0, 0, .null)]), (272, [(.aload_n 0, 1, 0, 0, 0, .null), (.lload 5, 2, 0, 0, 0, .null), (.lload_n 3, 1, 0, 0, 0, .null)])], [(13, .goto 4, 3), (9, .if_icmp .gt 7, 3), (3, .if_icmp .lt 13, 3), (24, .goto 4, 3), (20, .ifCond .eq 7, 3), (28, .invokevirtual 334, 3), (32, .invokevirtual 337, 3), (46, .invokevirtual 337, 3), (42, .goto 8, 3), (38, .ifCond .eq 7, 3), (53, .lookupswitch 219 #[(96, 83), (97, 94), (98, 105), (99, 137), (100, 154), (101, 165), (102, 174), (103, 188), (139, 206)], 83), (141, .invokevirtual 242, 3), (282, .return_, 1), (144, .goto 138, 3), (152, .invokevirtual 242, 3), (155, .goto 127, 3), (166, .goto 4, 3), (162, .ifCond .eq 7, 3), (172, .invokevirtual 187, 3), (184, .invokevirtual 242, 3), (187, .goto 95, 3), (198, .invokestatic 154, 3), (201, .invokevirtual 242, 3), (204, .goto 78, 3), (209, .invokestatic 268, 3), (212, .invokevirtual 242, 3), (215, .goto 67, 3), (221, .invokevirtual 242, 3), (224, .goto 58, 3), (235, .invokevirtual 242, 3), (238, .goto 44, 3), (253, .invokevirtual 242, 3), (256, .goto 26, 3), (263, .invokestatic 539, 3), (266, .invokevirtual 242, 3), (269, .goto 13, 3), (276, .invokestatic 541, 3), (279, .invokevirtual 242, 3)])
set_option maxRecDepth 100000 in
theorem m_Ma_reckon : hx_mok M_Ma_reckon = true := by decide +kernel
theorem pd_Ma_reckon : (parseMethodDescriptor M_Ma_reckon.2.1.desc).map (fun q => q.parameters.length) = some 1 := by decide +kernel
theorem y_Ma_reckon : hx_okV M_Ma_reckon := ⟨⟨lw_g (lw_at lw_m6 225 rfl) rfl, lw_g (lw_at lw_m6 224 rfl) rfl, qs96, lw_g (lw_at lw_m1 5 rfl) rfl, rfl, by decide, by decide, by decide⟩, rfl, by decide, plainFor_of_name (by decide)⟩
noncomputable def f_Ma_reckon (x1 : Int32) (h : hH) : Option (hH ⊕ (Unit × hH)) :=
  lz (A := Int32) (if x1 < (100 : Int32) then (0 : Int32) else (if (103 : Int32) < x1 then (0 : Int32) else (1 : Int32))) fun p1 =>
  lz (A := Int32) (if p1 = 0 then (2 : Int32) else (1 : Int32)) fun p4 =>
  bT (f_Ma_need p4 h) fun _ h1 =>
  bS (f_Ma_pop h1) fun a6 h2 =>
  lz (A := Int64) (Int32.toInt64 a6) fun v7 =>
  bJT (P := (Int64 × hH)) (
    if p1 = 0 then (
      bS (f_Ma_pop h2) fun a9 h3 =>
      some (.inr ((Int32.toInt64 a9), h3))
    ) else (
      some (.inr ((0 : Int64), h2))
    )
  ) fun p8 =>
  if x1 = (96 : Int32) then (
    bT (f_Ma_push (p8.1 + v7) p8.2) fun _ h4 =>
    some (.inr ((), h4))
  ) else (
    if x1 = (97 : Int32) then (
      bT (f_Ma_push (p8.1 - v7) p8.2) fun _ h5 =>
      some (.inr ((), h5))
    ) else (
      if x1 = (98 : Int32) then (
        lz (A := Int32) (if v7 = (0 : Int64) then (0 : Int32) else (1 : Int32)) fun p13 =>
        bT (f_Ma_want p13 (7 : Int32) p8.2) fun _ h6 =>
        gd (¬ v7 = 0) <|
        bT (f_Ma_push ((p8.1 * (64 : Int64)) / v7) h6) fun _ h7 =>
        some (.inr ((), h7))
      ) else (
        if x1 = (99 : Int32) then (
          bP (f_HH_over (p8.1 * v7) (64 : Int64)) fun a17 =>
          bT (f_Ma_push a17 p8.2) fun _ h8 =>
          some (.inr ((), h8))
        ) else (
          if x1 = (100 : Int32) then (
            bP (f_JM_abs v7) fun a19 =>
            bT (f_Ma_push a19 p8.2) fun _ h9 =>
            some (.inr ((), h9))
          ) else (
            if x1 = (101 : Int32) then (
              bT (f_Ma_push (-v7) p8.2) fun _ h10 =>
              some (.inr ((), h10))
            ) else (
              if x1 = (102 : Int32) then (
                bT (f_Ma_push ((v7 >>> ((Int32.toInt64 (6 : Int32)) &&& 63)) <<< ((Int32.toInt64 (6 : Int32)) &&& 63)) p8.2) fun _ h11 =>
                some (.inr ((), h11))
              ) else (
                if x1 = (103 : Int32) then (
                  bT (f_Ma_push (((v7 + (63 : Int64)) >>> ((Int32.toInt64 (6 : Int32)) &&& 63)) <<< ((Int32.toInt64 (6 : Int32)) &&& 63)) p8.2) fun _ h12 =>
                  some (.inr ((), h12))
                ) else (
                  if x1 = (139 : Int32) then (
                    bP (f_JM_max p8.1 v7) fun a24 =>
                    bT (f_Ma_push a24 p8.2) fun _ h13 =>
                    some (.inr ((), h13))
                  ) else (
                    bP (f_JM_min p8.1 v7) fun a26 =>
                    bT (f_Ma_push a26 p8.2) fun _ h14 =>
                    some (.inr ((), h14))
                  )
                )
              )
            )
          )
        )
      )
    )
  )
set_option maxRecDepth 20000 in
theorem k_Ma_reckon (x1 : Int32) (h : hH) : hx_kT S0 M_Ma_reckon 8 NT [(.ref 22), (.int x1)] h (f_Ma_reckon x1 h) cvU := by
  have hm := m_Ma_reckon
  show hx_P S0 M_Ma_reckon 8 0 [(0, (.ref 22)), (1, (.int x1))] [] NT h (f_Ma_reckon x1 h) (hx_T NT (hx_Rc cvU NT))
  unfold f_Ma_reckon
  refine hp_JZ 17 (fun (p1 : Int32) => [(0, (.ref 22)), (1, (.int x1))]) (fun (p1 : Int32) => [(.int p1)]) (fun (p1 : Int32) => h) ?_ (fun p1 => ?_)
  · refine hp_sv0 ?_
    refine hp_ic_lt hm (at1 0 rfl) rfl (by exact trivial) (pc' := 3) rfl 2 rfl (tgt := 16) rfl (fun c3 => ?_) (fun c3 => ?_)
    · refine hp_b hm (at1 1 rfl) (L' := [(0, (.ref 22)), (1, (.int x1))]) (st' := [(.int (0 : Int32))]) rfl (by exact trivial) (pc' := 17) rfl ?_
      exact hp_lf [0, 1] rfl (fun _ e => e)
    · refine hp_sv0 ?_
      refine hp_ic_gt hm (at1 2 rfl) rfl (by exact trivial) (pc' := 9) rfl 1 rfl (tgt := 16) rfl (fun c2 => ?_) (fun c2 => ?_)
      · refine hp_b hm (at1 1 rfl) (L' := [(0, (.ref 22)), (1, (.int x1))]) (st' := [(.int (0 : Int32))]) rfl (by exact trivial) (pc' := 17) rfl ?_
        exact hp_lf [0, 1] rfl (fun _ e => e)
      · refine hp_b hm (at1 3 rfl) (L' := [(0, (.ref 22)), (1, (.int x1))]) (st' := [(.int (1 : Int32))]) rfl (by exact trivial) (pc' := 13) rfl ?_
        refine hp_goto hm 0 rfl (tgt := 17) rfl ?_
        exact hp_lf [0, 1] rfl (fun _ e => e)
  · refine hp_b hm (at1 4 rfl) (L' := [(2, (.int p1)), (0, (.ref 22)), (1, (.int x1))]) (st' := [(.int p1), (.ref 22)]) rfl (by exact trivial) (pc' := 20) rfl ?_
    refine hp_JZ 28 (fun (p4 : Int32) => [(0, (.ref 22)), (1, (.int x1)), (2, (.int p1))]) (fun (p4 : Int32) => [(.int p4), (.ref 22)]) (fun (p4 : Int32) => h) ?_ (fun p4 => ?_)
    · refine hp_sv0 ?_
      refine hp_if_eq hm at0 rfl (by exact trivial) (pc' := 20) rfl 4 rfl (tgt := 27) rfl (fun c5 => ?_) (fun c5 => ?_)
      · refine hp_b hm (at1 5 rfl) (L' := [(2, (.int p1)), (0, (.ref 22)), (1, (.int x1))]) (st' := [(.int (2 : Int32)), (.ref 22)]) rfl (by exact trivial) (pc' := 28) rfl ?_
        exact hp_lf [1, 2, 0] rfl (fun _ e => e)
      · refine hp_b hm (at1 6 rfl) (L' := [(2, (.int p1)), (0, (.ref 22)), (1, (.int x1))]) (st' := [(.int (1 : Int32)), (.ref 22)]) rfl (by exact trivial) (pc' := 24) rfl ?_
        refine hp_goto hm 3 rfl (tgt := 28) rfl ?_
        exact hp_lf [1, 2, 0] rfl (fun _ e => e)
    · refine hp_cVT (M2 := M_Ma_need) hm at0 (as := [(.int p4)]) (rest := []) (z := 22) rfl (by exact trivial) (pc' := 28) rfl 5 rfl (lw_g (lw_at lw_m5 217 rfl) rfl) y_Ma_need rfl (d2 := 7) ⟨le_b rfl, pd_Ma_need, le_b rfl⟩ (le_b rfl) og_22 rfl (k_Ma_need p4 h) (fun _ h1 => ?_)
      refine hp_cVS (M2 := M_Ma_pop) hm (at1 7 rfl) (as := []) (rest := []) (z := 22) rfl (by exact trivial) (pc' := 32) rfl 6 rfl (lw_g (lw_at lw_m5 221 rfl) rfl) y_Ma_pop rfl (d2 := 1) ⟨le_b rfl, pd_Ma_pop, le_b rfl⟩ (le_b rfl) og_22 (k_Ma_pop h1) (fun a6 h2 => ?_)
      refine hp_z hm (at1 8 rfl) (fun (v7 : Int64) => [(3, (.long v7)), (0, (.ref 22)), (1, (.int x1)), (2, (.int p1))]) (fun (v7 : Int64) => []) rfl (by exact trivial) (pc' := 37) rfl (fun v7 => ?_)
      refine hp_JT 50 (fun (p8 : (Int64 × hH)) => [(0, (.ref 22)), (1, (.int x1)), (3, (.long v7))]) (fun (p8 : (Int64 × hH)) => [(.long p8.1)]) (fun (p8 : (Int64 × hH)) => p8.2) ?_ (fun p8 => ?_)
      · refine hp_if_eq hm (at1 9 rfl) rfl (by exact trivial) (pc' := 38) rfl 9 rfl (tgt := 45) rfl (fun c10 => ?_) (fun c10 => ?_)
        · refine hp_cVS (M2 := M_Ma_pop) hm (at1 10 rfl) (as := []) (rest := []) (z := 22) rfl (by exact trivial) (pc' := 46) rfl 7 rfl (lw_g (lw_at lw_m5 221 rfl) rfl) y_Ma_pop rfl (d2 := 1) ⟨le_b rfl, pd_Ma_pop, le_b rfl⟩ (le_b rfl) og_22 (k_Ma_pop h2) (fun a9 h3 => ?_)
          refine hp_b hm (at1 11 rfl) (L' := [(3, (.long v7)), (0, (.ref 22)), (1, (.int x1)), (2, (.int p1))]) (st' := [(.long (Int32.toInt64 a9))]) rfl (by exact trivial) (pc' := 50) rfl ?_
          exact hp_lf [1, 2, 0] rfl (fun _ e => e)
        · refine hp_b hm (at1 12 rfl) (L' := [(3, (.long v7)), (0, (.ref 22)), (1, (.int x1)), (2, (.int p1))]) (st' := [(.long (0 : Int64))]) rfl (by exact trivial) (pc' := 42) rfl ?_
          refine hp_goto hm 8 rfl (tgt := 50) rfl ?_
          exact hp_lf [1, 2, 0] rfl (fun _ e => e)
      · refine hp_b hm (at1 13 rfl) (L' := [(5, (.long p8.1)), (0, (.ref 22)), (1, (.int x1)), (3, (.long v7))]) (st' := [(.int x1)]) rfl (by exact trivial) (pc' := 53) rfl ?_
        refine hp_sl hm 10 rfl (cs := [96]) (off := 83) (by decide) (tgt := 136) rfl (sw1 _ _) ?_ (fun c11 => ?_)
        · refine hp_cVT (M2 := M_Ma_push) hm (at1 14 rfl) (as := [(.long (p8.1 + v7))]) (rest := []) (z := 22) rfl (by exact trivial) (pc' := 141) rfl 11 rfl (lw_g (lw_at lw_m6 42 rfl) rfl) y_Ma_push rfl (d2 := 7) ⟨le_b rfl, pd_Ma_push, le_b rfl⟩ (le_b rfl) og_22 rfl (k_Ma_push (p8.1 + v7) p8.2) (fun _ h4 => ?_)
          refine hp_goto hm 13 rfl (tgt := 282) rfl ?_
          exact hp_vr hm 12 rfl rfl (fun _ e => e)
        · refine hp_sl hm 10 rfl (cs := [97]) (off := 94) (by decide) (tgt := 147) rfl (sw1 _ _) ?_ (fun c12 => ?_)
          · refine hp_cVT (M2 := M_Ma_push) hm (at1 15 rfl) (as := [(.long (p8.1 - v7))]) (rest := []) (z := 22) rfl (by exact trivial) (pc' := 152) rfl 14 rfl (lw_g (lw_at lw_m6 42 rfl) rfl) y_Ma_push rfl (d2 := 7) ⟨le_b rfl, pd_Ma_push, le_b rfl⟩ (le_b rfl) og_22 rfl (k_Ma_push (p8.1 - v7) p8.2) (fun _ h5 => ?_)
            refine hp_goto hm 15 rfl (tgt := 282) rfl ?_
            exact hp_vr hm 12 rfl rfl (fun _ e => e)
          · refine hp_sl hm 10 rfl (cs := [98]) (off := 105) (by decide) (tgt := 158) rfl (sw1 _ _) ?_ (fun c16 => ?_)
            · refine hp_JZ 170 (fun (p13 : Int32) => [(0, (.ref 22)), (3, (.long v7)), (5, (.long p8.1))]) (fun (p13 : Int32) => [(.int p13), (.ref 22)]) (fun (p13 : Int32) => p8.2) ?_ (fun p13 => ?_)
              · refine hp_sv0 ?_
                refine hp_lc_eq hm (at1 16 rfl) rfl (by exact trivial) (pc' := 162) rfl 17 rfl (tgt := 169) rfl (fun c14 => ?_) (fun c14 => ?_)
                · refine hp_b hm (at1 17 rfl) (L' := [(5, (.long p8.1)), (0, (.ref 22)), (1, (.int x1)), (3, (.long v7))]) (st' := [(.int (0 : Int32)), (.ref 22)]) rfl (by exact trivial) (pc' := 170) rfl ?_
                  exact hp_lf [1, 3, 0] rfl (fun _ e => e)
                · refine hp_b hm (at1 18 rfl) (L' := [(5, (.long p8.1)), (0, (.ref 22)), (1, (.int x1)), (3, (.long v7))]) (st' := [(.int (1 : Int32)), (.ref 22)]) rfl (by exact trivial) (pc' := 166) rfl ?_
                  refine hp_goto hm 16 rfl (tgt := 170) rfl ?_
                  exact hp_lf [1, 3, 0] rfl (fun _ e => e)
              · refine hp_cVT (M2 := M_Ma_want) hm (at1 19 rfl) (as := [(.int p13), (.int (7 : Int32))]) (rest := []) (z := 22) rfl (by exact trivial) (pc' := 172) rfl 18 rfl (lw_g (lw_at lw_m5 139 rfl) rfl) y_Ma_want rfl (d2 := 6) ⟨le_b rfl, pd_Ma_want, le_b rfl⟩ (le_b rfl) og_22 rfl (k_Ma_want p13 (7 : Int32) p8.2) (fun _ h6 => ?_)
                refine hp_G hm (at1 20 rfl) (L' := [(0, (.ref 22)), (3, (.long v7)), (5, (.long p8.1))]) (st' := [(.long ((p8.1 * (64 : Int64)) / v7)), (.ref 22)]) rfl (fun hP => (by exact hP)) (pc' := 184) rfl (fun q15 => ?_)
                refine hp_cVT (M2 := M_Ma_push) hm at0 (as := [(.long ((p8.1 * (64 : Int64)) / v7))]) (rest := []) (z := 22) rfl (by exact trivial) (pc' := 184) rfl 19 rfl (lw_g (lw_at lw_m6 42 rfl) rfl) y_Ma_push rfl (d2 := 7) ⟨le_b rfl, pd_Ma_push, le_b rfl⟩ (le_b rfl) og_22 rfl (k_Ma_push ((p8.1 * (64 : Int64)) / v7) h6) (fun _ h7 => ?_)
                refine hp_goto hm 20 rfl (tgt := 282) rfl ?_
                exact hp_vr hm 12 rfl rfl (fun _ e => e)
            · refine hp_sl hm 10 rfl (cs := [99]) (off := 137) (by decide) (tgt := 190) rfl (sw1 _ _) ?_ (fun c18 => ?_)
              · refine hp_cNP (M2 := M_HH_over) hm (at1 21 rfl) (as := [(.long (p8.1 * v7)), (.long (64 : Int64))]) (rest := [(.ref 22)]) rfl (by exact trivial) (pc' := 198) rfl 21 rfl (hmn_4_154) y_HH_over rfl (d2 := 2) ⟨le_b rfl, pd_HH_over, le_b rfl⟩ (le_b rfl) (k_HH_over (p8.1 * v7) (64 : Int64) p8.2) (fun a17 => ?_)
                refine hp_cVT (M2 := M_Ma_push) hm at0 (as := [(.long a17)]) (rest := []) (z := 22) rfl (by exact trivial) (pc' := 201) rfl 22 rfl (lw_g (lw_at lw_m6 42 rfl) rfl) y_Ma_push rfl (d2 := 7) ⟨le_b rfl, pd_Ma_push, le_b rfl⟩ (le_b rfl) og_22 rfl (k_Ma_push a17 p8.2) (fun _ h8 => ?_)
                refine hp_goto hm 23 rfl (tgt := 282) rfl ?_
                exact hp_vr hm 12 rfl rfl (fun _ e => e)
              · refine hp_sl hm 10 rfl (cs := [100]) (off := 154) (by decide) (tgt := 207) rfl (sw1 _ _) ?_ (fun c20 => ?_)
                · refine hp_cSP (M2 := M_JM_abs) hm (at1 22 rfl) (as := [(.long v7)]) (rest := [(.ref 22)]) rfl (by exact trivial) (pc' := 209) rfl 24 rfl (lw_g (lw_at lw_m5 238 rfl) rfl) y_JM_abs rfl (d2 := 1) ⟨le_b rfl, pd_JM_abs, le_b rfl⟩ (le_b rfl) (k_JM_abs v7 p8.2) (fun a19 => ?_)
                  refine hp_cVT (M2 := M_Ma_push) hm at0 (as := [(.long a19)]) (rest := []) (z := 22) rfl (by exact trivial) (pc' := 212) rfl 25 rfl (lw_g (lw_at lw_m6 42 rfl) rfl) y_Ma_push rfl (d2 := 7) ⟨le_b rfl, pd_Ma_push, le_b rfl⟩ (le_b rfl) og_22 rfl (k_Ma_push a19 p8.2) (fun _ h9 => ?_)
                  refine hp_goto hm 26 rfl (tgt := 282) rfl ?_
                  exact hp_vr hm 12 rfl rfl (fun _ e => e)
                · refine hp_sl hm 10 rfl (cs := [101]) (off := 165) (by decide) (tgt := 218) rfl (sw1 _ _) ?_ (fun c21 => ?_)
                  · refine hp_cVT (M2 := M_Ma_push) hm (at1 23 rfl) (as := [(.long (-v7))]) (rest := []) (z := 22) rfl (by exact trivial) (pc' := 221) rfl 27 rfl (lw_g (lw_at lw_m6 42 rfl) rfl) y_Ma_push rfl (d2 := 7) ⟨le_b rfl, pd_Ma_push, le_b rfl⟩ (le_b rfl) og_22 rfl (k_Ma_push (-v7) p8.2) (fun _ h10 => ?_)
                    refine hp_goto hm 28 rfl (tgt := 282) rfl ?_
                    exact hp_vr hm 12 rfl rfl (fun _ e => e)
                  · refine hp_sl hm 10 rfl (cs := [102]) (off := 174) (by decide) (tgt := 227) rfl (sw1 _ _) ?_ (fun c22 => ?_)
                    · refine hp_cVT (M2 := M_Ma_push) hm (at1 24 rfl) (as := [(.long ((v7 >>> ((Int32.toInt64 (6 : Int32)) &&& 63)) <<< ((Int32.toInt64 (6 : Int32)) &&& 63)))]) (rest := []) (z := 22) rfl (by exact trivial) (pc' := 235) rfl 29 rfl (lw_g (lw_at lw_m6 42 rfl) rfl) y_Ma_push rfl (d2 := 7) ⟨le_b rfl, pd_Ma_push, le_b rfl⟩ (le_b rfl) og_22 rfl (k_Ma_push ((v7 >>> ((Int32.toInt64 (6 : Int32)) &&& 63)) <<< ((Int32.toInt64 (6 : Int32)) &&& 63)) p8.2) (fun _ h11 => ?_)
                      refine hp_goto hm 30 rfl (tgt := 282) rfl ?_
                      exact hp_vr hm 12 rfl rfl (fun _ e => e)
                    · refine hp_sl hm 10 rfl (cs := [103]) (off := 188) (by decide) (tgt := 241) rfl (sw1 _ _) ?_ (fun c23 => ?_)
                      · refine hp_cVT (M2 := M_Ma_push) hm (at1 25 rfl) (as := [(.long (((v7 + (63 : Int64)) >>> ((Int32.toInt64 (6 : Int32)) &&& 63)) <<< ((Int32.toInt64 (6 : Int32)) &&& 63)))]) (rest := []) (z := 22) rfl (by exact trivial) (pc' := 253) rfl 31 rfl (lw_g (lw_at lw_m6 42 rfl) rfl) y_Ma_push rfl (d2 := 7) ⟨le_b rfl, pd_Ma_push, le_b rfl⟩ (le_b rfl) og_22 rfl (k_Ma_push (((v7 + (63 : Int64)) >>> ((Int32.toInt64 (6 : Int32)) &&& 63)) <<< ((Int32.toInt64 (6 : Int32)) &&& 63)) p8.2) (fun _ h12 => ?_)
                        refine hp_goto hm 32 rfl (tgt := 282) rfl ?_
                        exact hp_vr hm 12 rfl rfl (fun _ e => e)
                      · refine hp_sl hm 10 rfl (cs := [139]) (off := 206) (by decide) (tgt := 259) rfl (sw1 _ _) ?_ (fun c25 => ?_)
                        · refine hp_cSP (M2 := M_JM_max) hm (at1 26 rfl) (as := [(.long p8.1), (.long v7)]) (rest := [(.ref 22)]) rfl (by exact trivial) (pc' := 263) rfl 33 rfl (lw_g (lw_at lw_m6 19 rfl) rfl) y_JM_max rfl (d2 := 1) ⟨le_b rfl, pd_JM_max, le_b rfl⟩ (le_b rfl) (k_JM_max p8.1 v7 p8.2) (fun a24 => ?_)
                          refine hp_cVT (M2 := M_Ma_push) hm at0 (as := [(.long a24)]) (rest := []) (z := 22) rfl (by exact trivial) (pc' := 266) rfl 34 rfl (lw_g (lw_at lw_m6 42 rfl) rfl) y_Ma_push rfl (d2 := 7) ⟨le_b rfl, pd_Ma_push, le_b rfl⟩ (le_b rfl) og_22 rfl (k_Ma_push a24 p8.2) (fun _ h13 => ?_)
                          refine hp_goto hm 35 rfl (tgt := 282) rfl ?_
                          exact hp_vr hm 12 rfl rfl (fun _ e => e)
                        · refine hp_ld2 hm 10 rfl (css := [[96], [97], [98], [99], [100], [101], [102], [103], [139]]) (by decide) (by decide) (List.forall_mem_cons.mpr ⟨c11, (List.forall_mem_cons.mpr ⟨c12, (List.forall_mem_cons.mpr ⟨c16, (List.forall_mem_cons.mpr ⟨c18, (List.forall_mem_cons.mpr ⟨c20, (List.forall_mem_cons.mpr ⟨c21, (List.forall_mem_cons.mpr ⟨c22, (List.forall_mem_cons.mpr ⟨c23, (List.forall_mem_cons.mpr ⟨c25, (fun _ h => absurd h List.not_mem_nil)⟩)⟩)⟩)⟩)⟩)⟩)⟩)⟩)⟩) (tgt := 272) rfl ?_
                          refine hp_cSP (M2 := M_JM_min) hm (at1 27 rfl) (as := [(.long p8.1), (.long v7)]) (rest := [(.ref 22)]) rfl (by exact trivial) (pc' := 276) rfl 36 rfl (lw_g (lw_at lw_m6 20 rfl) rfl) y_JM_min rfl (d2 := 1) ⟨le_b rfl, pd_JM_min, le_b rfl⟩ (le_b rfl) (k_JM_min p8.1 v7 p8.2) (fun a26 => ?_)
                          refine hp_cVT (M2 := M_Ma_push) hm at0 (as := [(.long a26)]) (rest := []) (z := 22) rfl (by exact trivial) (pc' := 279) rfl 37 rfl (lw_g (lw_at lw_m6 42 rfl) rfl) y_Ma_push rfl (d2 := 7) ⟨le_b rfl, pd_Ma_push, le_b rfl⟩ (le_b rfl) og_22 rfl (k_Ma_push a26 p8.2) (fun _ h14 => ?_)
                          exact hp_vr hm 12 rfl rfl (fun _ e => e)
/-! HintHouse$Machine.ownRounding(II)V -/
def M_Ma_ownRounding : hM := (4, ⟨"HintHouse$Machine", "ownRounding", "(II)V"⟩, prog_6_method_67_code, 6, (Option.none : Option Jvm.ClassFile.FieldType), [], [(0, [(.iload_n 1, 1, 0, 0, 0, .null), (.bipush 6, 2, 0, 0, 0, (.int (6 : Int32))), (.ishr, 1, 0, 0, 0, .null), (.iconst 3, 1, 0, 0, 0, (.int (3 : Int32))), (.iand, 1, 0, 0, 0, .null), (.istore_n 3, 1, 0, 0, 0, .null)]), (7, [(.aload_n 0, 1, 0, 0, 0, .null), (.iload_n 3, 1, 0, 0, 0, .null), (.iconst 3, 1, 0, 0, 0, (.int (3 : Int32)))]), (17, [(.iconst 0, 1, 0, 0, 0, (.int (0 : Int32)))]), (13, [(.iconst 1, 1, 0, 0, 0, (.int (1 : Int32)))]), (18, [(.bipush 11, 2, 0, 0, 0, (.int (11 : Int32)))]), (23, [(.iload_n 2, 1, 0, 0, 0, .null), (.bipush 64, 2, 0, 0, 0, (.int (64 : Int32)))]), (36, [(.iload_n 3, 1, 0, 0, 0, .null)]), (45, [(.iload_n 3, 1, 0, 0, 0, .null), (.iconst 1, 1, 0, 0, 0, (.int (1 : Int32)))]), (55, [(.bipush 90, 2, 0, 0, 0, (.int (90 : Int32)))]), (50, [(.bipush 45, 2, 0, 0, 0, (.int (45 : Int32)))]), (40, [(.bipush 22, 2, 0, 0, 0, (.int (22 : Int32)))]), (29, [(.bipush 32, 2, 0, 0, 0, (.int (32 : Int32))), (.iload_n 3, 1, 0, 0, 0, .null), (.ishl, 1, 0, 0, 0, .null)]), (57, [(.istore 4, 2, 0, 0, 0, .null), (.iload_n 1, 1, 0, 0, 0, .null), (.bipush 15, 2, 0, 0, 0, (.int (15 : Int32))), (.iand, 1, 0, 0, 0, .null), (.istore 5, 2, 0, 0, 0, .null)]), (65, [(.aload_n 0, 1, 0, 0, 0, .null), (.iload 4, 2, 0, 0, 0, .null), (.iload_n 1, 1, 0, 0, 0, .null), (.iconst 4, 1, 0, 0, 0, (.int (4 : Int32))), (.ishr, 1, 0, 0, 0, .null), (.iconst 3, 1, 0, 0, 0, (.int (3 : Int32))), (.iand, 1, 0, 0, 0, .null), (.iload 4, 2, 0, 0, 0, .null), (.imul, 1, 0, 0, 0, .null), (.iconst 4, 1, 0, 0, 0, (.int (4 : Int32))), (.idiv, 1, 0, 0, 0, .null), (.iload 5, 2, 0, 0, 0, .null)]), (90, [(.iload 5, 2, 0, 0, 0, .null), (.iconst 4, 1, 0, 0, 0, (.int (4 : Int32))), (.isub, 1, 0, 0, 0, .null), (.iload 4, 2, 0, 0, 0, .null), (.imul, 1, 0, 0, 0, .null), (.bipush 8, 2, 0, 0, 0, (.int (8 : Int32))), (.idiv, 1, 0, 0, 0, .null)]), (83, [(.iload 4, 2, 0, 0, 0, .null), (.iconst 1, 1, 0, 0, 0, (.int (1 : Int32))), (.isub, 1, 0, 0, 0, .null)])], [(14, .goto 4, 3), (10, .if_icmp .ge 7, 3), (20, .invokevirtual 187, 3), (52, .goto 5, 3), (47, .if_icmp .ne 8, 3), (42, .goto 15, 3), (37, .ifCond .ne 8, 3), (33, .goto 24, 3), (26, .if_icmp .ne 10, 3), (87, .goto 13, 3), (80, .ifCond .ne 10, 3), (100, .invokevirtual 183, 3), (103, .return_, 1)])
set_option maxRecDepth 100000 in
theorem m_Ma_ownRounding : hx_mok M_Ma_ownRounding = true := by decide +kernel
theorem pd_Ma_ownRounding : (parseMethodDescriptor M_Ma_ownRounding.2.1.desc).map (fun q => q.parameters.length) = some 2 := by decide +kernel
theorem y_Ma_ownRounding : hx_okV M_Ma_ownRounding := ⟨⟨lw_g (lw_at lw_m6 234 rfl) rfl, lw_g (lw_at lw_m6 233 rfl) rfl, qs98, lw_g (lw_at lw_m1 5 rfl) rfl, rfl, by decide, by decide, by decide⟩, rfl, by decide, plainFor_of_name (by decide)⟩
noncomputable def f_Ma_ownRounding (x1 : Int32) (x2 : Int32) (h : hH) : Option (hH ⊕ (Unit × hH)) :=
  lz (A := Int32) ((x1 >>> ((6 : Int32) &&& 31)) &&& (3 : Int32)) fun v1 =>
  lz (A := Int32) (if (3 : Int32) ≤ v1 then (0 : Int32) else (1 : Int32)) fun p2 =>
  bT (f_Ma_want p2 (11 : Int32) h) fun _ h1 =>
  lz (A := Int32) (if x2 = (64 : Int32) then ((32 : Int32) <<< (v1 &&& 31)) else (if v1 = 0 then (22 : Int32) else (if v1 = (1 : Int32) then (45 : Int32) else (90 : Int32)))) fun p4 =>
  lz (A := Int32) (x1 &&& (15 : Int32)) fun v8 =>
  lz (A := Int32) (if v8 = 0 then (p4 - (1 : Int32)) else (((v8 - (4 : Int32)) * p4) / (8 : Int32))) fun p9 =>
  bS (f_Ma_rounding p4 ((((x1 >>> ((4 : Int32) &&& 31)) &&& (3 : Int32)) * p4) / (4 : Int32)) p9 h1) fun _ h2 =>
  some (.inr ((), h2))
set_option maxRecDepth 20000 in
theorem k_Ma_ownRounding (x1 : Int32) (x2 : Int32) (h : hH) : hx_kT S0 M_Ma_ownRounding 7 NT [(.ref 22), (.int x1), (.int x2)] h (f_Ma_ownRounding x1 x2 h) cvU := by
  have hm := m_Ma_ownRounding
  show hx_P S0 M_Ma_ownRounding 7 0 [(0, (.ref 22)), (1, (.int x1)), (2, (.int x2))] [] NT h (f_Ma_ownRounding x1 x2 h) (hx_T NT (hx_Rc cvU NT))
  unfold f_Ma_ownRounding
  refine hp_z hm (at1 0 rfl) (fun (v1 : Int32) => [(3, (.int v1)), (0, (.ref 22)), (1, (.int x1)), (2, (.int x2))]) (fun (v1 : Int32) => []) rfl (by exact trivial) (pc' := 7) rfl (fun v1 => ?_)
  refine hp_JZ 18 (fun (p2 : Int32) => [(0, (.ref 22)), (1, (.int x1)), (2, (.int x2)), (3, (.int v1))]) (fun (p2 : Int32) => [(.int p2), (.ref 22)]) (fun (p2 : Int32) => h) ?_ (fun p2 => ?_)
  · refine hp_sv0 ?_
    refine hp_ic_ge hm (at1 1 rfl) rfl (by exact trivial) (pc' := 10) rfl 1 rfl (tgt := 17) rfl (fun c3 => ?_) (fun c3 => ?_)
    · refine hp_b hm (at1 2 rfl) (L' := [(3, (.int v1)), (0, (.ref 22)), (1, (.int x1)), (2, (.int x2))]) (st' := [(.int (0 : Int32)), (.ref 22)]) rfl (by exact trivial) (pc' := 18) rfl ?_
      exact hp_lf [1, 2, 3, 0] rfl (fun _ e => e)
    · refine hp_b hm (at1 3 rfl) (L' := [(3, (.int v1)), (0, (.ref 22)), (1, (.int x1)), (2, (.int x2))]) (st' := [(.int (1 : Int32)), (.ref 22)]) rfl (by exact trivial) (pc' := 14) rfl ?_
      refine hp_goto hm 0 rfl (tgt := 18) rfl ?_
      exact hp_lf [1, 2, 3, 0] rfl (fun _ e => e)
  · refine hp_cVT (M2 := M_Ma_want) hm (at1 4 rfl) (as := [(.int p2), (.int (11 : Int32))]) (rest := []) (z := 22) rfl (by exact trivial) (pc' := 20) rfl 2 rfl (lw_g (lw_at lw_m5 139 rfl) rfl) y_Ma_want rfl (d2 := 6) ⟨le_b rfl, pd_Ma_want, le_b rfl⟩ (le_b rfl) og_22 rfl (k_Ma_want p2 (11 : Int32) h) (fun _ h1 => ?_)
    refine hp_JZ 57 (fun (p4 : Int32) => [(0, (.ref 22)), (1, (.int x1))]) (fun (p4 : Int32) => [(.int p4)]) (fun (p4 : Int32) => h1) ?_ (fun p4 => ?_)
    · refine hp_sv0 ?_
      refine hp_ic_ne hm (at1 5 rfl) rfl (by exact trivial) (pc' := 26) rfl 8 rfl (tgt := 36) rfl (fun c7 => ?_) (fun c7 => ?_)
      · refine hp_sv0 ?_
        refine hp_if_ne hm (at1 6 rfl) rfl (by exact trivial) (pc' := 37) rfl 6 rfl (tgt := 45) rfl (fun c6 => ?_) (fun c6 => ?_)
        · refine hp_sv0 ?_
          refine hp_ic_ne hm (at1 7 rfl) rfl (by exact trivial) (pc' := 47) rfl 4 rfl (tgt := 55) rfl (fun c5 => ?_) (fun c5 => ?_)
          · refine hp_b hm (at1 8 rfl) (L' := [(0, (.ref 22)), (1, (.int x1)), (2, (.int x2)), (3, (.int v1))]) (st' := [(.int (90 : Int32))]) rfl (by exact trivial) (pc' := 57) rfl ?_
            exact hp_lf [0, 1] rfl (fun _ e => e)
          · refine hp_b hm (at1 9 rfl) (L' := [(0, (.ref 22)), (1, (.int x1)), (2, (.int x2)), (3, (.int v1))]) (st' := [(.int (45 : Int32))]) rfl (by exact trivial) (pc' := 52) rfl ?_
            refine hp_goto hm 3 rfl (tgt := 57) rfl ?_
            exact hp_lf [0, 1] rfl (fun _ e => e)
        · refine hp_b hm (at1 10 rfl) (L' := [(0, (.ref 22)), (1, (.int x1)), (2, (.int x2)), (3, (.int v1))]) (st' := [(.int (22 : Int32))]) rfl (by exact trivial) (pc' := 42) rfl ?_
          refine hp_goto hm 5 rfl (tgt := 57) rfl ?_
          exact hp_lf [0, 1] rfl (fun _ e => e)
      · refine hp_b hm (at1 11 rfl) (L' := [(0, (.ref 22)), (1, (.int x1)), (2, (.int x2)), (3, (.int v1))]) (st' := [(.int ((32 : Int32) <<< (v1 &&& 31)))]) rfl (by exact trivial) (pc' := 33) rfl ?_
        refine hp_goto hm 7 rfl (tgt := 57) rfl ?_
        exact hp_lf [0, 1] rfl (fun _ e => e)
    · refine hp_z hm (at1 12 rfl) (fun (v8 : Int32) => [(5, (.int v8)), (4, (.int p4)), (0, (.ref 22)), (1, (.int x1))]) (fun (v8 : Int32) => []) rfl (by exact trivial) (pc' := 65) rfl (fun v8 => ?_)
      refine hp_JZ 100 (fun (p9 : Int32) => []) (fun (p9 : Int32) => [(.int p9), (.int ((((x1 >>> ((4 : Int32) &&& 31)) &&& (3 : Int32)) * p4) / (4 : Int32))), (.int p4), (.ref 22)]) (fun (p9 : Int32) => h1) ?_ (fun p9 => ?_)
      · refine hp_sv0 ?_
        refine hp_if_ne hm (at1 13 rfl) rfl (by exact (show ¬ (4 : Int32) = 0 by decide)) (pc' := 80) rfl 10 rfl (tgt := 90) rfl (fun c10 => ?_) (fun c10 => ?_)
        · refine hp_b hm (at1 14 rfl) (L' := [(5, (.int v8)), (4, (.int p4)), (0, (.ref 22)), (1, (.int x1))]) (st' := [(.int (((v8 - (4 : Int32)) * p4) / (8 : Int32))), (.int ((((x1 >>> ((4 : Int32) &&& 31)) &&& (3 : Int32)) * p4) / (4 : Int32))), (.int p4), (.ref 22)]) rfl (by exact (show ¬ (8 : Int32) = 0 by decide)) (pc' := 100) rfl ?_
          exact hp_lf [] rfl (fun _ e => e)
        · refine hp_b hm (at1 15 rfl) (L' := [(5, (.int v8)), (4, (.int p4)), (0, (.ref 22)), (1, (.int x1))]) (st' := [(.int (p4 - (1 : Int32))), (.int ((((x1 >>> ((4 : Int32) &&& 31)) &&& (3 : Int32)) * p4) / (4 : Int32))), (.int p4), (.ref 22)]) rfl (by exact trivial) (pc' := 87) rfl ?_
          refine hp_goto hm 9 rfl (tgt := 100) rfl ?_
          exact hp_lf [] rfl (fun _ e => e)
      · refine hp_cVS (M2 := M_Ma_rounding) hm at0 (as := [(.int p4), (.int ((((x1 >>> ((4 : Int32) &&& 31)) &&& (3 : Int32)) * p4) / (4 : Int32))), (.int p9)]) (rest := []) (z := 22) rfl (by exact trivial) (pc' := 100) rfl 11 rfl (lw_g (lw_at lw_m5 135 rfl) rfl) y_Ma_rounding rfl (d2 := 1) ⟨le_b rfl, pd_Ma_rounding, le_b rfl⟩ (le_b rfl) og_22 (k_Ma_rounding p4 ((((x1 >>> ((4 : Int32) &&& 31)) &&& (3 : Int32)) * p4) / (4 : Int32)) p9 h1) (fun _ h2 => ?_)
        exact hp_vr hm 12 rfl rfl (fun _ e => e)
/-! HintHouse$Machine.last(I)V -/
def M_Ma_last : hM := (4, ⟨"HintHouse$Machine", "last", "(I)V"⟩, prog_6_method_66_code, 5, (Option.none : Option Jvm.ClassFile.FieldType), [], [(0, [(.iload_n 1, 1, 0, 0, 0, .null)]), (72, [(.aload_n 0, 1, 0, 0, 0, .null), (.iconst 2, 1, 0, 0, 0, (.int (2 : Int32)))]), (77, [(.aload_n 0, 1, 0, 0, 0, .null)]), (81, [(.istore_n 2, 1, 0, 0, 0, .null), (.aload_n 0, 1, 0, 0, 0, .null), (.getfield 12, 3, 4, 1, 4, .null), (.getfield 107, 3, 5, 0, 4, .null), (.aload_n 0, 1, 0, 0, 0, .null), (.aload_n 0, 1, 0, 0, 0, .null)]), (94, [(.aload_n 0, 1, 0, 0, 0, .null), (.getfield 12, 3, 4, 1, 4, .null), (.getfield 106, 3, 5, 1, 0, .null)]), (104, [(.aload_n 0, 1, 0, 0, 0, .null), (.iload_n 2, 1, 0, 0, 0, .null), (.i2l, 1, 0, 0, 0, .null)]), (110, [(.iastore, 1, 0, 0, 0, .null)]), (222, [(.aload_n 0, 1, 0, 0, 0, .null), (.iconst 0, 1, 0, 0, 0, (.int (0 : Int32))), (.putfield 218, 3, 4, 39, 1, .null)]), (230, [(.aload_n 0, 1, 0, 0, 0, .null), (.bipush 64, 2, 0, 0, 0, (.int (64 : Int32))), (.iconst 0, 1, 0, 0, 0, (.int (0 : Int32))), (.bipush 63, 2, 0, 0, 0, (.int (63 : Int32)))]), (242, [(.aload_n 0, 1, 0, 0, 0, .null), (.bipush 64, 2, 0, 0, 0, (.int (64 : Int32))), (.iconst 0, 1, 0, 0, 0, (.int (0 : Int32))), (.iconst 0, 1, 0, 0, 0, (.int (0 : Int32)))]), (253, [(.aload_n 0, 1, 0, 0, 0, .null), (.iload_n 1, 1, 0, 0, 0, .null)]), (173, [(.aload_n 0, 1, 0, 0, 0, .null), (.iconst 2, 1, 0, 0, 0, (.int (2 : Int32)))]), (178, [(.aload_n 0, 1, 0, 0, 0, .null)]), (189, [(.iconst 0, 1, 0, 0, 0, (.int (0 : Int32)))]), (185, [(.iconst 1, 1, 0, 0, 0, (.int (1 : Int32)))]), (190, [(.istore_n 3, 1, 0, 0, 0, .null), (.aload_n 0, 1, 0, 0, 0, .null)]), (195, [(.istore 4, 2, 0, 0, 0, .null), (.iload_n 3, 1, 0, 0, 0, .null), (.iload_n 1, 1, 0, 0, 0, .null), (.bipush 120, 2, 0, 0, 0, (.int (120 : Int32)))]), (208, [(.iconst 0, 1, 0, 0, 0, (.int (0 : Int32)))]), (204, [(.iconst 1, 1, 0, 0, 0, (.int (1 : Int32)))]), (212, [(.aload_n 0, 1, 0, 0, 0, .null), (.iload 4, 2, 0, 0, 0, .null), (.i2l, 1, 0, 0, 0, .null)]), (144, [(.aload_n 0, 1, 0, 0, 0, .null), (.iconst 1, 1, 0, 0, 0, (.int (1 : Int32)))]), (149, [(.aload_n 0, 1, 0, 0, 0, .null), (.aload_n 0, 1, 0, 0, 0, .null)]), (154, [(.iload_n 1, 1, 0, 0, 0, .null), (.bipush 118, 2, 0, 0, 0, (.int (118 : Int32)))]), (165, [(.bipush 90, 2, 0, 0, 0, (.int (90 : Int32)))]), (160, [(.bipush 64, 2, 0, 0, 0, (.int (64 : Int32)))]), (129, [(.aload_n 0, 1, 0, 0, 0, .null), (.bipush 16, 2, 0, 0, 0, (.int (16 : Int32))), (.iload_n 1, 1, 0, 0, 0, .null), (.bipush 115, 2, 0, 0, 0, (.int (115 : Int32))), (.isub, 1, 0, 0, 0, .null), (.imul, 1, 0, 0, 0, .null), (.iconst 1, 1, 0, 0, 0, (.int (1 : Int32)))]), (114, [(.aload_n 0, 1, 0, 0, 0, .null), (.bipush 16, 2, 0, 0, 0, (.int (16 : Int32))), (.iload_n 1, 1, 0, 0, 0, .null), (.bipush 112, 2, 0, 0, 0, (.int (112 : Int32))), (.isub, 1, 0, 0, 0, .null), (.imul, 1, 0, 0, 0, .null), (.iconst 0, 1, 0, 0, 0, (.int (0 : Int32)))])], [(1, .tableswitch 252 112 125 #[71, 113, 113, 128, 128, 128, 143, 143, 172, 172, 221, 252, 229, 241], 71), (74, .invokevirtual 334, 3), (78, .invokevirtual 337, 3), (91, .invokevirtual 337, 3), (101, .invokevirtual 508, 3), (107, .invokevirtual 122, 3), (258, .return_, 1), (111, .goto 147, 3), (227, .goto 31, 3), (236, .invokevirtual 183, 3), (239, .goto 19, 3), (247, .invokevirtual 183, 3), (250, .goto 8, 3), (255, .invokevirtual 383, 3), (175, .invokevirtual 334, 3), (179, .invokevirtual 337, 3), (186, .goto 4, 3), (182, .ifCond .eq 7, 3), (192, .invokevirtual 337, 3), (205, .goto 4, 3), (201, .if_icmp .ne 7, 3), (216, .invokevirtual 398, 3), (219, .goto 39, 3), (209, .if_icmp .ne 49, 3), (146, .invokevirtual 334, 3), (151, .invokevirtual 337, 3), (162, .goto 5, 3), (157, .if_icmp .ne 8, 3), (167, .invokevirtual 544, 3), (170, .goto 88, 3), (138, .invokevirtual 499, 3), (141, .goto 117, 3), (123, .invokevirtual 499, 3), (126, .goto 132, 3)])
set_option maxRecDepth 100000 in
theorem m_Ma_last : hx_mok M_Ma_last = true := by decide +kernel
theorem pd_Ma_last : (parseMethodDescriptor M_Ma_last.2.1.desc).map (fun q => q.parameters.length) = some 1 := by decide +kernel
theorem y_Ma_last : hx_okV M_Ma_last := ⟨⟨lw_g (lw_at lw_m6 230 rfl) rfl, lw_g (lw_at lw_m6 229 rfl) rfl, qs97, lw_g (lw_at lw_m1 5 rfl) rfl, rfl, by decide, by decide, by decide⟩, rfl, by decide, plainFor_of_name (by decide)⟩
noncomputable def f_Ma_last (x1 : Int32) (h : hH) : Option (hH ⊕ (Unit × hH)) :=
  bET (P := Unit) (X := (Unit × hH)) (
    bET (P := Unit) (X := (Unit ⊕ (Unit × hH))) (
      bET (P := Unit) (X := (Unit ⊕ (Unit ⊕ (Unit × hH)))) (
        bET (P := Unit) (X := (Unit ⊕ (Unit ⊕ (Unit ⊕ (Unit × hH))))) (
          bET (P := Unit) (X := (Unit ⊕ (Unit ⊕ (Unit ⊕ (Unit ⊕ (Unit × hH)))))) (
            if x1 = (112 : Int32) then (
              bT (f_Ma_need (2 : Int32) h) fun _ h1 =>
              bS (f_Ma_pop h1) fun a6 h2 =>
              bS (f_Ma_pop h2) fun a7 h3 =>
              bT (f_Ma_index a7 (rdI h3 23 1) h3) fun a8 h4 =>
              bP (f_Ma_scaled (Int32.toInt64 a6) h4) fun a9 =>
              gd (vp_in a8 256) <|
              lz (wrI h4 24 (Int32.toNatClampNeg a8) a9) fun h5 =>
              some (.inr (.inr (.inr (.inr (.inr (.inr ((), h5)))))))
            ) else (
              if x1 = (113 : Int32) ∨ x1 = (114 : Int32) then (
                some (.inr (.inr (.inr (.inr (.inr (.inl ()))))))
              ) else (
                if x1 = (115 : Int32) ∨ x1 = (116 : Int32) ∨ x1 = (117 : Int32) then (
                  some (.inr (.inr (.inr (.inr (.inl ())))))
                ) else (
                  if x1 = (118 : Int32) ∨ x1 = (119 : Int32) then (
                    some (.inr (.inr (.inr (.inl ()))))
                  ) else (
                    if x1 = (120 : Int32) ∨ x1 = (121 : Int32) then (
                      some (.inr (.inr (.inl ())))
                    ) else (
                      if x1 = (122 : Int32) then (
                        lz (wrI h 22 39 (0 : Int32)) fun h6 =>
                        some (.inr (.inr (.inr (.inr (.inr (.inr ((), h6)))))))
                      ) else (
                        if x1 = (124 : Int32) then (
                          bS (f_Ma_rounding (64 : Int32) (0 : Int32) (63 : Int32) h) fun _ h7 =>
                          some (.inr (.inr (.inr (.inr (.inr (.inr ((), h7)))))))
                        ) else (
                          if x1 = (125 : Int32) then (
                            bS (f_Ma_rounding (64 : Int32) (0 : Int32) (0 : Int32) h) fun _ h8 =>
                            some (.inr (.inr (.inr (.inr (.inr (.inr ((), h8)))))))
                          ) else (
                            some (.inr (.inl ()))
                          )
                        )
                      )
                    )
                  )
                )
              )
            )
          ) fun p5 =>
          bT (f_Ma_unknown x1 h) fun _ h9 =>
          some (.inr (.inr (.inr (.inr (.inr ((), h9))))))
        ) fun p4 =>
        bT (f_Ma_need (2 : Int32) h) fun _ h10 =>
        bS (f_Ma_pop h10) fun a19 h11 =>
        lz (A := Int32) (if a19 = 0 then (0 : Int32) else (1 : Int32)) fun p20 =>
        bS (f_Ma_pop h11) fun a22 h12 =>
        lz (A := Int32) (if x1 = (120 : Int32) then (1 : Int32) else (0 : Int32)) fun p23 =>
        if p20 = p23 then (
          bT (f_Ma_jump (Int32.toInt64 a22) h12) fun _ h13 =>
          some (.inr (.inr (.inr (.inr ((), h13)))))
        ) else (
          some (.inr (.inr (.inr (.inr ((), h12)))))
        )
      ) fun p3 =>
      bT (f_Ma_need (1 : Int32) h) fun _ h14 =>
      bS (f_Ma_pop h14) fun a26 h15 =>
      lz (A := Int32) (if x1 = (118 : Int32) then (64 : Int32) else (90 : Int32)) fun p27 =>
      bT (f_Ma_ownRounding a26 p27 h15) fun _ h16 =>
      some (.inr (.inr (.inr ((), h16))))
    ) fun p2 =>
    bT (f_Ma_deltas ((16 : Int32) * (x1 - (115 : Int32))) (1 : Int32) h) fun _ h17 =>
    some (.inr (.inr ((), h17)))
  ) fun p1 =>
  bT (f_Ma_deltas ((16 : Int32) * (x1 - (112 : Int32))) (0 : Int32) h) fun _ h18 =>
  some (.inr ((), h18))
set_option maxRecDepth 20000 in
theorem k_Ma_last (x1 : Int32) (h : hH) : hx_kT S0 M_Ma_last 9 NT [(.ref 22), (.int x1)] h (f_Ma_last x1 h) cvU := by
  have hm := m_Ma_last
  show hx_P S0 M_Ma_last 9 0 [(0, (.ref 22)), (1, (.int x1))] [] NT h (f_Ma_last x1 h) (hx_T NT (hx_Rc cvU NT))
  unfold f_Ma_last
  refine hp_ET 114 (fun (p1 : Unit) => [(0, (.ref 22)), (1, (.int x1))]) (fun (p1 : Unit) => []) (fun (p1 : Unit) => h) ?_ (fun p1 => ?_)
  · refine hp_ET 129 (fun (p2 : Unit) => [(0, (.ref 22)), (1, (.int x1))]) (fun (p2 : Unit) => []) (fun (p2 : Unit) => h) ?_ (fun p2 => ?_)
    · refine hp_ET 144 (fun (p3 : Unit) => [(0, (.ref 22)), (1, (.int x1))]) (fun (p3 : Unit) => []) (fun (p3 : Unit) => h) ?_ (fun p3 => ?_)
      · refine hp_ET 173 (fun (p4 : Unit) => [(0, (.ref 22)), (1, (.int x1))]) (fun (p4 : Unit) => []) (fun (p4 : Unit) => h) ?_ (fun p4 => ?_)
        · refine hp_ET 253 (fun (p5 : Unit) => [(0, (.ref 22)), (1, (.int x1))]) (fun (p5 : Unit) => []) (fun (p5 : Unit) => h) ?_ (fun p5 => ?_)
          · refine hp_b hm (at1 0 rfl) (L' := [(0, (.ref 22)), (1, (.int x1))]) (st' := [(.int x1)]) rfl (by exact trivial) (pc' := 1) rfl ?_
            refine hp_sw hm 0 rfl (cs := [112]) (off := 71) (by decide) (tgt := 72) rfl (sw1 _ _) ?_ (fun c11 => ?_)
            · refine hp_cVT (M2 := M_Ma_need) hm (at1 1 rfl) (as := [(.int (2 : Int32))]) (rest := []) (z := 22) rfl (by exact trivial) (pc' := 74) rfl 1 rfl (lw_g (lw_at lw_m5 217 rfl) rfl) y_Ma_need rfl (d2 := 7) ⟨le_b rfl, pd_Ma_need, le_b rfl⟩ (le_b rfl) og_22 rfl (k_Ma_need (2 : Int32) h) (fun _ h1 => ?_)
              refine hp_cVS (M2 := M_Ma_pop) hm (at1 2 rfl) (as := []) (rest := []) (z := 22) rfl (by exact trivial) (pc' := 78) rfl 2 rfl (lw_g (lw_at lw_m5 221 rfl) rfl) y_Ma_pop rfl (d2 := 1) ⟨le_b rfl, pd_Ma_pop, le_b rfl⟩ (le_b rfl) og_22 (k_Ma_pop h1) (fun a6 h2 => ?_)
              refine hp_b hm (at1 3 rfl) (L' := [(2, (.int a6)), (0, (.ref 22)), (1, (.int x1))]) (st' := [(.ref 22), (.ref 22), (.ref 24)]) rfl (by exact ⟨og_22, og_23⟩) (pc' := 91) rfl ?_
              refine hp_cVS (M2 := M_Ma_pop) hm at0 (as := []) (rest := [(.ref 22), (.ref 24)]) (z := 22) rfl (by exact trivial) (pc' := 91) rfl 3 rfl (lw_g (lw_at lw_m5 221 rfl) rfl) y_Ma_pop rfl (d2 := 1) ⟨le_b rfl, pd_Ma_pop, le_b rfl⟩ (le_b rfl) og_22 (k_Ma_pop h2) (fun a7 h3 => ?_)
              refine hp_cVT (M2 := M_Ma_index) hm (at1 4 rfl) (as := [(.int a7), (.int (rdI h3 23 1))]) (rest := [(.ref 24)]) (z := 22) rfl (by exact ⟨og_22, og_23⟩) (pc' := 101) rfl 4 rfl (lw_g (lw_at lw_m6 200 rfl) rfl) y_Ma_index rfl (d2 := 7) ⟨le_b rfl, pd_Ma_index, le_b rfl⟩ (le_b rfl) og_22 rfl (k_Ma_index a7 (rdI h3 23 1) h3) (fun a8 h4 => ?_)
              refine hp_cVP (M2 := M_Ma_scaled) hm (at1 5 rfl) (as := [(.long (Int32.toInt64 a6))]) (rest := [(.int a8), (.ref 24)]) (z := 22) rfl (by exact trivial) (pc' := 107) rfl 5 rfl (lw_g (lw_at lw_m5 103 rfl) rfl) y_Ma_scaled rfl (d2 := 3) ⟨le_b rfl, pd_Ma_scaled, le_b rfl⟩ (le_b rfl) og_22 (k_Ma_scaled (Int32.toInt64 a6) h4) (fun a9 => ?_)
              refine hp_GW hm (at1 6 rfl) (L' := [(2, (.int a6)), (0, (.ref 22)), (1, (.int x1))]) rfl (fun hP => (by exact ⟨og_24, hP⟩)) (pc' := 111) rfl (fun q10 h5 => ?_)
              refine hp_goto hm 7 rfl (tgt := 258) rfl ?_
              exact hp_vr hm 6 rfl rfl (fun _ e => e)
            · refine hp_sw hm 0 rfl (cs := [113, 114]) (off := 113) (by decide) (tgt := 114) rfl (sw2 _ _ _) ?_ (fun c12 => ?_)
              · exact hp_lf [0, 1] rfl (fun _ e => e)
              · refine hp_sw hm 0 rfl (cs := [115, 116, 117]) (off := 128) (by decide) (tgt := 129) rfl (sw3 _ _ _ _) ?_ (fun c13 => ?_)
                · exact hp_lf [0, 1] rfl (fun _ e => e)
                · refine hp_sw hm 0 rfl (cs := [118, 119]) (off := 143) (by decide) (tgt := 144) rfl (sw2 _ _ _) ?_ (fun c14 => ?_)
                  · exact hp_lf [0, 1] rfl (fun _ e => e)
                  · refine hp_sw hm 0 rfl (cs := [120, 121]) (off := 172) (by decide) (tgt := 173) rfl (sw2 _ _ _) ?_ (fun c15 => ?_)
                    · exact hp_lf [0, 1] rfl (fun _ e => e)
                    · refine hp_sw hm 0 rfl (cs := [122]) (off := 221) (by decide) (tgt := 222) rfl (sw1 _ _) ?_ (fun c16 => ?_)
                      · refine hp_w hm (at1 7 rfl) (L' := [(0, (.ref 22)), (1, (.int x1))]) rfl (by exact ⟨og_22, (Or.inl rfl)⟩) (pc' := 227) rfl (fun h6 => ?_)
                        refine hp_goto hm 8 rfl (tgt := 258) rfl ?_
                        exact hp_vr hm 6 rfl rfl (fun _ e => e)
                      · refine hp_sw hm 0 rfl (cs := [124]) (off := 229) (by decide) (tgt := 230) rfl (sw1 _ _) ?_ (fun c17 => ?_)
                        · refine hp_cVS (M2 := M_Ma_rounding) hm (at1 8 rfl) (as := [(.int (64 : Int32)), (.int (0 : Int32)), (.int (63 : Int32))]) (rest := []) (z := 22) rfl (by exact trivial) (pc' := 236) rfl 9 rfl (lw_g (lw_at lw_m5 135 rfl) rfl) y_Ma_rounding rfl (d2 := 1) ⟨le_b rfl, pd_Ma_rounding, le_b rfl⟩ (le_b rfl) og_22 (k_Ma_rounding (64 : Int32) (0 : Int32) (63 : Int32) h) (fun _ h7 => ?_)
                          refine hp_goto hm 10 rfl (tgt := 258) rfl ?_
                          exact hp_vr hm 6 rfl rfl (fun _ e => e)
                        · refine hp_sw hm 0 rfl (cs := [125]) (off := 241) (by decide) (tgt := 242) rfl (sw1 _ _) ?_ (fun c18 => ?_)
                          · refine hp_cVS (M2 := M_Ma_rounding) hm (at1 9 rfl) (as := [(.int (64 : Int32)), (.int (0 : Int32)), (.int (0 : Int32))]) (rest := []) (z := 22) rfl (by exact trivial) (pc' := 247) rfl 11 rfl (lw_g (lw_at lw_m5 135 rfl) rfl) y_Ma_rounding rfl (d2 := 1) ⟨le_b rfl, pd_Ma_rounding, le_b rfl⟩ (le_b rfl) og_22 (k_Ma_rounding (64 : Int32) (0 : Int32) (0 : Int32) h) (fun _ h8 => ?_)
                            refine hp_goto hm 12 rfl (tgt := 258) rfl ?_
                            exact hp_vr hm 6 rfl rfl (fun _ e => e)
                          · refine hp_sd2 hm 0 rfl (css := [[112], [113, 114], [115, 116, 117], [118, 119], [120, 121], [122], [124], [125]]) (by decide) (by decide) (List.forall_mem_cons.mpr ⟨c11, (List.forall_mem_cons.mpr ⟨c12, (List.forall_mem_cons.mpr ⟨c13, (List.forall_mem_cons.mpr ⟨c14, (List.forall_mem_cons.mpr ⟨c15, (List.forall_mem_cons.mpr ⟨c16, (List.forall_mem_cons.mpr ⟨c17, (List.forall_mem_cons.mpr ⟨c18, (fun _ h => absurd h List.not_mem_nil)⟩)⟩)⟩)⟩)⟩)⟩)⟩)⟩) (tgt := 253) rfl ?_
                            exact hp_lf [0, 1] rfl (fun _ e => e)
          · refine hp_cVT (M2 := M_Ma_unknown) hm (at1 10 rfl) (as := [(.int x1)]) (rest := []) (z := 22) rfl (by exact trivial) (pc' := 255) rfl 13 rfl (lw_g (lw_at lw_m6 71 rfl) rfl) y_Ma_unknown rfl (d2 := 8) ⟨le_b rfl, pd_Ma_unknown, le_b rfl⟩ (le_b rfl) og_22 rfl (k_Ma_unknown x1 h) (fun _ h9 => ?_)
            exact hp_vr hm 6 rfl rfl (fun _ e => e)
        · refine hp_cVT (M2 := M_Ma_need) hm (at1 11 rfl) (as := [(.int (2 : Int32))]) (rest := []) (z := 22) rfl (by exact trivial) (pc' := 175) rfl 14 rfl (lw_g (lw_at lw_m5 217 rfl) rfl) y_Ma_need rfl (d2 := 7) ⟨le_b rfl, pd_Ma_need, le_b rfl⟩ (le_b rfl) og_22 rfl (k_Ma_need (2 : Int32) h) (fun _ h10 => ?_)
          refine hp_cVS (M2 := M_Ma_pop) hm (at1 12 rfl) (as := []) (rest := []) (z := 22) rfl (by exact trivial) (pc' := 179) rfl 15 rfl (lw_g (lw_at lw_m5 221 rfl) rfl) y_Ma_pop rfl (d2 := 1) ⟨le_b rfl, pd_Ma_pop, le_b rfl⟩ (le_b rfl) og_22 (k_Ma_pop h10) (fun a19 h11 => ?_)
          refine hp_JZ 190 (fun (p20 : Int32) => [(0, (.ref 22)), (1, (.int x1))]) (fun (p20 : Int32) => [(.int p20)]) (fun (p20 : Int32) => h11) ?_ (fun p20 => ?_)
          · refine hp_sv0 ?_
            refine hp_if_eq hm at0 rfl (by exact trivial) (pc' := 182) rfl 17 rfl (tgt := 189) rfl (fun c21 => ?_) (fun c21 => ?_)
            · refine hp_b hm (at1 13 rfl) (L' := [(0, (.ref 22)), (1, (.int x1))]) (st' := [(.int (0 : Int32))]) rfl (by exact trivial) (pc' := 190) rfl ?_
              exact hp_lf [0, 1] rfl (fun _ e => e)
            · refine hp_b hm (at1 14 rfl) (L' := [(0, (.ref 22)), (1, (.int x1))]) (st' := [(.int (1 : Int32))]) rfl (by exact trivial) (pc' := 186) rfl ?_
              refine hp_goto hm 16 rfl (tgt := 190) rfl ?_
              exact hp_lf [0, 1] rfl (fun _ e => e)
          · refine hp_b hm (at1 15 rfl) (L' := [(3, (.int p20)), (0, (.ref 22)), (1, (.int x1))]) (st' := [(.ref 22)]) rfl (by exact trivial) (pc' := 192) rfl ?_
            refine hp_cVS (M2 := M_Ma_pop) hm at0 (as := []) (rest := []) (z := 22) rfl (by exact trivial) (pc' := 192) rfl 18 rfl (lw_g (lw_at lw_m5 221 rfl) rfl) y_Ma_pop rfl (d2 := 1) ⟨le_b rfl, pd_Ma_pop, le_b rfl⟩ (le_b rfl) og_22 (k_Ma_pop h11) (fun a22 h12 => ?_)
            refine hp_b hm (at1 16 rfl) (L' := [(4, (.int a22)), (3, (.int p20)), (0, (.ref 22)), (1, (.int x1))]) (st' := [(.int (120 : Int32)), (.int x1), (.int p20)]) rfl (by exact trivial) (pc' := 201) rfl ?_
            refine hp_JZ 209 (fun (p23 : Int32) => [(0, (.ref 22)), (4, (.int a22))]) (fun (p23 : Int32) => [(.int p23), (.int p20)]) (fun (p23 : Int32) => h12) ?_ (fun p23 => ?_)
            · refine hp_sv0 ?_
              refine hp_ic_ne hm at0 rfl (by exact trivial) (pc' := 201) rfl 20 rfl (tgt := 208) rfl (fun c24 => ?_) (fun c24 => ?_)
              · refine hp_b hm (at1 17 rfl) (L' := [(4, (.int a22)), (3, (.int p20)), (0, (.ref 22)), (1, (.int x1))]) (st' := [(.int (0 : Int32)), (.int p20)]) rfl (by exact trivial) (pc' := 209) rfl ?_
                exact hp_lf [2, 0] rfl (fun _ e => e)
              · refine hp_b hm (at1 18 rfl) (L' := [(4, (.int a22)), (3, (.int p20)), (0, (.ref 22)), (1, (.int x1))]) (st' := [(.int (1 : Int32)), (.int p20)]) rfl (by exact trivial) (pc' := 205) rfl ?_
                refine hp_goto hm 19 rfl (tgt := 209) rfl ?_
                exact hp_lf [2, 0] rfl (fun _ e => e)
            · refine hp_ic_ne hm at0 rfl (by exact trivial) (pc' := 209) rfl 23 rfl (tgt := 258) rfl (fun c25 => ?_) (fun c25 => ?_)
              · exact hp_vr hm 6 rfl rfl (fun _ e => e)
              · refine hp_cVT (M2 := M_Ma_jump) hm (at1 19 rfl) (as := [(.long (Int32.toInt64 a22))]) (rest := []) (z := 22) rfl (by exact trivial) (pc' := 216) rfl 21 rfl (lw_g (lw_at lw_m6 100 rfl) rfl) y_Ma_jump rfl (d2 := 7) ⟨le_b rfl, pd_Ma_jump, le_b rfl⟩ (le_b rfl) og_22 rfl (k_Ma_jump (Int32.toInt64 a22) h12) (fun _ h13 => ?_)
                refine hp_goto hm 22 rfl (tgt := 258) rfl ?_
                exact hp_vr hm 6 rfl rfl (fun _ e => e)
      · refine hp_cVT (M2 := M_Ma_need) hm (at1 20 rfl) (as := [(.int (1 : Int32))]) (rest := []) (z := 22) rfl (by exact trivial) (pc' := 146) rfl 24 rfl (lw_g (lw_at lw_m5 217 rfl) rfl) y_Ma_need rfl (d2 := 7) ⟨le_b rfl, pd_Ma_need, le_b rfl⟩ (le_b rfl) og_22 rfl (k_Ma_need (1 : Int32) h) (fun _ h14 => ?_)
        refine hp_cVS (M2 := M_Ma_pop) hm (at1 21 rfl) (as := []) (rest := [(.ref 22)]) (z := 22) rfl (by exact trivial) (pc' := 151) rfl 25 rfl (lw_g (lw_at lw_m5 221 rfl) rfl) y_Ma_pop rfl (d2 := 1) ⟨le_b rfl, pd_Ma_pop, le_b rfl⟩ (le_b rfl) og_22 (k_Ma_pop h14) (fun a26 h15 => ?_)
        refine hp_JZ 167 (fun (p27 : Int32) => []) (fun (p27 : Int32) => [(.int p27), (.int a26), (.ref 22)]) (fun (p27 : Int32) => h15) ?_ (fun p27 => ?_)
        · refine hp_sv0 ?_
          refine hp_ic_ne hm (at1 22 rfl) rfl (by exact trivial) (pc' := 157) rfl 27 rfl (tgt := 165) rfl (fun c28 => ?_) (fun c28 => ?_)
          · refine hp_b hm (at1 23 rfl) (L' := [(0, (.ref 22)), (1, (.int x1))]) (st' := [(.int (90 : Int32)), (.int a26), (.ref 22)]) rfl (by exact trivial) (pc' := 167) rfl ?_
            exact hp_lf [] rfl (fun _ e => e)
          · refine hp_b hm (at1 24 rfl) (L' := [(0, (.ref 22)), (1, (.int x1))]) (st' := [(.int (64 : Int32)), (.int a26), (.ref 22)]) rfl (by exact trivial) (pc' := 162) rfl ?_
            refine hp_goto hm 26 rfl (tgt := 167) rfl ?_
            exact hp_lf [] rfl (fun _ e => e)
        · refine hp_cVT (M2 := M_Ma_ownRounding) hm at0 (as := [(.int a26), (.int p27)]) (rest := []) (z := 22) rfl (by exact trivial) (pc' := 167) rfl 28 rfl (lw_g (lw_at lw_m6 231 rfl) rfl) y_Ma_ownRounding rfl (d2 := 7) ⟨le_b rfl, pd_Ma_ownRounding, le_b rfl⟩ (le_b rfl) og_22 rfl (k_Ma_ownRounding a26 p27 h15) (fun _ h16 => ?_)
          refine hp_goto hm 29 rfl (tgt := 258) rfl ?_
          exact hp_vr hm 6 rfl rfl (fun _ e => e)
    · refine hp_cVT (M2 := M_Ma_deltas) hm (at1 25 rfl) (as := [(.int ((16 : Int32) * (x1 - (115 : Int32)))), (.int (1 : Int32))]) (rest := []) (z := 22) rfl (by exact trivial) (pc' := 138) rfl 30 rfl (lw_g (lw_at lw_m6 192 rfl) rfl) y_Ma_deltas rfl (d2 := 8) ⟨le_b rfl, pd_Ma_deltas, le_b rfl⟩ (le_b rfl) og_22 rfl (k_Ma_deltas ((16 : Int32) * (x1 - (115 : Int32))) (1 : Int32) h) (fun _ h17 => ?_)
      refine hp_goto hm 31 rfl (tgt := 258) rfl ?_
      exact hp_vr hm 6 rfl rfl (fun _ e => e)
  · refine hp_cVT (M2 := M_Ma_deltas) hm (at1 26 rfl) (as := [(.int ((16 : Int32) * (x1 - (112 : Int32)))), (.int (0 : Int32))]) (rest := []) (z := 22) rfl (by exact trivial) (pc' := 123) rfl 32 rfl (lw_g (lw_at lw_m6 192 rfl) rfl) y_Ma_deltas rfl (d2 := 8) ⟨le_b rfl, pd_Ma_deltas, le_b rfl⟩ (le_b rfl) og_22 rfl (k_Ma_deltas ((16 : Int32) * (x1 - (112 : Int32))) (0 : Int32) h) (fun _ h18 => ?_)
    refine hp_goto hm 33 rfl (tgt := 258) rfl ?_
    exact hp_vr hm 6 rfl rfl (fun _ e => e)
/-! HintHouse$Machine.onPoint(I)I -/
def M_Ma_onPoint : hM := (4, ⟨"HintHouse$Machine", "onPoint", "(I)I"⟩, prog_6_method_69_code, 2, (Option.some Jvm.ClassFile.FieldType.int), [], [(0, [(.aload_n 0, 1, 0, 0, 0, .null), (.aload_n 0, 1, 0, 0, 0, .null), (.getfield 145, 3, 4, 3, 3, .null)]), (31, [(.iconst 0, 1, 0, 0, 0, (.int (0 : Int32)))]), (8, [(.iload_n 1, 1, 0, 0, 0, .null), (.i2l, 1, 0, 0, 0, .null), (.lconst 0, 1, 0, 0, 0, (.long (0 : Int64))), (.aload_n 0, 1, 0, 0, 0, .null), (.getfield 145, 3, 4, 3, 3, .null), (.getfield 490, 3, 9, 3, 0, .null), (.iconst 1, 1, 0, 0, 0, (.int (1 : Int32))), (.isub, 1, 0, 0, 0, .null), (.i2l, 1, 0, 0, 0, .null)]), (27, [(.iconst 1, 1, 0, 0, 0, (.int (1 : Int32)))]), (32, [(.iconst 5, 1, 0, 0, 0, (.int (5 : Int32)))]), (36, [(.iload_n 1, 1, 0, 0, 0, .null)])], [(21, .invokestatic 246, 3), (28, .goto 4, 3), (24, .ifCond .eq 7, 3), (5, .ifnull 26, 3), (33, .invokevirtual 187, 3), (37, .ireturn, 1)])
set_option maxRecDepth 100000 in
theorem m_Ma_onPoint : hx_mok M_Ma_onPoint = true := by decide +kernel
theorem pd_Ma_onPoint : (parseMethodDescriptor M_Ma_onPoint.2.1.desc).map (fun q => q.parameters.length) = some 1 := by decide +kernel
theorem y_Ma_onPoint : hx_okV M_Ma_onPoint := ⟨⟨lw_g (lw_at lw_m7 2 rfl) rfl, lw_g (lw_at lw_m7 1 rfl) rfl, qs100, lw_g (lw_at lw_m1 5 rfl) rfl, rfl, by decide, by decide, by decide⟩, rfl, by decide, plainFor_of_name (by decide)⟩
noncomputable def f_Ma_onPoint (x1 : Int32) (h : hH) : Option (hH ⊕ (Int32 × hH)) :=
  bJT (P := Int32) (
    if (rdP h 22 3) = 0 then (
      some (.inr (0 : Int32))
    ) else (
      gd (isA 9 (rdP h 22 3)) <|
      bP (f_HH_within (Int32.toInt64 x1) (0 : Int64) (Int32.toInt64 ((rdI h (rdP h 22 3) 3) - (1 : Int32)))) fun a3 =>
      if a3 = 0 then (
        some (.inr (0 : Int32))
      ) else (
        some (.inr (1 : Int32))
      )
    )
  ) fun p1 =>
  bT (f_Ma_want p1 (5 : Int32) h) fun _ h1 =>
  some (.inr (x1, h1))
set_option maxRecDepth 20000 in
theorem k_Ma_onPoint (x1 : Int32) (h : hH) : hx_kT S0 M_Ma_onPoint 7 NT [(.ref 22), (.int x1)] h (f_Ma_onPoint x1 h) cvI := by
  have hm := m_Ma_onPoint
  show hx_P S0 M_Ma_onPoint 7 0 [(0, (.ref 22)), (1, (.int x1))] [] NT h (f_Ma_onPoint x1 h) (hx_T NT (hx_Rc cvI NT))
  unfold f_Ma_onPoint
  refine hp_JT 32 (fun (p1 : Int32) => [(1, (.int x1))]) (fun (p1 : Int32) => [(.int p1), (.ref 22)]) (fun (p1 : Int32) => h) ?_ (fun p1 => ?_)
  · refine hp_null hm (at1 0 rfl) rfl (by exact og_22) (pc' := 5) rfl 3 rfl (tgt := 31) rfl (fun c5 => ?_) (fun c5 => ?_)
    · refine hp_b hm (at1 1 rfl) (L' := [(0, (.ref 22)), (1, (.int x1))]) (st' := [(.int (0 : Int32)), (.ref 22)]) rfl (by exact trivial) (pc' := 32) rfl ?_
      exact hp_lf [1] rfl (fun _ e => e)
    · refine hp_G hm (at1 2 rfl) (L' := [(0, (.ref 22)), (1, (.int x1))]) (st' := [(.long (Int32.toInt64 ((rdI h (rdP h 22 3) 3) - (1 : Int32)))), (.long (0 : Int64)), (.long (Int32.toInt64 x1)), (.ref 22)]) rfl (fun hP => (by exact ⟨og_22, hP⟩)) (pc' := 21) rfl (fun q2 => ?_)
      refine hp_cNP (M2 := M_HH_within) hm at0 (as := [(.long (Int32.toInt64 x1)), (.long (0 : Int64)), (.long (Int32.toInt64 ((rdI h (rdP h 22 3) 3) - (1 : Int32))))]) (rest := [(.ref 22)]) rfl (by exact trivial) (pc' := 21) rfl 0 rfl (hmn_4_246) y_HH_within rfl (d2 := 1) ⟨le_b rfl, pd_HH_within, le_b rfl⟩ (le_b rfl) (k_HH_within (Int32.toInt64 x1) (0 : Int64) (Int32.toInt64 ((rdI h (rdP h 22 3) 3) - (1 : Int32))) h) (fun a3 => ?_)
      refine hp_if_eq hm at0 rfl (by exact trivial) (pc' := 24) rfl 2 rfl (tgt := 31) rfl (fun c4 => ?_) (fun c4 => ?_)
      · refine hp_b hm (at1 1 rfl) (L' := [(0, (.ref 22)), (1, (.int x1))]) (st' := [(.int (0 : Int32)), (.ref 22)]) rfl (by exact trivial) (pc' := 32) rfl ?_
        exact hp_lf [1] rfl (fun _ e => e)
      · refine hp_b hm (at1 3 rfl) (L' := [(0, (.ref 22)), (1, (.int x1))]) (st' := [(.int (1 : Int32)), (.ref 22)]) rfl (by exact trivial) (pc' := 28) rfl ?_
        refine hp_goto hm 1 rfl (tgt := 32) rfl ?_
        exact hp_lf [1] rfl (fun _ e => e)
  · refine hp_cVT (M2 := M_Ma_want) hm (at1 4 rfl) (as := [(.int p1), (.int (5 : Int32))]) (rest := []) (z := 22) rfl (by exact trivial) (pc' := 33) rfl 4 rfl (lw_g (lw_at lw_m5 139 rfl) rfl) y_Ma_want rfl (d2 := 6) ⟨le_b rfl, pd_Ma_want, le_b rfl⟩ (le_b rfl) og_22 rfl (k_Ma_want p1 (5 : Int32) h) (fun _ h1 => ?_)
    exact hp_ir hm (at1 5 rfl) rfl (by exact trivial) (pc' := 37) rfl 5 rfl rfl (vp_nar_int _) (fun _ e => e)
/-! HintHouse$Machine.twoVectors(Z)V -/
def M_Ma_twoVectors : hM := (4, ⟨"HintHouse$Machine", "twoVectors", "(Z)V"⟩, prog_6_method_70_code, 6, (Option.none : Option Jvm.ClassFile.FieldType), [], [(0, [(.aload_n 0, 1, 0, 0, 0, .null)]), (4, [(.istore_n 2, 1, 0, 0, 0, .null), (.aload_n 0, 1, 0, 0, 0, .null)]), (9, [(.istore_n 3, 1, 0, 0, 0, .null), (.aload_n 0, 1, 0, 0, 0, .null), (.iconst 1, 1, 0, 0, 0, (.int (1 : Int32)))]), (15, [(.astore 4, 2, 0, 0, 0, .null), (.aload_n 0, 1, 0, 0, 0, .null), (.iconst 2, 1, 0, 0, 0, (.int (2 : Int32)))]), (22, [(.astore 5, 2, 0, 0, 0, .null), (.aload_n 0, 1, 0, 0, 0, .null), (.aload 4, 2, 0, 0, 0, .null), (.iload_n 3, 1, 0, 0, 0, .null)]), (31, [(.pop, 1, 0, 0, 0, .null), (.aload_n 0, 1, 0, 0, 0, .null), (.aload 5, 2, 0, 0, 0, .null), (.iload_n 2, 1, 0, 0, 0, .null)]), (39, [(.pop, 1, 0, 0, 0, .null), (.aload_n 0, 1, 0, 0, 0, .null), (.aload 4, 2, 0, 0, 0, .null), (.getfield 262, 3, 6, 0, 4, .null), (.iload_n 3, 1, 0, 0, 0, .null), (.iaload, 1, 0, 0, 0, .null), (.aload 5, 2, 0, 0, 0, .null), (.getfield 262, 3, 6, 0, 4, .null), (.iload_n 2, 1, 0, 0, 0, .null), (.iaload, 1, 0, 0, 0, .null), (.isub, 1, 0, 0, 0, .null), (.aload 4, 2, 0, 0, 0, .null), (.getfield 265, 3, 6, 1, 4, .null), (.iload_n 3, 1, 0, 0, 0, .null), (.iaload, 1, 0, 0, 0, .null), (.aload 5, 2, 0, 0, 0, .null), (.getfield 265, 3, 6, 1, 4, .null), (.iload_n 2, 1, 0, 0, 0, .null), (.iaload, 1, 0, 0, 0, .null), (.isub, 1, 0, 0, 0, .null), (.iload_n 1, 1, 0, 0, 0, .null)]), (75, [(.aload_n 0, 1, 0, 0, 0, .null), (.aload_n 0, 1, 0, 0, 0, .null), (.getfield 293, 3, 4, 34, 0, .null), (.putfield 212, 3, 4, 32, 0, .null)]), (83, [(.aload_n 0, 1, 0, 0, 0, .null), (.aload_n 0, 1, 0, 0, 0, .null), (.getfield 296, 3, 4, 35, 0, .null), (.putfield 215, 3, 4, 33, 0, .null)]), (91, [(.aload_n 0, 1, 0, 0, 0, .null), (.aload 4, 2, 0, 0, 0, .null), (.getfield 252, 3, 6, 2, 4, .null), (.iload_n 3, 1, 0, 0, 0, .null), (.iaload, 1, 0, 0, 0, .null), (.aload 5, 2, 0, 0, 0, .null), (.getfield 252, 3, 6, 2, 4, .null), (.iload_n 2, 1, 0, 0, 0, .null), (.iaload, 1, 0, 0, 0, .null), (.isub, 1, 0, 0, 0, .null), (.aload 4, 2, 0, 0, 0, .null), (.getfield 255, 3, 6, 3, 4, .null), (.iload_n 3, 1, 0, 0, 0, .null), (.iaload, 1, 0, 0, 0, .null), (.aload 5, 2, 0, 0, 0, .null), (.getfield 255, 3, 6, 3, 4, .null), (.iload_n 2, 1, 0, 0, 0, .null), (.iaload, 1, 0, 0, 0, .null), (.isub, 1, 0, 0, 0, .null), (.iload_n 1, 1, 0, 0, 0, .null)]), (126, [(.aload_n 0, 1, 0, 0, 0, .null), (.aload_n 0, 1, 0, 0, 0, .null), (.getfield 293, 3, 4, 34, 0, .null), (.putfield 206, 3, 4, 30, 0, .null)]), (134, [(.aload_n 0, 1, 0, 0, 0, .null), (.aload_n 0, 1, 0, 0, 0, .null), (.getfield 296, 3, 4, 35, 0, .null), (.putfield 209, 3, 4, 31, 0, .null)])], [(1, .invokevirtual 337, 3), (6, .invokevirtual 337, 3), (12, .invokevirtual 362, 3), (19, .invokevirtual 362, 3), (28, .invokevirtual 366, 3), (36, .invokevirtual 366, 3), (72, .invokevirtual 370, 3), (123, .invokevirtual 370, 3), (142, .return_, 1)])
set_option maxRecDepth 100000 in
theorem m_Ma_twoVectors : hx_mok M_Ma_twoVectors = true := by decide +kernel
theorem pd_Ma_twoVectors : (parseMethodDescriptor M_Ma_twoVectors.2.1.desc).map (fun q => q.parameters.length) = some 1 := by decide +kernel
theorem y_Ma_twoVectors : hx_okV M_Ma_twoVectors := ⟨⟨lw_g (lw_at lw_m7 6 rfl) rfl, lw_g (lw_at lw_m7 5 rfl) rfl, qs101, lw_g (lw_at lw_m1 5 rfl) rfl, rfl, by decide, by decide, by decide⟩, rfl, by decide, plainFor_of_name (by decide)⟩
noncomputable def f_Ma_twoVectors (x1 : Int32) (h : hH) : Option (hH ⊕ (Unit × hH)) :=
  bS (f_Ma_pop h) fun a1 h1 =>
  bS (f_Ma_pop h1) fun a2 h2 =>
  bP (f_Ma_zone (1 : Int32) h2) fun a3 =>
  bP (f_Ma_zone (2 : Int32) h2) fun a4 =>
  gd (isA 6 a3) <|
  bT (f_Ma_point a3 a2 h2) fun a6 h3 =>
  gd (isA 6 a4) <|
  bT (f_Ma_point a4 a1 h3) fun a8 h4 =>
  gd (vp_in a2 (zr a3) ∧ vp_in a1 (zr a4)) <|
  bS (f_Ma_direct ((rdI h4 (rf a3 0) (Int32.toNatClampNeg a2)) - (rdI h4 (rf a4 0) (Int32.toNatClampNeg a1))) ((rdI h4 (rf a3 1) (Int32.toNatClampNeg a2)) - (rdI h4 (rf a4 1) (Int32.toNatClampNeg a1))) x1 h4) fun _ h5 =>
  lz (wrI h5 22 32 (rdI h5 22 34)) fun h6 =>
  lz (wrI h6 22 33 (rdI h6 22 35)) fun h7 =>
  gd (vp_in a2 (zr a3) ∧ vp_in a1 (zr a4)) <|
  bS (f_Ma_direct ((rdI h7 (rf a3 2) (Int32.toNatClampNeg a2)) - (rdI h7 (rf a4 2) (Int32.toNatClampNeg a1))) ((rdI h7 (rf a3 3) (Int32.toNatClampNeg a2)) - (rdI h7 (rf a4 3) (Int32.toNatClampNeg a1))) x1 h7) fun _ h8 =>
  lz (wrI h8 22 30 (rdI h8 22 34)) fun h9 =>
  lz (wrI h9 22 31 (rdI h9 22 35)) fun h10 =>
  some (.inr ((), h10))
set_option maxRecDepth 20000 in
theorem k_Ma_twoVectors (x1 : Int32) (h : hH) : hx_kT S0 M_Ma_twoVectors 8 NT [(.ref 22), (.int x1)] h (f_Ma_twoVectors x1 h) cvU := by
  have hm := m_Ma_twoVectors
  show hx_P S0 M_Ma_twoVectors 8 0 [(0, (.ref 22)), (1, (.int x1))] [] NT h (f_Ma_twoVectors x1 h) (hx_T NT (hx_Rc cvU NT))
  unfold f_Ma_twoVectors
  refine hp_cVS (M2 := M_Ma_pop) hm (at1 0 rfl) (as := []) (rest := []) (z := 22) rfl (by exact trivial) (pc' := 1) rfl 0 rfl (lw_g (lw_at lw_m5 221 rfl) rfl) y_Ma_pop rfl (d2 := 1) ⟨le_b rfl, pd_Ma_pop, le_b rfl⟩ (le_b rfl) og_22 (k_Ma_pop h) (fun a1 h1 => ?_)
  refine hp_b hm (at1 1 rfl) (L' := [(2, (.int a1)), (0, (.ref 22)), (1, (.int x1))]) (st' := [(.ref 22)]) rfl (by exact trivial) (pc' := 6) rfl ?_
  refine hp_cVS (M2 := M_Ma_pop) hm at0 (as := []) (rest := []) (z := 22) rfl (by exact trivial) (pc' := 6) rfl 1 rfl (lw_g (lw_at lw_m5 221 rfl) rfl) y_Ma_pop rfl (d2 := 1) ⟨le_b rfl, pd_Ma_pop, le_b rfl⟩ (le_b rfl) og_22 (k_Ma_pop h1) (fun a2 h2 => ?_)
  refine hp_b hm (at1 2 rfl) (L' := [(3, (.int a2)), (2, (.int a1)), (0, (.ref 22)), (1, (.int x1))]) (st' := [(.int (1 : Int32)), (.ref 22)]) rfl (by exact trivial) (pc' := 12) rfl ?_
  refine hp_cVP (M2 := M_Ma_zone) hm at0 (as := [(.int (1 : Int32))]) (rest := []) (z := 22) rfl (by exact trivial) (pc' := 12) rfl 2 rfl (lw_g (lw_at lw_m5 225 rfl) rfl) y_Ma_zone rfl (d2 := 1) ⟨le_b rfl, pd_Ma_zone, le_b rfl⟩ (le_b rfl) og_22 (k_Ma_zone (1 : Int32) h2) (fun a3 => ?_)
  refine hp_b hm (at1 3 rfl) (L' := [(4, (.ref a3)), (3, (.int a2)), (2, (.int a1)), (0, (.ref 22)), (1, (.int x1))]) (st' := [(.int (2 : Int32)), (.ref 22)]) rfl (by exact trivial) (pc' := 19) rfl ?_
  refine hp_cVP (M2 := M_Ma_zone) hm at0 (as := [(.int (2 : Int32))]) (rest := []) (z := 22) rfl (by exact trivial) (pc' := 19) rfl 3 rfl (lw_g (lw_at lw_m5 225 rfl) rfl) y_Ma_zone rfl (d2 := 1) ⟨le_b rfl, pd_Ma_zone, le_b rfl⟩ (le_b rfl) og_22 (k_Ma_zone (2 : Int32) h2) (fun a4 => ?_)
  refine hp_b hm (at1 4 rfl) (L' := [(5, (.ref a4)), (4, (.ref a3)), (3, (.int a2)), (2, (.int a1)), (0, (.ref 22)), (1, (.int x1))]) (st' := [(.int a2), (.ref a3), (.ref 22)]) rfl (by exact trivial) (pc' := 28) rfl ?_
  refine hp_G0 (fun q5 => ?_)
  refine hp_cVT (M2 := M_Ma_point) hm at0 (as := [(.ref a3), (.int a2)]) (rest := []) (z := 22) rfl (by exact trivial) (pc' := 28) rfl 4 rfl (lw_g (lw_at lw_m5 229 rfl) rfl) y_Ma_point rfl (d2 := 7) ⟨le_b rfl, pd_Ma_point, le_b rfl⟩ (le_b rfl) og_22 rfl (k_Ma_point a3 a2 h2 q5) (fun a6 h3 => ?_)
  refine hp_G0 (fun q7 => ?_)
  refine hp_b hm (at1 5 rfl) (L' := [(5, (.ref a4)), (4, (.ref a3)), (3, (.int a2)), (2, (.int a1)), (0, (.ref 22)), (1, (.int x1))]) (st' := [(.int a1), (.ref a4), (.ref 22)]) rfl (by exact trivial) (pc' := 36) rfl ?_
  refine hp_cVT (M2 := M_Ma_point) hm at0 (as := [(.ref a4), (.int a1)]) (rest := []) (z := 22) rfl (by exact trivial) (pc' := 36) rfl 5 rfl (lw_g (lw_at lw_m5 229 rfl) rfl) y_Ma_point rfl (d2 := 7) ⟨le_b rfl, pd_Ma_point, le_b rfl⟩ (le_b rfl) og_22 rfl (k_Ma_point a4 a1 h3 q7) (fun a8 h4 => ?_)
  refine hp_G hm (at1 6 rfl) (L' := [(5, (.ref a4)), (4, (.ref a3)), (3, (.int a2)), (2, (.int a1)), (0, (.ref 22)), (1, (.int x1))]) (st' := [(.int x1), (.int ((rdI h4 (rf a3 1) (Int32.toNatClampNeg a2)) - (rdI h4 (rf a4 1) (Int32.toNatClampNeg a1)))), (.int ((rdI h4 (rf a3 0) (Int32.toNatClampNeg a2)) - (rdI h4 (rf a4 0) (Int32.toNatClampNeg a1)))), (.ref 22)]) rfl (fun hP => (by exact ⟨⟨⟨⟨⟨⟨⟨q5, ⟨(rt_6_0 q5), (vp_cst (rl_6_0 q5) hP.1)⟩⟩, q7⟩, ⟨(rt_6_0 q7), (vp_cst (rl_6_0 q7) hP.2)⟩⟩, q5⟩, ⟨(rt_6_1 q5), (vp_cst (rl_6_1 q5) hP.1)⟩⟩, q7⟩, ⟨(rt_6_1 q7), (vp_cst (rl_6_1 q7) hP.2)⟩⟩)) (pc' := 72) rfl (fun q9 => ?_)
  refine hp_cVS (M2 := M_Ma_direct) hm at0 (as := [(.int ((rdI h4 (rf a3 0) (Int32.toNatClampNeg a2)) - (rdI h4 (rf a4 0) (Int32.toNatClampNeg a1)))), (.int ((rdI h4 (rf a3 1) (Int32.toNatClampNeg a2)) - (rdI h4 (rf a4 1) (Int32.toNatClampNeg a1)))), (.int x1)]) (rest := []) (z := 22) rfl (by exact trivial) (pc' := 72) rfl 6 rfl (lw_g (lw_at lw_m6 57 rfl) rfl) y_Ma_direct rfl (d2 := 3) ⟨le_b rfl, pd_Ma_direct, le_b rfl⟩ (le_b rfl) og_22 (k_Ma_direct ((rdI h4 (rf a3 0) (Int32.toNatClampNeg a2)) - (rdI h4 (rf a4 0) (Int32.toNatClampNeg a1))) ((rdI h4 (rf a3 1) (Int32.toNatClampNeg a2)) - (rdI h4 (rf a4 1) (Int32.toNatClampNeg a1))) x1 h4) (fun _ h5 => ?_)
  refine hp_w hm (at1 7 rfl) (L' := [(5, (.ref a4)), (4, (.ref a3)), (3, (.int a2)), (2, (.int a1)), (0, (.ref 22)), (1, (.int x1))]) rfl (by exact ⟨og_22, og_22⟩) (pc' := 83) rfl (fun h6 => ?_)
  refine hp_w hm (at1 8 rfl) (L' := [(5, (.ref a4)), (4, (.ref a3)), (3, (.int a2)), (2, (.int a1)), (0, (.ref 22)), (1, (.int x1))]) rfl (by exact ⟨og_22, og_22⟩) (pc' := 91) rfl (fun h7 => ?_)
  refine hp_G hm (at1 9 rfl) (L' := [(5, (.ref a4)), (4, (.ref a3)), (3, (.int a2)), (2, (.int a1)), (0, (.ref 22)), (1, (.int x1))]) (st' := [(.int x1), (.int ((rdI h7 (rf a3 3) (Int32.toNatClampNeg a2)) - (rdI h7 (rf a4 3) (Int32.toNatClampNeg a1)))), (.int ((rdI h7 (rf a3 2) (Int32.toNatClampNeg a2)) - (rdI h7 (rf a4 2) (Int32.toNatClampNeg a1)))), (.ref 22)]) rfl (fun hP => (by exact ⟨⟨⟨⟨⟨⟨⟨q5, ⟨(rt_6_2 q5), (vp_cst (rl_6_2 q5) hP.1)⟩⟩, q7⟩, ⟨(rt_6_2 q7), (vp_cst (rl_6_2 q7) hP.2)⟩⟩, q5⟩, ⟨(rt_6_3 q5), (vp_cst (rl_6_3 q5) hP.1)⟩⟩, q7⟩, ⟨(rt_6_3 q7), (vp_cst (rl_6_3 q7) hP.2)⟩⟩)) (pc' := 123) rfl (fun q10 => ?_)
  refine hp_cVS (M2 := M_Ma_direct) hm at0 (as := [(.int ((rdI h7 (rf a3 2) (Int32.toNatClampNeg a2)) - (rdI h7 (rf a4 2) (Int32.toNatClampNeg a1)))), (.int ((rdI h7 (rf a3 3) (Int32.toNatClampNeg a2)) - (rdI h7 (rf a4 3) (Int32.toNatClampNeg a1)))), (.int x1)]) (rest := []) (z := 22) rfl (by exact trivial) (pc' := 123) rfl 7 rfl (lw_g (lw_at lw_m6 57 rfl) rfl) y_Ma_direct rfl (d2 := 3) ⟨le_b rfl, pd_Ma_direct, le_b rfl⟩ (le_b rfl) og_22 (k_Ma_direct ((rdI h7 (rf a3 2) (Int32.toNatClampNeg a2)) - (rdI h7 (rf a4 2) (Int32.toNatClampNeg a1))) ((rdI h7 (rf a3 3) (Int32.toNatClampNeg a2)) - (rdI h7 (rf a4 3) (Int32.toNatClampNeg a1))) x1 h7) (fun _ h8 => ?_)
  refine hp_w hm (at1 10 rfl) (L' := [(5, (.ref a4)), (4, (.ref a3)), (3, (.int a2)), (2, (.int a1)), (0, (.ref 22)), (1, (.int x1))]) rfl (by exact ⟨og_22, og_22⟩) (pc' := 134) rfl (fun h9 => ?_)
  refine hp_w hm (at1 11 rfl) (L' := [(5, (.ref a4)), (4, (.ref a3)), (3, (.int a2)), (2, (.int a1)), (0, (.ref 22)), (1, (.int x1))]) rfl (by exact ⟨og_22, og_22⟩) (pc' := 142) rfl (fun h10 => ?_)
  exact hp_vr hm 8 rfl rfl (fun _ e => e)
/-! HintHouse$Machine.others(I)V -/
def M_Ma_others : hM := (4, ⟨"HintHouse$Machine", "others", "(I)V"⟩, prog_6_method_68_code, 7, (Option.none : Option Jvm.ClassFile.FieldType), [], [(0, [(.iload_n 1, 1, 0, 0, 0, .null)]), (72, [(.aload_n 0, 1, 0, 0, 0, .null), (.aload_n 0, 1, 0, 0, 0, .null), (.getfield 180, 3, 4, 38, 0, .null)]), (80, [(.aload_n 0, 1, 0, 0, 0, .null), (.aload_n 0, 1, 0, 0, 0, .null), (.getfield 70, 3, 4, 37, 4, .null), (.iconst 0, 1, 0, 0, 0, (.int (0 : Int32))), (.iaload, 1, 0, 0, 0, .null), (.iconst 1, 1, 0, 0, 0, (.int (1 : Int32)))]), (95, [(.iconst 0, 1, 0, 0, 0, (.int (0 : Int32)))]), (91, [(.iconst 1, 1, 0, 0, 0, (.int (1 : Int32)))]), (96, [(.iconst 5, 1, 0, 0, 0, (.int (5 : Int32)))]), (100, [(.iconst 0, 1, 0, 0, 0, (.int (0 : Int32))), (.istore_n 2, 1, 0, 0, 0, .null)]), (102, [(.iload_n 2, 1, 0, 0, 0, .null), (.aload_n 0, 1, 0, 0, 0, .null), (.getfield 180, 3, 4, 38, 0, .null)]), (110, [(.aload_n 0, 1, 0, 0, 0, .null), (.aload_n 0, 1, 0, 0, 0, .null)]), (118, [(.istore_n 3, 1, 0, 0, 0, .null), (.aload_n 0, 1, 0, 0, 0, .null), (.getfield 145, 3, 4, 3, 3, .null), (.getfield 550, 3, 9, 2, 4, .null), (.iload_n 3, 1, 0, 0, 0, .null), (.aload_n 0, 1, 0, 0, 0, .null), (.getfield 145, 3, 4, 3, 3, .null), (.getfield 550, 3, 9, 2, 4, .null), (.iload_n 3, 1, 0, 0, 0, .null), (.baload, 1, 101, 0, 0, .null)]), (143, [(.iconst 0, 1, 0, 0, 0, (.int (0 : Int32)))]), (139, [(.iconst 1, 1, 0, 0, 0, (.int (1 : Int32)))]), (144, [(.bastore, 1, 101, 0, 0, .null)]), (145, [(.iinc 2 1, 3, 0, 0, 0, (.int (1 : Int32)))]), (151, [(.aload_n 0, 1, 0, 0, 0, .null), (.iconst 1, 1, 0, 0, 0, (.int (1 : Int32))), (.putfield 180, 3, 4, 38, 0, .null)]), (235, [(.aload_n 0, 1, 0, 0, 0, .null), (.iconst 1, 1, 0, 0, 0, (.int (1 : Int32)))]), (240, [(.aload_n 0, 1, 0, 0, 0, .null), (.getfield 12, 3, 4, 1, 4, .null), (.getfield 134, 3, 5, 5, 4, .null), (.aload_n 0, 1, 0, 0, 0, .null)]), (251, [(.putfield 553, 3, 7, 7, 0, .null)]), (281, [(.aload_n 0, 1, 0, 0, 0, .null), (.iconst 1, 1, 0, 0, 0, (.int (1 : Int32)))]), (286, [(.aload_n 0, 1, 0, 0, 0, .null), (.aload_n 0, 1, 0, 0, 0, .null)]), (291, [(.iconst 1, 1, 0, 0, 0, (.int (1 : Int32))), (.iand, 1, 0, 0, 0, .null), (.iconst 1, 1, 0, 0, 0, (.int (1 : Int32)))]), (303, [(.lconst 0, 1, 0, 0, 0, (.long (0 : Int64)))]), (297, [(.ldc2_w 559, 3, 0, 0, 0, (.long (35 : Int64)))]), (310, [(.aload_n 0, 1, 0, 0, 0, .null), (.iload_n 1, 1, 0, 0, 0, .null)]), (318, [(.aload_n 0, 1, 0, 0, 0, .null), (.iconst 3, 1, 0, 0, 0, (.int (3 : Int32)))]), (323, [(.aload_n 0, 1, 0, 0, 0, .null), (.getfield 34, 3, 4, 14, 4, .null), (.aload_n 0, 1, 0, 0, 0, .null), (.getfield 170, 3, 4, 15, 0, .null), (.iconst 3, 1, 0, 0, 0, (.int (3 : Int32))), (.isub, 1, 0, 0, 0, .null), (.iaload, 1, 0, 0, 0, .null), (.istore 4, 2, 0, 0, 0, .null)]), (336, [(.aload_n 0, 1, 0, 0, 0, .null), (.getfield 34, 3, 4, 14, 4, .null), (.aload_n 0, 1, 0, 0, 0, .null), (.getfield 170, 3, 4, 15, 0, .null), (.iconst 3, 1, 0, 0, 0, (.int (3 : Int32))), (.isub, 1, 0, 0, 0, .null), (.aload_n 0, 1, 0, 0, 0, .null), (.getfield 34, 3, 4, 14, 4, .null), (.aload_n 0, 1, 0, 0, 0, .null), (.getfield 170, 3, 4, 15, 0, .null), (.iconst 2, 1, 0, 0, 0, (.int (2 : Int32))), (.isub, 1, 0, 0, 0, .null), (.iaload, 1, 0, 0, 0, .null), (.iastore, 1, 0, 0, 0, .null)]), (358, [(.aload_n 0, 1, 0, 0, 0, .null), (.getfield 34, 3, 4, 14, 4, .null), (.aload_n 0, 1, 0, 0, 0, .null), (.getfield 170, 3, 4, 15, 0, .null), (.iconst 2, 1, 0, 0, 0, (.int (2 : Int32))), (.isub, 1, 0, 0, 0, .null), (.aload_n 0, 1, 0, 0, 0, .null), (.getfield 34, 3, 4, 14, 4, .null), (.aload_n 0, 1, 0, 0, 0, .null), (.getfield 170, 3, 4, 15, 0, .null), (.iconst 1, 1, 0, 0, 0, (.int (1 : Int32))), (.isub, 1, 0, 0, 0, .null), (.iaload, 1, 0, 0, 0, .null), (.iastore, 1, 0, 0, 0, .null)]), (380, [(.aload_n 0, 1, 0, 0, 0, .null), (.getfield 34, 3, 4, 14, 4, .null), (.aload_n 0, 1, 0, 0, 0, .null), (.getfield 170, 3, 4, 15, 0, .null), (.iconst 1, 1, 0, 0, 0, (.int (1 : Int32))), (.isub, 1, 0, 0, 0, .null), (.iload 4, 2, 0, 0, 0, .null), (.iastore, 1, 0, 0, 0, .null)]), (396, [(.aload_n 0, 1, 0, 0, 0, .null), (.iconst 1, 1, 0, 0, 0, (.int (1 : Int32)))]), (401, [(.aload_n 0, 1, 0, 0, 0, .null), (.getfield 12, 3, 4, 1, 4, .null), (.getfield 134, 3, 5, 5, 4, .null), (.aload_n 0, 1, 0, 0, 0, .null)]), (412, [(.putfield 561, 3, 7, 8, 0, .null)]), (257, [(.aload_n 0, 1, 0, 0, 0, .null), (.iconst 2, 1, 0, 0, 0, (.int (2 : Int32)))]), (262, [(.aload_n 0, 1, 0, 0, 0, .null), (.iload_n 1, 1, 0, 0, 0, .null), (.sipush 135, 3, 0, 0, 0, (.int (135 : Int32)))]), (274, [(.iconst 0, 1, 0, 0, 0, (.int (0 : Int32)))]), (270, [(.iconst 1, 1, 0, 0, 0, (.int (1 : Int32)))]), (418, [(.aload_n 0, 1, 0, 0, 0, .null), (.iload_n 1, 1, 0, 0, 0, .null)]), (159, [(.aload_n 0, 1, 0, 0, 0, .null), (.iconst 2, 1, 0, 0, 0, (.int (2 : Int32)))]), (164, [(.aload_n 0, 1, 0, 0, 0, .null)]), (168, [(.istore_n 2, 1, 0, 0, 0, .null), (.aload_n 0, 1, 0, 0, 0, .null)]), (173, [(.istore_n 3, 1, 0, 0, 0, .null), (.iload_n 3, 1, 0, 0, 0, .null), (.iload_n 2, 1, 0, 0, 0, .null)]), (179, [(.aload_n 0, 1, 0, 0, 0, .null), (.iload_n 3, 1, 0, 0, 0, .null)]), (184, [(.istore 4, 2, 0, 0, 0, .null), (.aload_n 0, 1, 0, 0, 0, .null), (.iload_n 2, 1, 0, 0, 0, .null)]), (191, [(.istore 5, 2, 0, 0, 0, .null), (.iload 4, 2, 0, 0, 0, .null), (.istore 6, 2, 0, 0, 0, .null)]), (197, [(.iload 6, 2, 0, 0, 0, .null), (.iload 5, 2, 0, 0, 0, .null)]), (204, [(.aload_n 0, 1, 0, 0, 0, .null), (.getfield 145, 3, 4, 3, 3, .null), (.getfield 550, 3, 9, 2, 4, .null), (.iload 6, 2, 0, 0, 0, .null), (.iload_n 1, 1, 0, 0, 0, .null), (.sipush 129, 3, 0, 0, 0, (.int (129 : Int32)))]), (224, [(.iconst 0, 1, 0, 0, 0, (.int (0 : Int32)))]), (220, [(.iconst 1, 1, 0, 0, 0, (.int (1 : Int32)))]), (225, [(.bastore, 1, 101, 0, 0, .null)]), (226, [(.iinc 6 1, 3, 0, 0, 0, (.int (1 : Int32)))])], [(1, .tableswitch 417 128 141 #[71, 158, 158, 417, 417, 234, 256, 256, 280, 309, 317, 417, 417, 395], 71), (77, .invokevirtual 334, 3), (92, .goto 4, 3), (88, .if_icmp .ne 7, 3), (97, .invokevirtual 187, 3), (112, .invokevirtual 337, 3), (115, .invokevirtual 547, 3), (140, .goto 4, 3), (136, .ifCond .ne 7, 3), (148, .goto (-46), 3), (107, .if_icmp .ge 44, 3), (423, .return_, 1), (156, .goto 267, 3), (237, .invokevirtual 334, 3), (248, .invokevirtual 337, 3), (254, .goto 169, 3), (283, .invokevirtual 334, 3), (288, .invokevirtual 337, 3), (300, .goto 4, 3), (294, .if_icmp .ne 9, 3), (304, .invokevirtual 242, 3), (307, .goto 116, 3), (312, .invokevirtual 416, 3), (315, .goto 108, 3), (320, .invokevirtual 334, 3), (393, .goto 30, 3), (398, .invokevirtual 334, 3), (409, .invokevirtual 337, 3), (415, .goto 8, 3), (259, .invokevirtual 334, 3), (271, .goto 4, 3), (267, .if_icmp .ne 7, 3), (275, .invokevirtual 556, 3), (278, .goto 145, 3), (420, .invokevirtual 383, 3), (161, .invokevirtual 334, 3), (165, .invokevirtual 337, 3), (170, .invokevirtual 337, 3), (181, .invokevirtual 547, 3), (188, .invokevirtual 547, 3), (221, .goto 4, 3), (217, .if_icmp .ne 7, 3), (229, .goto (-32), 3), (201, .if_icmp .gt 31, 3), (232, .goto 191, 3), (176, .if_icmp .gt 247, 3)])
set_option maxRecDepth 100000 in
theorem m_Ma_others : hx_mok M_Ma_others = true := by decide +kernel
theorem pd_Ma_others : (parseMethodDescriptor M_Ma_others.2.1.desc).map (fun q => q.parameters.length) = some 1 := by decide +kernel
theorem y_Ma_others : hx_okV M_Ma_others := ⟨⟨lw_g (lw_at lw_m6 238 rfl) rfl, lw_g (lw_at lw_m6 237 rfl) rfl, qs99, lw_g (lw_at lw_m1 5 rfl) rfl, rfl, by decide, by decide, by decide⟩, rfl, by decide, plainFor_of_name (by decide)⟩
noncomputable def f_Ma_others (x1 : Int32) (h : hH) : Option (hH ⊕ (Unit × hH)) :=
  bET (P := Unit) (X := (Unit × hH)) (
    bET (P := Unit) (X := (Unit ⊕ (Unit × hH))) (
      bET (P := Unit) (X := (Unit ⊕ (Unit ⊕ (Unit × hH)))) (
        if x1 = (128 : Int32) then (
          bT (f_Ma_need (rdI h 22 38) h) fun _ h1 =>
          lz (A := Int32) (if (rdI h1 55 0) = (1 : Int32) then (1 : Int32) else (0 : Int32)) fun p4 =>
          bT (f_Ma_want p4 (5 : Int32) h1) fun _ h2 =>
          bJT (P := hH) (
            whT (A := (Int32 × hH)) (B := hH) (fun p6 =>
                if (rdI p6.2 22 38) ≤ p6.1 then (
                  some (.inr (.inr p6.2))
                ) else (
                  bS (f_Ma_pop p6.2) fun a8 h3 =>
                  bT (f_Ma_onPoint a8 h3) fun a9 h4 =>
                  gd (isA 9 (rdP h4 22 3) ∧ vp_in a9 100) <|
                  lz (A := Int32) (if (rdI h4 (rf (rdP h4 22 3) 2) (Int32.toNatClampNeg a9)) = 0 then (1 : Int32) else (0 : Int32)) fun p11 =>
                  gd (vp_in a9 100) <|
                  lz (wrI h4 (rf (rdP h4 22 3) 2) (Int32.toNatClampNeg a9) (p11 &&& 1)) fun h5 =>
                  lz (A := Int32) (p6.1 + (1 : Int32)) fun v14 =>
                  some (.inr (.inl (v14, h5)))
                )
            ) ((0 : Int32), h2)
          ) fun p7 =>
          lz (wrI p7 22 38 (1 : Int32)) fun h6 =>
          some (.inr (.inr (.inr (.inr ((), h6)))))
        ) else (
          if x1 = (129 : Int32) ∨ x1 = (130 : Int32) then (
            some (.inr (.inr (.inr (.inl ()))))
          ) else (
            if x1 = (133 : Int32) then (
              bT (f_Ma_need (1 : Int32) h) fun _ h7 =>
              bS (f_Ma_pop h7) fun a18 h8 =>
              lz (wrI h8 33 7 a18) fun h9 =>
              some (.inr (.inr (.inr (.inr ((), h9)))))
            ) else (
              if x1 = (134 : Int32) ∨ x1 = (135 : Int32) then (
                some (.inr (.inl ()))
              ) else (
                if x1 = (136 : Int32) then (
                  bT (f_Ma_need (1 : Int32) h) fun _ h10 =>
                  bS (f_Ma_pop h10) fun a21 h11 =>
                  lz (A := Int64) (if (a21 &&& (1 : Int32)) = (1 : Int32) then (35 : Int64) else (0 : Int64)) fun p22 =>
                  bT (f_Ma_push p22 h11) fun _ h12 =>
                  some (.inr (.inr (.inr (.inr ((), h12)))))
                ) else (
                  if x1 = (137 : Int32) then (
                    bT (f_Ma_define x1 h) fun _ h13 =>
                    some (.inr (.inr (.inr (.inr ((), h13)))))
                  ) else (
                    if x1 = (138 : Int32) then (
                      bT (f_Ma_need (3 : Int32) h) fun _ h14 =>
                      gd (vp_in ((rdI h14 22 15) - (3 : Int32)) 256) <|
                      lz (A := Int32) (rdI h14 43 (Int32.toNatClampNeg ((rdI h14 22 15) - (3 : Int32)))) fun v26 =>
                      gd (vp_in ((rdI h14 22 15) - (2 : Int32)) 256 ∧ vp_in ((rdI h14 22 15) - (3 : Int32)) 256) <|
                      lz (wrI h14 43 (Int32.toNatClampNeg ((rdI h14 22 15) - (3 : Int32))) (rdI h14 43 (Int32.toNatClampNeg ((rdI h14 22 15) - (2 : Int32))))) fun h15 =>
                      gd (vp_in ((rdI h15 22 15) - (1 : Int32)) 256 ∧ vp_in ((rdI h15 22 15) - (2 : Int32)) 256) <|
                      lz (wrI h15 43 (Int32.toNatClampNeg ((rdI h15 22 15) - (2 : Int32))) (rdI h15 43 (Int32.toNatClampNeg ((rdI h15 22 15) - (1 : Int32))))) fun h16 =>
                      gd (vp_in ((rdI h16 22 15) - (1 : Int32)) 256) <|
                      lz (wrI h16 43 (Int32.toNatClampNeg ((rdI h16 22 15) - (1 : Int32))) v26) fun h17 =>
                      some (.inr (.inr (.inr (.inr ((), h17)))))
                    ) else (
                      if x1 = (141 : Int32) then (
                        bT (f_Ma_need (1 : Int32) h) fun _ h18 =>
                        bS (f_Ma_pop h18) fun a32 h19 =>
                        lz (wrI h19 33 8 a32) fun h20 =>
                        some (.inr (.inr (.inr (.inr ((), h20)))))
                      ) else (
                        some (.inr (.inr (.inl ())))
                      )
                    )
                  )
                )
              )
            )
          )
        )
      ) fun p3 =>
      bT (f_Ma_need (2 : Int32) h) fun _ h21 =>
      lz (A := Int32) (if x1 = (135 : Int32) then (1 : Int32) else (0 : Int32)) fun p34 =>
      bT (f_Ma_twoVectors p34 h21) fun _ h22 =>
      some (.inr (.inr (.inr ((), h22))))
    ) fun p2 =>
    bT (f_Ma_unknown x1 h) fun _ h23 =>
    some (.inr (.inr ((), h23)))
  ) fun p1 =>
  bT (f_Ma_need (2 : Int32) h) fun _ h24 =>
  bS (f_Ma_pop h24) fun a36 h25 =>
  bS (f_Ma_pop h25) fun a37 h26 =>
  if a36 < a37 then (
    some (.inr ((), h26))
  ) else (
    bT (f_Ma_onPoint a37 h26) fun a38 h27 =>
    bT (f_Ma_onPoint a36 h27) fun a39 h28 =>
    bJT (P := hH) (
      whT (A := (Int32 × hH)) (B := hH) (fun p40 =>
          if a39 < p40.1 then (
            some (.inr (.inr p40.2))
          ) else (
            gd (isA 9 (rdP p40.2 22 3)) <|
            lz (A := Int32) (if x1 = (129 : Int32) then (1 : Int32) else (0 : Int32)) fun p43 =>
            gd (vp_in p40.1 100) <|
            lz (wrI p40.2 (rf (rdP p40.2 22 3) 2) (Int32.toNatClampNeg p40.1) (p43 &&& 1)) fun h29 =>
            lz (A := Int32) (p40.1 + (1 : Int32)) fun v46 =>
            some (.inr (.inl (v46, h29)))
          )
      ) (a38, h28)
    ) fun p41 =>
    some (.inr ((), p41))
  )
set_option maxRecDepth 20000 in
theorem k_Ma_others (x1 : Int32) (h : hH) : hx_kT S0 M_Ma_others 11 NT [(.ref 22), (.int x1)] h (f_Ma_others x1 h) cvU := by
  have hm := m_Ma_others
  show hx_P S0 M_Ma_others 11 0 [(0, (.ref 22)), (1, (.int x1))] [] NT h (f_Ma_others x1 h) (hx_T NT (hx_Rc cvU NT))
  unfold f_Ma_others
  refine hp_ET 159 (fun (p1 : Unit) => [(0, (.ref 22)), (1, (.int x1))]) (fun (p1 : Unit) => []) (fun (p1 : Unit) => h) ?_ (fun p1 => ?_)
  · refine hp_ET 418 (fun (p2 : Unit) => [(0, (.ref 22)), (1, (.int x1))]) (fun (p2 : Unit) => []) (fun (p2 : Unit) => h) ?_ (fun p2 => ?_)
    · refine hp_ET 257 (fun (p3 : Unit) => [(0, (.ref 22)), (1, (.int x1))]) (fun (p3 : Unit) => []) (fun (p3 : Unit) => h) ?_ (fun p3 => ?_)
      · refine hp_b hm (at1 0 rfl) (L' := [(0, (.ref 22)), (1, (.int x1))]) (st' := [(.int x1)]) rfl (by exact trivial) (pc' := 1) rfl ?_
        refine hp_sw hm 0 rfl (cs := [128]) (off := 71) (by decide) (tgt := 72) rfl (sw1 _ _) ?_ (fun c16 => ?_)
        · refine hp_cVT (M2 := M_Ma_need) hm (at1 1 rfl) (as := [(.int (rdI h 22 38))]) (rest := []) (z := 22) rfl (by exact og_22) (pc' := 77) rfl 1 rfl (lw_g (lw_at lw_m5 217 rfl) rfl) y_Ma_need rfl (d2 := 7) ⟨le_b rfl, pd_Ma_need, le_b rfl⟩ (le_b rfl) og_22 rfl (k_Ma_need (rdI h 22 38) h) (fun _ h1 => ?_)
          refine hp_JZ 96 (fun (p4 : Int32) => [(0, (.ref 22))]) (fun (p4 : Int32) => [(.int p4), (.ref 22)]) (fun (p4 : Int32) => h1) ?_ (fun p4 => ?_)
          · refine hp_sv0 ?_
            refine hp_ic_ne hm (at1 2 rfl) rfl (by exact ⟨og_22, ⟨og_55, (show vp_in (0 : Int32) 3 from vp_lit (by decide))⟩⟩) (pc' := 88) rfl 3 rfl (tgt := 95) rfl (fun c5 => ?_) (fun c5 => ?_)
            · refine hp_b hm (at1 3 rfl) (L' := [(0, (.ref 22)), (1, (.int x1))]) (st' := [(.int (0 : Int32)), (.ref 22)]) rfl (by exact trivial) (pc' := 96) rfl ?_
              exact hp_lf [0] rfl (fun _ e => e)
            · refine hp_b hm (at1 4 rfl) (L' := [(0, (.ref 22)), (1, (.int x1))]) (st' := [(.int (1 : Int32)), (.ref 22)]) rfl (by exact trivial) (pc' := 92) rfl ?_
              refine hp_goto hm 2 rfl (tgt := 96) rfl ?_
              exact hp_lf [0] rfl (fun _ e => e)
          · refine hp_cVT (M2 := M_Ma_want) hm (at1 5 rfl) (as := [(.int p4), (.int (5 : Int32))]) (rest := []) (z := 22) rfl (by exact trivial) (pc' := 97) rfl 4 rfl (lw_g (lw_at lw_m5 139 rfl) rfl) y_Ma_want rfl (d2 := 6) ⟨le_b rfl, pd_Ma_want, le_b rfl⟩ (le_b rfl) og_22 rfl (k_Ma_want p4 (5 : Int32) h1) (fun _ h2 => ?_)
            refine hp_b hm (at1 6 rfl) (L' := [(2, (.int (0 : Int32))), (0, (.ref 22))]) (st' := []) rfl (by exact trivial) (pc' := 102) rfl ?_
            refine hp_JT 151 (fun (p7 : hH) => [(0, (.ref 22))]) (fun (p7 : hH) => []) (fun (p7 : hH) => p7) ?_ (fun p7 => ?_)
            · refine hp_s [1, 0] rfl (L' := [(0, (.ref 22)), (2, (.int (0 : Int32)))]) ?_
              refine hp_whT (fun (p6 : (Int32 × hH)) => [(0, (.ref 22)), (2, (.int p6.1))]) [] (fun (p6 : (Int32 × hH)) => p6.2) (fun p6 => ?_) ((0 : Int32), h2)
              refine hp_ic_ge hm (at1 7 rfl) rfl (by exact og_22) (pc' := 107) rfl 10 rfl (tgt := 151) rfl (fun c15 => ?_) (fun c15 => ?_)
              · exact hp_lf [0] rfl (fun _ e => e)
              · refine hp_cVS (M2 := M_Ma_pop) hm (at1 8 rfl) (as := []) (rest := [(.ref 22)]) (z := 22) rfl (by exact trivial) (pc' := 112) rfl 5 rfl (lw_g (lw_at lw_m5 221 rfl) rfl) y_Ma_pop rfl (d2 := 1) ⟨le_b rfl, pd_Ma_pop, le_b rfl⟩ (le_b rfl) og_22 (k_Ma_pop p6.2) (fun a8 h3 => ?_)
                refine hp_cVT (M2 := M_Ma_onPoint) hm at0 (as := [(.int a8)]) (rest := []) (z := 22) rfl (by exact trivial) (pc' := 115) rfl 6 rfl (lw_g (lw_at lw_m6 239 rfl) rfl) y_Ma_onPoint rfl (d2 := 7) ⟨le_b rfl, pd_Ma_onPoint, le_b rfl⟩ (le_b rfl) og_22 rfl (k_Ma_onPoint a8 h3) (fun a9 h4 => ?_)
                refine hp_G hm (at1 9 rfl) (L' := [(3, (.int a9)), (0, (.ref 22)), (2, (.int p6.1))]) (st' := [(.int (rdI h4 (rf (rdP h4 22 3) 2) (Int32.toNatClampNeg a9))), (.int a9), (.ref (rf (rdP h4 22 3) 2))]) rfl (fun hP => (by exact ⟨⟨⟨⟨og_22, hP.1⟩, og_22⟩, hP.1⟩, ⟨(rt_9_2 hP.1), (vp_cst (rl_9_2 hP.1) hP.2)⟩⟩)) (pc' := 136) rfl (fun q10 => ?_)
                refine hp_JZ 144 (fun (p11 : Int32) => [(0, (.ref 22)), (2, (.int p6.1))]) (fun (p11 : Int32) => [(.int p11), (.int a9), (.ref (rf (rdP h4 22 3) 2))]) (fun (p11 : Int32) => h4) ?_ (fun p11 => ?_)
                · refine hp_sv0 ?_
                  refine hp_if_ne hm at0 rfl (by exact trivial) (pc' := 136) rfl 8 rfl (tgt := 143) rfl (fun c12 => ?_) (fun c12 => ?_)
                  · refine hp_b hm (at1 10 rfl) (L' := [(3, (.int a9)), (0, (.ref 22)), (2, (.int p6.1))]) (st' := [(.int (0 : Int32)), (.int a9), (.ref (rf (rdP h4 22 3) 2))]) rfl (by exact trivial) (pc' := 144) rfl ?_
                    exact hp_lf [1, 2] rfl (fun _ e => e)
                  · refine hp_b hm (at1 11 rfl) (L' := [(3, (.int a9)), (0, (.ref 22)), (2, (.int p6.1))]) (st' := [(.int (1 : Int32)), (.int a9), (.ref (rf (rdP h4 22 3) 2))]) rfl (by exact trivial) (pc' := 140) rfl ?_
                    refine hp_goto hm 7 rfl (tgt := 144) rfl ?_
                    exact hp_lf [1, 2] rfl (fun _ e => e)
                · refine hp_GW hm (at1 12 rfl) (L' := [(0, (.ref 22)), (2, (.int p6.1))]) rfl (fun hP => (by exact ⟨(rt_9_2 q10.1), (vp_cst (rl_9_2 q10.1) hP)⟩)) (pc' := 145) rfl (fun q13 h5 => ?_)
                  refine hp_z hm (at1 13 rfl) (fun (v14 : Int32) => [(2, (.int v14)), (0, (.ref 22))]) (fun (v14 : Int32) => []) rfl (by exact trivial) (pc' := 148) rfl (fun v14 => ?_)
                  refine hp_goto hm 9 rfl (tgt := 102) rfl ?_
                  exact hp_lf [1, 0] rfl (fun _ e => e)
            · refine hp_w hm (at1 14 rfl) (L' := [(0, (.ref 22))]) rfl (by exact og_22) (pc' := 156) rfl (fun h6 => ?_)
              refine hp_goto hm 12 rfl (tgt := 423) rfl ?_
              exact hp_vr hm 11 rfl rfl (fun _ e => e)
        · refine hp_sw hm 0 rfl (cs := [129, 130]) (off := 158) (by decide) (tgt := 159) rfl (sw2 _ _ _) ?_ (fun c17 => ?_)
          · exact hp_lf [0, 1] rfl (fun _ e => e)
          · refine hp_sw hm 0 rfl (cs := [133]) (off := 234) (by decide) (tgt := 235) rfl (sw1 _ _) ?_ (fun c19 => ?_)
            · refine hp_cVT (M2 := M_Ma_need) hm (at1 15 rfl) (as := [(.int (1 : Int32))]) (rest := []) (z := 22) rfl (by exact trivial) (pc' := 237) rfl 13 rfl (lw_g (lw_at lw_m5 217 rfl) rfl) y_Ma_need rfl (d2 := 7) ⟨le_b rfl, pd_Ma_need, le_b rfl⟩ (le_b rfl) og_22 rfl (k_Ma_need (1 : Int32) h) (fun _ h7 => ?_)
              refine hp_cVS (M2 := M_Ma_pop) hm (at1 16 rfl) (as := []) (rest := [(.ref 33)]) (z := 22) rfl (by exact ⟨og_22, og_23⟩) (pc' := 248) rfl 14 rfl (lw_g (lw_at lw_m5 221 rfl) rfl) y_Ma_pop rfl (d2 := 1) ⟨le_b rfl, pd_Ma_pop, le_b rfl⟩ (le_b rfl) og_22 (k_Ma_pop h7) (fun a18 h8 => ?_)
              refine hp_w hm (at1 17 rfl) (L' := [(0, (.ref 22)), (1, (.int x1))]) rfl (by exact og_33) (pc' := 254) rfl (fun h9 => ?_)
              refine hp_goto hm 15 rfl (tgt := 423) rfl ?_
              exact hp_vr hm 11 rfl rfl (fun _ e => e)
            · refine hp_sw hm 0 rfl (cs := [134, 135]) (off := 256) (by decide) (tgt := 257) rfl (sw2 _ _ _) ?_ (fun c20 => ?_)
              · exact hp_lf [0, 1] rfl (fun _ e => e)
              · refine hp_sw hm 0 rfl (cs := [136]) (off := 280) (by decide) (tgt := 281) rfl (sw1 _ _) ?_ (fun c24 => ?_)
                · refine hp_cVT (M2 := M_Ma_need) hm (at1 18 rfl) (as := [(.int (1 : Int32))]) (rest := []) (z := 22) rfl (by exact trivial) (pc' := 283) rfl 16 rfl (lw_g (lw_at lw_m5 217 rfl) rfl) y_Ma_need rfl (d2 := 7) ⟨le_b rfl, pd_Ma_need, le_b rfl⟩ (le_b rfl) og_22 rfl (k_Ma_need (1 : Int32) h) (fun _ h10 => ?_)
                  refine hp_cVS (M2 := M_Ma_pop) hm (at1 19 rfl) (as := []) (rest := [(.ref 22)]) (z := 22) rfl (by exact trivial) (pc' := 288) rfl 17 rfl (lw_g (lw_at lw_m5 221 rfl) rfl) y_Ma_pop rfl (d2 := 1) ⟨le_b rfl, pd_Ma_pop, le_b rfl⟩ (le_b rfl) og_22 (k_Ma_pop h10) (fun a21 h11 => ?_)
                  refine hp_JZ 304 (fun (p22 : Int64) => []) (fun (p22 : Int64) => [(.long p22), (.ref 22)]) (fun (p22 : Int64) => h11) ?_ (fun p22 => ?_)
                  · refine hp_sv0 ?_
                    refine hp_ic_ne hm (at1 20 rfl) rfl (by exact trivial) (pc' := 294) rfl 19 rfl (tgt := 303) rfl (fun c23 => ?_) (fun c23 => ?_)
                    · refine hp_b hm (at1 21 rfl) (L' := [(0, (.ref 22)), (1, (.int x1))]) (st' := [(.long (0 : Int64)), (.ref 22)]) rfl (by exact trivial) (pc' := 304) rfl ?_
                      exact hp_lf [] rfl (fun _ e => e)
                    · refine hp_b hm (at1 22 rfl) (L' := [(0, (.ref 22)), (1, (.int x1))]) (st' := [(.long (35 : Int64)), (.ref 22)]) rfl (by exact trivial) (pc' := 300) rfl ?_
                      refine hp_goto hm 18 rfl (tgt := 304) rfl ?_
                      exact hp_lf [] rfl (fun _ e => e)
                  · refine hp_cVT (M2 := M_Ma_push) hm at0 (as := [(.long p22)]) (rest := []) (z := 22) rfl (by exact trivial) (pc' := 304) rfl 20 rfl (lw_g (lw_at lw_m6 42 rfl) rfl) y_Ma_push rfl (d2 := 7) ⟨le_b rfl, pd_Ma_push, le_b rfl⟩ (le_b rfl) og_22 rfl (k_Ma_push p22 h11) (fun _ h12 => ?_)
                    refine hp_goto hm 21 rfl (tgt := 423) rfl ?_
                    exact hp_vr hm 11 rfl rfl (fun _ e => e)
                · refine hp_sw hm 0 rfl (cs := [137]) (off := 309) (by decide) (tgt := 310) rfl (sw1 _ _) ?_ (fun c25 => ?_)
                  · refine hp_cVT (M2 := M_Ma_define) hm (at1 23 rfl) (as := [(.int x1)]) (rest := []) (z := 22) rfl (by exact trivial) (pc' := 312) rfl 22 rfl (lw_g (lw_at lw_m6 120 rfl) rfl) y_Ma_define rfl (d2 := 10) ⟨le_b rfl, pd_Ma_define, le_b rfl⟩ (le_b rfl) og_22 rfl (k_Ma_define x1 h) (fun _ h13 => ?_)
                    refine hp_goto hm 23 rfl (tgt := 423) rfl ?_
                    exact hp_vr hm 11 rfl rfl (fun _ e => e)
                  · refine hp_sw hm 0 rfl (cs := [138]) (off := 317) (by decide) (tgt := 318) rfl (sw1 _ _) ?_ (fun c31 => ?_)
                    · refine hp_cVT (M2 := M_Ma_need) hm (at1 24 rfl) (as := [(.int (3 : Int32))]) (rest := []) (z := 22) rfl (by exact trivial) (pc' := 320) rfl 24 rfl (lw_g (lw_at lw_m5 217 rfl) rfl) y_Ma_need rfl (d2 := 7) ⟨le_b rfl, pd_Ma_need, le_b rfl⟩ (le_b rfl) og_22 rfl (k_Ma_need (3 : Int32) h) (fun _ h14 => ?_)
                      refine hp_GZ hm (at1 25 rfl) (fun (v26 : Int32) => [(4, (.int v26)), (0, (.ref 22)), (1, (.int x1))]) (fun (v26 : Int32) => []) rfl (fun hP => (by exact ⟨⟨og_22, og_22⟩, ⟨og_43, hP⟩⟩)) (pc' := 336) rfl (fun q27 v26 => ?_)
                      refine hp_GW hm (at1 26 rfl) (L' := [(4, (.int v26)), (0, (.ref 22)), (1, (.int x1))]) rfl (fun hP => (by exact ⟨⟨⟨⟨⟨og_22, og_22⟩, og_22⟩, og_22⟩, ⟨og_43, hP.1⟩⟩, ⟨og_43, hP.2⟩⟩)) (pc' := 358) rfl (fun q28 h15 => ?_)
                      refine hp_GW hm (at1 27 rfl) (L' := [(4, (.int v26)), (0, (.ref 22)), (1, (.int x1))]) rfl (fun hP => (by exact ⟨⟨⟨⟨⟨og_22, og_22⟩, og_22⟩, og_22⟩, ⟨og_43, hP.1⟩⟩, ⟨og_43, hP.2⟩⟩)) (pc' := 380) rfl (fun q29 h16 => ?_)
                      refine hp_GW hm (at1 28 rfl) (L' := [(4, (.int v26)), (0, (.ref 22)), (1, (.int x1))]) rfl (fun hP => (by exact ⟨⟨og_22, og_22⟩, ⟨og_43, hP⟩⟩)) (pc' := 393) rfl (fun q30 h17 => ?_)
                      refine hp_goto hm 25 rfl (tgt := 423) rfl ?_
                      exact hp_vr hm 11 rfl rfl (fun _ e => e)
                    · refine hp_sw hm 0 rfl (cs := [141]) (off := 395) (by decide) (tgt := 396) rfl (sw1 _ _) ?_ (fun c33 => ?_)
                      · refine hp_cVT (M2 := M_Ma_need) hm (at1 29 rfl) (as := [(.int (1 : Int32))]) (rest := []) (z := 22) rfl (by exact trivial) (pc' := 398) rfl 26 rfl (lw_g (lw_at lw_m5 217 rfl) rfl) y_Ma_need rfl (d2 := 7) ⟨le_b rfl, pd_Ma_need, le_b rfl⟩ (le_b rfl) og_22 rfl (k_Ma_need (1 : Int32) h) (fun _ h18 => ?_)
                        refine hp_cVS (M2 := M_Ma_pop) hm (at1 30 rfl) (as := []) (rest := [(.ref 33)]) (z := 22) rfl (by exact ⟨og_22, og_23⟩) (pc' := 409) rfl 27 rfl (lw_g (lw_at lw_m5 221 rfl) rfl) y_Ma_pop rfl (d2 := 1) ⟨le_b rfl, pd_Ma_pop, le_b rfl⟩ (le_b rfl) og_22 (k_Ma_pop h18) (fun a32 h19 => ?_)
                        refine hp_w hm (at1 31 rfl) (L' := [(0, (.ref 22)), (1, (.int x1))]) rfl (by exact og_33) (pc' := 415) rfl (fun h20 => ?_)
                        refine hp_goto hm 28 rfl (tgt := 423) rfl ?_
                        exact hp_vr hm 11 rfl rfl (fun _ e => e)
                      · refine hp_sd2 hm 0 rfl (css := [[128], [129, 130], [133], [134, 135], [136], [137], [138], [141]]) (by decide) (by decide) (List.forall_mem_cons.mpr ⟨c16, (List.forall_mem_cons.mpr ⟨c17, (List.forall_mem_cons.mpr ⟨c19, (List.forall_mem_cons.mpr ⟨c20, (List.forall_mem_cons.mpr ⟨c24, (List.forall_mem_cons.mpr ⟨c25, (List.forall_mem_cons.mpr ⟨c31, (List.forall_mem_cons.mpr ⟨c33, (fun _ h => absurd h List.not_mem_nil)⟩)⟩)⟩)⟩)⟩)⟩)⟩)⟩) (tgt := 418) rfl ?_
                        exact hp_lf [0, 1] rfl (fun _ e => e)
      · refine hp_cVT (M2 := M_Ma_need) hm (at1 32 rfl) (as := [(.int (2 : Int32))]) (rest := []) (z := 22) rfl (by exact trivial) (pc' := 259) rfl 29 rfl (lw_g (lw_at lw_m5 217 rfl) rfl) y_Ma_need rfl (d2 := 7) ⟨le_b rfl, pd_Ma_need, le_b rfl⟩ (le_b rfl) og_22 rfl (k_Ma_need (2 : Int32) h) (fun _ h21 => ?_)
        refine hp_JZ 275 (fun (p34 : Int32) => []) (fun (p34 : Int32) => [(.int p34), (.ref 22)]) (fun (p34 : Int32) => h21) ?_ (fun p34 => ?_)
        · refine hp_sv0 ?_
          refine hp_ic_ne hm (at1 33 rfl) rfl (by exact trivial) (pc' := 267) rfl 31 rfl (tgt := 274) rfl (fun c35 => ?_) (fun c35 => ?_)
          · refine hp_b hm (at1 34 rfl) (L' := [(0, (.ref 22)), (1, (.int x1))]) (st' := [(.int (0 : Int32)), (.ref 22)]) rfl (by exact trivial) (pc' := 275) rfl ?_
            exact hp_lf [] rfl (fun _ e => e)
          · refine hp_b hm (at1 35 rfl) (L' := [(0, (.ref 22)), (1, (.int x1))]) (st' := [(.int (1 : Int32)), (.ref 22)]) rfl (by exact trivial) (pc' := 271) rfl ?_
            refine hp_goto hm 30 rfl (tgt := 275) rfl ?_
            exact hp_lf [] rfl (fun _ e => e)
        · refine hp_cVT (M2 := M_Ma_twoVectors) hm at0 (as := [(.int p34)]) (rest := []) (z := 22) rfl (by exact trivial) (pc' := 275) rfl 32 rfl (lw_g (lw_at lw_m7 3 rfl) rfl) y_Ma_twoVectors rfl (d2 := 8) ⟨le_b rfl, pd_Ma_twoVectors, le_b rfl⟩ (le_b rfl) og_22 rfl (k_Ma_twoVectors p34 h21) (fun _ h22 => ?_)
          refine hp_goto hm 33 rfl (tgt := 423) rfl ?_
          exact hp_vr hm 11 rfl rfl (fun _ e => e)
    · refine hp_cVT (M2 := M_Ma_unknown) hm (at1 36 rfl) (as := [(.int x1)]) (rest := []) (z := 22) rfl (by exact trivial) (pc' := 420) rfl 34 rfl (lw_g (lw_at lw_m6 71 rfl) rfl) y_Ma_unknown rfl (d2 := 8) ⟨le_b rfl, pd_Ma_unknown, le_b rfl⟩ (le_b rfl) og_22 rfl (k_Ma_unknown x1 h) (fun _ h23 => ?_)
      exact hp_vr hm 11 rfl rfl (fun _ e => e)
  · refine hp_cVT (M2 := M_Ma_need) hm (at1 37 rfl) (as := [(.int (2 : Int32))]) (rest := []) (z := 22) rfl (by exact trivial) (pc' := 161) rfl 35 rfl (lw_g (lw_at lw_m5 217 rfl) rfl) y_Ma_need rfl (d2 := 7) ⟨le_b rfl, pd_Ma_need, le_b rfl⟩ (le_b rfl) og_22 rfl (k_Ma_need (2 : Int32) h) (fun _ h24 => ?_)
    refine hp_cVS (M2 := M_Ma_pop) hm (at1 38 rfl) (as := []) (rest := []) (z := 22) rfl (by exact trivial) (pc' := 165) rfl 36 rfl (lw_g (lw_at lw_m5 221 rfl) rfl) y_Ma_pop rfl (d2 := 1) ⟨le_b rfl, pd_Ma_pop, le_b rfl⟩ (le_b rfl) og_22 (k_Ma_pop h24) (fun a36 h25 => ?_)
    refine hp_b hm (at1 39 rfl) (L' := [(2, (.int a36)), (0, (.ref 22)), (1, (.int x1))]) (st' := [(.ref 22)]) rfl (by exact trivial) (pc' := 170) rfl ?_
    refine hp_cVS (M2 := M_Ma_pop) hm at0 (as := []) (rest := []) (z := 22) rfl (by exact trivial) (pc' := 170) rfl 37 rfl (lw_g (lw_at lw_m5 221 rfl) rfl) y_Ma_pop rfl (d2 := 1) ⟨le_b rfl, pd_Ma_pop, le_b rfl⟩ (le_b rfl) og_22 (k_Ma_pop h25) (fun a37 h26 => ?_)
    refine hp_b hm (at1 40 rfl) (L' := [(3, (.int a37)), (2, (.int a36)), (0, (.ref 22)), (1, (.int x1))]) (st' := [(.int a36), (.int a37)]) rfl (by exact trivial) (pc' := 176) rfl ?_
    refine hp_ic_gt hm at0 rfl (by exact trivial) (pc' := 176) rfl 45 rfl (tgt := 423) rfl (fun c48 => ?_) (fun c48 => ?_)
    · exact hp_vr hm 11 rfl rfl (fun _ e => e)
    · refine hp_cVT (M2 := M_Ma_onPoint) hm (at1 41 rfl) (as := [(.int a37)]) (rest := []) (z := 22) rfl (by exact trivial) (pc' := 181) rfl 38 rfl (lw_g (lw_at lw_m6 239 rfl) rfl) y_Ma_onPoint rfl (d2 := 7) ⟨le_b rfl, pd_Ma_onPoint, le_b rfl⟩ (le_b rfl) og_22 rfl (k_Ma_onPoint a37 h26) (fun a38 h27 => ?_)
      refine hp_b hm (at1 42 rfl) (L' := [(4, (.int a38)), (3, (.int a37)), (2, (.int a36)), (0, (.ref 22)), (1, (.int x1))]) (st' := [(.int a36), (.ref 22)]) rfl (by exact trivial) (pc' := 188) rfl ?_
      refine hp_cVT (M2 := M_Ma_onPoint) hm at0 (as := [(.int a36)]) (rest := []) (z := 22) rfl (by exact trivial) (pc' := 188) rfl 39 rfl (lw_g (lw_at lw_m6 239 rfl) rfl) y_Ma_onPoint rfl (d2 := 7) ⟨le_b rfl, pd_Ma_onPoint, le_b rfl⟩ (le_b rfl) og_22 rfl (k_Ma_onPoint a36 h27) (fun a39 h28 => ?_)
      refine hp_b hm (at1 43 rfl) (L' := [(6, (.int a38)), (5, (.int a39)), (4, (.int a38)), (3, (.int a37)), (2, (.int a36)), (0, (.ref 22)), (1, (.int x1))]) (st' := []) rfl (by exact trivial) (pc' := 197) rfl ?_
      refine hp_JT 232 (fun (p41 : hH) => []) (fun (p41 : hH) => []) (fun (p41 : hH) => p41) ?_ (fun p41 => ?_)
      · refine hp_s [5, 6, 1, 0] rfl (L' := [(0, (.ref 22)), (1, (.int x1)), (5, (.int a39)), (6, (.int a38))]) ?_
        refine hp_whT (fun (p40 : (Int32 × hH)) => [(0, (.ref 22)), (1, (.int x1)), (5, (.int a39)), (6, (.int p40.1))]) [] (fun (p40 : (Int32 × hH)) => p40.2) (fun p40 => ?_) (a38, h28)
        refine hp_ic_gt hm (at1 44 rfl) rfl (by exact trivial) (pc' := 201) rfl 43 rfl (tgt := 232) rfl (fun c47 => ?_) (fun c47 => ?_)
        · exact hp_lf [] rfl (fun _ e => e)
        · refine hp_G hm (at1 45 rfl) (L' := [(0, (.ref 22)), (1, (.int x1)), (5, (.int a39)), (6, (.int p40.1))]) (st' := [(.int (129 : Int32)), (.int x1), (.int p40.1), (.ref (rf (rdP p40.2 22 3) 2))]) rfl (fun hP => (by exact ⟨og_22, hP⟩)) (pc' := 217) rfl (fun q42 => ?_)
          refine hp_JZ 225 (fun (p43 : Int32) => [(0, (.ref 22)), (1, (.int x1)), (5, (.int a39)), (6, (.int p40.1))]) (fun (p43 : Int32) => [(.int p43), (.int p40.1), (.ref (rf (rdP p40.2 22 3) 2))]) (fun (p43 : Int32) => p40.2) ?_ (fun p43 => ?_)
          · refine hp_sv0 ?_
            refine hp_ic_ne hm at0 rfl (by exact trivial) (pc' := 217) rfl 41 rfl (tgt := 224) rfl (fun c44 => ?_) (fun c44 => ?_)
            · refine hp_b hm (at1 46 rfl) (L' := [(0, (.ref 22)), (1, (.int x1)), (5, (.int a39)), (6, (.int p40.1))]) (st' := [(.int (0 : Int32)), (.int p40.1), (.ref (rf (rdP p40.2 22 3) 2))]) rfl (by exact trivial) (pc' := 225) rfl ?_
              exact hp_lf [0, 1, 2, 3] rfl (fun _ e => e)
            · refine hp_b hm (at1 47 rfl) (L' := [(0, (.ref 22)), (1, (.int x1)), (5, (.int a39)), (6, (.int p40.1))]) (st' := [(.int (1 : Int32)), (.int p40.1), (.ref (rf (rdP p40.2 22 3) 2))]) rfl (by exact trivial) (pc' := 221) rfl ?_
              refine hp_goto hm 40 rfl (tgt := 225) rfl ?_
              exact hp_lf [0, 1, 2, 3] rfl (fun _ e => e)
          · refine hp_GW hm (at1 48 rfl) (L' := [(0, (.ref 22)), (1, (.int x1)), (5, (.int a39)), (6, (.int p40.1))]) rfl (fun hP => (by exact ⟨(rt_9_2 q42), (vp_cst (rl_9_2 q42) hP)⟩)) (pc' := 226) rfl (fun q45 h29 => ?_)
            refine hp_z hm (at1 49 rfl) (fun (v46 : Int32) => [(6, (.int v46)), (0, (.ref 22)), (1, (.int x1)), (5, (.int a39))]) (fun (v46 : Int32) => []) rfl (by exact trivial) (pc' := 229) rfl (fun v46 => ?_)
            refine hp_goto hm 42 rfl (tgt := 197) rfl ?_
            exact hp_lf [1, 2, 3, 0] rfl (fun _ e => e)
      · refine hp_goto hm 44 rfl (tgt := 423) rfl ?_
        exact hp_vr hm 11 rfl rfl (fun _ e => e)
/-! HintHouse$Machine.upper(I)V -/
def M_Ma_upper : hM := (4, ⟨"HintHouse$Machine", "upper", "(I)V"⟩, prog_6_method_64_code, 3, (Option.none : Option Jvm.ClassFile.FieldType), [], [(0, [(.iload_n 1, 1, 0, 0, 0, .null), (.bipush 104, 2, 0, 0, 0, (.int (104 : Int32)))]), (6, [(.iload_n 1, 1, 0, 0, 0, .null), (.sipush 139, 3, 0, 0, 0, (.int (139 : Int32)))]), (13, [(.iload_n 1, 1, 0, 0, 0, .null), (.sipush 140, 3, 0, 0, 0, (.int (140 : Int32)))]), (20, [(.aload_n 0, 1, 0, 0, 0, .null), (.iload_n 1, 1, 0, 0, 0, .null)]), (28, [(.iload_n 1, 1, 0, 0, 0, .null), (.bipush 112, 2, 0, 0, 0, (.int (112 : Int32)))]), (68, [(.iload_n 1, 1, 0, 0, 0, .null), (.sipush 128, 3, 0, 0, 0, (.int (128 : Int32)))]), (83, [(.aload_n 0, 1, 0, 0, 0, .null), (.iload_n 1, 1, 0, 0, 0, .null)]), (75, [(.aload_n 0, 1, 0, 0, 0, .null), (.iload_n 1, 1, 0, 0, 0, .null)]), (34, [(.aload_n 0, 1, 0, 0, 0, .null), (.iconst 1, 1, 0, 0, 0, (.int (1 : Int32)))]), (39, [(.aload_n 0, 1, 0, 0, 0, .null)]), (43, [(.istore_n 2, 1, 0, 0, 0, .null), (.aload_n 0, 1, 0, 0, 0, .null), (.iload_n 1, 1, 0, 0, 0, .null), (.bipush 108, 2, 0, 0, 0, (.int (108 : Int32)))]), (60, [(.iload_n 2, 1, 0, 0, 0, .null), (.i2l, 1, 0, 0, 0, .null)]), (51, [(.aload_n 0, 1, 0, 0, 0, .null), (.iload_n 2, 1, 0, 0, 0, .null), (.i2l, 1, 0, 0, 0, .null)])], [(17, .if_icmp .ne 11, 3), (10, .if_icmp .eq 10, 3), (3, .if_icmp .lt 17, 3), (22, .invokevirtual 528, 3), (88, .return_, 1), (25, .goto 63, 3), (85, .invokevirtual 534, 3), (77, .invokevirtual 531, 3), (80, .goto 8, 3), (72, .if_icmp .ge 11, 3), (36, .invokevirtual 334, 3), (40, .invokevirtual 337, 3), (54, .invokevirtual 301, 3), (57, .goto 5, 3), (48, .if_icmp .ge 12, 3), (62, .invokevirtual 242, 3), (65, .goto 23, 3), (31, .if_icmp .ge 37, 3)])
set_option maxRecDepth 100000 in
theorem m_Ma_upper : hx_mok M_Ma_upper = true := by decide +kernel
theorem pd_Ma_upper : (parseMethodDescriptor M_Ma_upper.2.1.desc).map (fun q => q.parameters.length) = some 1 := by decide +kernel
theorem y_Ma_upper : hx_okV M_Ma_upper := ⟨⟨lw_g (lw_at lw_m6 221 rfl) rfl, lw_g (lw_at lw_m6 220 rfl) rfl, qs95, lw_g (lw_at lw_m1 5 rfl) rfl, rfl, by decide, by decide, by decide⟩, rfl, by decide, plainFor_of_name (by decide)⟩
noncomputable def f_Ma_upper (x1 : Int32) (h : hH) : Option (hH ⊕ (Unit × hH)) :=
  cO (
    if x1 < (104 : Int32) then (
      some true
    ) else (
      if (x1 = (139 : Int32) ∨ x1 = (140 : Int32)) then (
        some true
      ) else (
        some false
      )
    )
  ) (
    bT (f_Ma_reckon x1 h) fun _ h1 =>
    some (.inr ((), h1))
  ) (
    if (112 : Int32) ≤ x1 then (
      if (128 : Int32) ≤ x1 then (
        bT (f_Ma_others x1 h) fun _ h2 =>
        some (.inr ((), h2))
      ) else (
        bT (f_Ma_last x1 h) fun _ h3 =>
        some (.inr ((), h3))
      )
    ) else (
      bT (f_Ma_need (1 : Int32) h) fun _ h4 =>
      bS (f_Ma_pop h4) fun a14 h5 =>
      bJT (P := Int64) (
        if (108 : Int32) ≤ x1 then (
          some (.inr (Int32.toInt64 a14))
        ) else (
          bP (f_Ma_rounded 2 (Int32.toInt64 a14) h5) fun a16 =>
          some (.inr a16)
        )
      ) fun p15 =>
      bT (f_Ma_push p15 h5) fun _ h6 =>
      some (.inr ((), h6))
    )
  )
set_option maxRecDepth 20000 in
theorem k_Ma_upper (x1 : Int32) (h : hH) : hx_kT S0 M_Ma_upper 12 NT [(.ref 22), (.int x1)] h (f_Ma_upper x1 h) cvU := by
  have hm := m_Ma_upper
  show hx_P S0 M_Ma_upper 12 0 [(0, (.ref 22)), (1, (.int x1))] [] NT h (f_Ma_upper x1 h) (hx_T NT (hx_Rc cvU NT))
  unfold f_Ma_upper
  refine hp_cO (L0 := [(0, (.ref 22)), (1, (.int x1))]) (s0 := []) 20 28 ?_ ?_ ?_
  · refine hp_ic_lt hm (at1 0 rfl) rfl (by exact trivial) (pc' := 3) rfl 2 rfl (tgt := 20) rfl (fun c6 => ?_) (fun c6 => ?_)
    · exact hp_l0 (fun _ e => e)
    · refine hp_cI (L0 := [(0, (.ref 22)), (1, (.int x1))]) (s0 := []) 20 28 ?_ (fun c5 => ?_) (fun c5 => ?_)
      · refine hp_or ?_
        refine hp_ic_eq hm (at1 1 rfl) rfl (by exact trivial) (pc' := 10) rfl 1 rfl (tgt := 20) rfl (fun c2 => ?_) (fun c2 => ?_)
        · exact hp_l0 (fun _ e => e)
        · refine hp_dec ?_
          refine hp_ic_ne hm (at1 2 rfl) rfl (by exact trivial) (pc' := 17) rfl 0 rfl (tgt := 28) rfl (fun c1 => ?_) (fun c1 => ?_)
          · exact hp_l0 (fun _ e => e)
          · exact hp_l0 (fun _ e => e)
      · exact hp_l0 (fun _ e => e)
      · exact hp_l0 (fun _ e => e)
  · refine hp_cVT (M2 := M_Ma_reckon) hm (at1 3 rfl) (as := [(.int x1)]) (rest := []) (z := 22) rfl (by exact trivial) (pc' := 22) rfl 3 rfl (lw_g (lw_at lw_m6 222 rfl) rfl) y_Ma_reckon rfl (d2 := 8) ⟨le_b rfl, pd_Ma_reckon, le_b rfl⟩ (le_b rfl) og_22 rfl (k_Ma_reckon x1 h) (fun _ h1 => ?_)
    refine hp_goto hm 5 rfl (tgt := 88) rfl ?_
    exact hp_vr hm 4 rfl rfl (fun _ e => e)
  · refine hp_ic_ge hm (at1 4 rfl) rfl (by exact trivial) (pc' := 31) rfl 17 rfl (tgt := 68) rfl (fun c18 => ?_) (fun c18 => ?_)
    · refine hp_ic_ge hm (at1 5 rfl) rfl (by exact trivial) (pc' := 72) rfl 9 rfl (tgt := 83) rfl (fun c13 => ?_) (fun c13 => ?_)
      · refine hp_cVT (M2 := M_Ma_others) hm (at1 6 rfl) (as := [(.int x1)]) (rest := []) (z := 22) rfl (by exact trivial) (pc' := 85) rfl 6 rfl (lw_g (lw_at lw_m6 235 rfl) rfl) y_Ma_others rfl (d2 := 11) ⟨le_b rfl, pd_Ma_others, le_b rfl⟩ (le_b rfl) og_22 rfl (k_Ma_others x1 h) (fun _ h2 => ?_)
        exact hp_vr hm 4 rfl rfl (fun _ e => e)
      · refine hp_cVT (M2 := M_Ma_last) hm (at1 7 rfl) (as := [(.int x1)]) (rest := []) (z := 22) rfl (by exact trivial) (pc' := 77) rfl 7 rfl (lw_g (lw_at lw_m6 227 rfl) rfl) y_Ma_last rfl (d2 := 9) ⟨le_b rfl, pd_Ma_last, le_b rfl⟩ (le_b rfl) og_22 rfl (k_Ma_last x1 h) (fun _ h3 => ?_)
        refine hp_goto hm 8 rfl (tgt := 88) rfl ?_
        exact hp_vr hm 4 rfl rfl (fun _ e => e)
    · refine hp_cVT (M2 := M_Ma_need) hm (at1 8 rfl) (as := [(.int (1 : Int32))]) (rest := []) (z := 22) rfl (by exact trivial) (pc' := 36) rfl 10 rfl (lw_g (lw_at lw_m5 217 rfl) rfl) y_Ma_need rfl (d2 := 7) ⟨le_b rfl, pd_Ma_need, le_b rfl⟩ (le_b rfl) og_22 rfl (k_Ma_need (1 : Int32) h) (fun _ h4 => ?_)
      refine hp_cVS (M2 := M_Ma_pop) hm (at1 9 rfl) (as := []) (rest := []) (z := 22) rfl (by exact trivial) (pc' := 40) rfl 11 rfl (lw_g (lw_at lw_m5 221 rfl) rfl) y_Ma_pop rfl (d2 := 1) ⟨le_b rfl, pd_Ma_pop, le_b rfl⟩ (le_b rfl) og_22 (k_Ma_pop h4) (fun a14 h5 => ?_)
      refine hp_b hm (at1 10 rfl) (L' := [(2, (.int a14)), (0, (.ref 22)), (1, (.int x1))]) (st' := [(.int (108 : Int32)), (.int x1), (.ref 22)]) rfl (by exact trivial) (pc' := 48) rfl ?_
      refine hp_JT 62 (fun (p15 : Int64) => []) (fun (p15 : Int64) => [(.long p15), (.ref 22)]) (fun (p15 : Int64) => h5) ?_ (fun p15 => ?_)
      · refine hp_ic_ge hm at0 rfl (by exact trivial) (pc' := 48) rfl 14 rfl (tgt := 60) rfl (fun c17 => ?_) (fun c17 => ?_)
        · refine hp_b hm (at1 11 rfl) (L' := [(2, (.int a14)), (0, (.ref 22)), (1, (.int x1))]) (st' := [(.long (Int32.toInt64 a14)), (.ref 22)]) rfl (by exact trivial) (pc' := 62) rfl ?_
          exact hp_lf [] rfl (fun _ e => e)
        · refine hp_cVP (M2 := M_Ma_rounded) hm (at1 12 rfl) (as := [(.long (Int32.toInt64 a14))]) (rest := [(.ref 22)]) (z := 22) rfl (by exact trivial) (pc' := 54) rfl 12 rfl (lw_g (lw_at lw_m6 12 rfl) rfl) y_Ma_rounded rfl (d2 := 5) ⟨le_b rfl, pd_Ma_rounded, le_b rfl⟩ (le_b rfl) og_22 (k_Ma_rounded 2 (Int32.toInt64 a14) h5) (fun a16 => ?_)
          refine hp_goto hm 13 rfl (tgt := 62) rfl ?_
          exact hp_lf [] rfl (fun _ e => e)
      · refine hp_cVT (M2 := M_Ma_push) hm at0 (as := [(.long p15)]) (rest := []) (z := 22) rfl (by exact trivial) (pc' := 62) rfl 15 rfl (lw_g (lw_at lw_m6 42 rfl) rfl) y_Ma_push rfl (d2 := 7) ⟨le_b rfl, pd_Ma_push, le_b rfl⟩ (le_b rfl) og_22 rfl (k_Ma_push p15 h5) (fun _ h6 => ?_)
        refine hp_goto hm 16 rfl (tgt := 88) rfl ?_
        exact hp_vr hm 4 rfl rfl (fun _ e => e)
