/-! LAYER 2b: methods (printed by gen/dec.py): Mo_tests Mo_middle Mo_ownRounding Mo_defineOwn Mo_more Mo_high Mo_perform Mo_runProgram Mo_failedNow -/
/-! HintHouseModel.tests(I)V -/
def M_Mo_tests : hM := (11, ⟨"HintHouseModel", "tests", "(I)V"⟩, prog_13_method_80_code, 4, (Option.none : Option Jvm.ClassFile.FieldType), [], [(0, [(.iload_n 1, 1, 0, 0, 0, .null)]), (308, [(.aload_n 0, 1, 0, 0, 0, .null), (.iconst 1, 1, 0, 0, 0, (.int (1 : Int32)))]), (316, [(.aload_n 0, 1, 0, 0, 0, .null)]), (323, [(.aload_n 0, 1, 0, 0, 0, .null), (.aload_n 0, 1, 0, 0, 0, .null), (.aload_n 0, 1, 0, 0, 0, .null), (.getfield 496, 3, 11, 93, 0, .null), (.bipush 27, 2, 0, 0, 0, (.int (27 : Int32))), (.bipush 89, 2, 0, 0, 0, (.int (89 : Int32))), (.iconst 1, 1, 0, 0, 0, (.int (1 : Int32)))]), (337, [(.putfield 496, 3, 11, 93, 0, .null)]), (342, [(.aload_n 0, 1, 0, 0, 0, .null), (.iconst 1, 1, 0, 0, 0, (.int (1 : Int32)))]), (350, [(.aload_n 0, 1, 0, 0, 0, .null), (.aload_n 0, 1, 0, 0, 0, .null)]), (362, [(.iconst 0, 1, 0, 0, 0, (.int (0 : Int32)))]), (358, [(.iconst 1, 1, 0, 0, 0, (.int (1 : Int32)))]), (366, [(.i2l, 1, 0, 0, 0, .null)]), (371, [(.aload_n 0, 1, 0, 0, 0, .null), (.iconst 0, 1, 0, 0, 0, (.int (0 : Int32))), (.iconst 1, 1, 0, 0, 0, (.int (1 : Int32)))]), (378, [(.aload_n 0, 1, 0, 0, 0, .null), (.aload_n 0, 1, 0, 0, 0, .null), (.iconst 1, 1, 0, 0, 0, (.int (1 : Int32)))]), (394, [(.iconst 0, 1, 0, 0, 0, (.int (0 : Int32)))]), (387, [(.aload_n 0, 1, 0, 0, 0, .null)]), (395, [(.putfield 700, 3, 11, 85, 0, .null)]), (399, [(.aload_n 0, 1, 0, 0, 0, .null), (.iconst 1, 1, 0, 0, 0, (.int (1 : Int32)))]), (407, [(.aload_n 0, 1, 0, 0, 0, .null)]), (411, [(.istore_n 2, 1, 0, 0, 0, .null), (.iload_n 2, 1, 0, 0, 0, .null), (.i2l, 1, 0, 0, 0, .null), (.lconst 0, 1, 0, 0, 0, (.long (0 : Int64))), (.ldc2_w 382, 3, 0, 0, 0, (.long (6 : Int64)))]), (424, [(.aload_n 0, 1, 0, 0, 0, .null), (.bipush 11, 2, 0, 0, 0, (.int (11 : Int32)))]), (430, [(.aload_n 0, 1, 0, 0, 0, .null), (.iload_n 2, 1, 0, 0, 0, .null), (.putfield 703, 3, 11, 86, 0, .null)]), (436, [(.aload_n 0, 1, 0, 0, 0, .null), (.iload_n 1, 1, 0, 0, 0, .null)]), (256, [(.aload_n 0, 1, 0, 0, 0, .null), (.iconst 1, 1, 0, 0, 0, (.int (1 : Int32)))]), (264, [(.aload_n 0, 1, 0, 0, 0, .null), (.aload_n 0, 1, 0, 0, 0, .null), (.aload_n 0, 1, 0, 0, 0, .null)]), (270, [(.i2l, 1, 0, 0, 0, .null)]), (274, [(.ldc2_w 694, 3, 0, 0, 0, (.long (127 : Int64))), (.land, 1, 0, 0, 0, .null), (.iload_n 1, 1, 0, 0, 0, .null), (.bipush 86, 2, 0, 0, 0, (.int (86 : Int32)))]), (290, [(.lconst 0, 1, 0, 0, 0, (.long (0 : Int64)))]), (284, [(.ldc2_w 338, 3, 0, 0, 0, (.long (64 : Int64)))]), (291, [(.lcmp, 1, 0, 0, 0, .null)]), (299, [(.iconst 0, 1, 0, 0, 0, (.int (0 : Int32)))]), (295, [(.iconst 1, 1, 0, 0, 0, (.int (1 : Int32)))]), (303, [(.i2l, 1, 0, 0, 0, .null)]), (80, [(.aload_n 0, 1, 0, 0, 0, .null), (.iconst 2, 1, 0, 0, 0, (.int (2 : Int32)))]), (88, [(.aload_n 0, 1, 0, 0, 0, .null)]), (92, [(.istore_n 2, 1, 0, 0, 0, .null), (.aload_n 0, 1, 0, 0, 0, .null)]), (97, [(.istore_n 3, 1, 0, 0, 0, .null), (.aload_n 0, 1, 0, 0, 0, .null), (.iload_n 1, 1, 0, 0, 0, .null), (.bipush 80, 2, 0, 0, 0, (.int (80 : Int32)))]), (118, [(.iload_n 1, 1, 0, 0, 0, .null), (.bipush 81, 2, 0, 0, 0, (.int (81 : Int32)))]), (137, [(.iload_n 1, 1, 0, 0, 0, .null), (.bipush 82, 2, 0, 0, 0, (.int (82 : Int32)))]), (156, [(.iload_n 1, 1, 0, 0, 0, .null), (.bipush 83, 2, 0, 0, 0, (.int (83 : Int32)))]), (175, [(.iload_n 1, 1, 0, 0, 0, .null), (.bipush 84, 2, 0, 0, 0, (.int (84 : Int32)))]), (194, [(.iload_n 1, 1, 0, 0, 0, .null), (.bipush 85, 2, 0, 0, 0, (.int (85 : Int32)))]), (213, [(.iload_n 1, 1, 0, 0, 0, .null), (.bipush 90, 2, 0, 0, 0, (.int (90 : Int32)))]), (235, [(.iload_n 3, 1, 0, 0, 0, .null)]), (243, [(.iconst 1, 1, 0, 0, 0, (.int (1 : Int32)))]), (239, [(.iload_n 2, 1, 0, 0, 0, .null)]), (247, [(.iconst 0, 1, 0, 0, 0, (.int (0 : Int32)))]), (219, [(.iload_n 3, 1, 0, 0, 0, .null)]), (231, [(.iconst 0, 1, 0, 0, 0, (.int (0 : Int32)))]), (223, [(.iload_n 2, 1, 0, 0, 0, .null)]), (227, [(.iconst 1, 1, 0, 0, 0, (.int (1 : Int32)))]), (200, [(.iload_n 3, 1, 0, 0, 0, .null), (.iload_n 2, 1, 0, 0, 0, .null)]), (209, [(.iconst 0, 1, 0, 0, 0, (.int (0 : Int32)))]), (205, [(.iconst 1, 1, 0, 0, 0, (.int (1 : Int32)))]), (181, [(.iload_n 3, 1, 0, 0, 0, .null), (.iload_n 2, 1, 0, 0, 0, .null)]), (190, [(.iconst 0, 1, 0, 0, 0, (.int (0 : Int32)))]), (186, [(.iconst 1, 1, 0, 0, 0, (.int (1 : Int32)))]), (162, [(.iload_n 3, 1, 0, 0, 0, .null), (.iload_n 2, 1, 0, 0, 0, .null)]), (171, [(.iconst 0, 1, 0, 0, 0, (.int (0 : Int32)))]), (167, [(.iconst 1, 1, 0, 0, 0, (.int (1 : Int32)))]), (143, [(.iload_n 3, 1, 0, 0, 0, .null), (.iload_n 2, 1, 0, 0, 0, .null)]), (152, [(.iconst 0, 1, 0, 0, 0, (.int (0 : Int32)))]), (148, [(.iconst 1, 1, 0, 0, 0, (.int (1 : Int32)))]), (124, [(.iload_n 3, 1, 0, 0, 0, .null), (.iload_n 2, 1, 0, 0, 0, .null)]), (133, [(.iconst 0, 1, 0, 0, 0, (.int (0 : Int32)))]), (129, [(.iconst 1, 1, 0, 0, 0, (.int (1 : Int32)))]), (105, [(.iload_n 3, 1, 0, 0, 0, .null), (.iload_n 2, 1, 0, 0, 0, .null)]), (114, [(.iconst 0, 1, 0, 0, 0, (.int (0 : Int32)))]), (110, [(.iconst 1, 1, 0, 0, 0, (.int (1 : Int32)))]), (251, [(.i2l, 1, 0, 0, 0, .null)])], [(1, .tableswitch 435 80 95 #[79, 79, 79, 79, 79, 79, 255, 255, 307, 340, 79, 79, 341, 370, 377, 398], 79), (310, .invokevirtual 576, 3), (340, .return_, 1), (317, .invokevirtual 579, 3), (334, .invokevirtual 598, 3), (320, .ifCond .ne 20, 3), (313, .ifCond .eq 27, 3), (341, .return_, 1), (344, .invokevirtual 576, 3), (370, .return_, 1), (352, .invokevirtual 579, 3), (359, .goto 4, 3), (355, .ifCond .ne 7, 3), (363, .invokestatic 690, 3), (367, .invokevirtual 564, 3), (347, .ifCond .eq 23, 3), (374, .invokevirtual 696, 3), (377, .return_, 1), (381, .invokevirtual 576, 3), (388, .invokevirtual 579, 3), (391, .goto 4, 3), (384, .ifCond .eq 10, 3), (398, .return_, 1), (401, .invokevirtual 576, 3), (435, .return_, 1), (408, .invokevirtual 579, 3), (418, .invokestatic 263, 3), (427, .invokevirtual 421, 3), (421, .ifCond .ne 9, 3), (404, .ifCond .eq 31, 3), (438, .invokevirtual 650, 3), (441, .return_, 1), (258, .invokevirtual 576, 3), (307, .return_, 1), (267, .invokevirtual 579, 3), (271, .invokevirtual 647, 3), (287, .goto 4, 3), (281, .if_icmp .ne 9, 3), (296, .goto 4, 3), (292, .ifCond .ne 7, 3), (300, .invokestatic 690, 3), (304, .invokevirtual 564, 3), (261, .ifCond .eq 46, 3), (82, .invokevirtual 576, 3), (255, .return_, 1), (89, .invokevirtual 579, 3), (94, .invokevirtual 579, 3), (244, .goto 4, 3), (240, .ifCond .eq 7, 3), (236, .ifCond .ne 7, 3), (232, .goto 16, 3), (228, .goto 20, 3), (224, .ifCond .eq 7, 3), (220, .ifCond .eq 11, 3), (216, .if_icmp .ne 19, 3), (210, .goto 38, 3), (206, .goto 42, 3), (202, .if_icmp .eq 7, 3), (197, .if_icmp .ne 16, 3), (191, .goto 57, 3), (187, .goto 61, 3), (183, .if_icmp .ne 7, 3), (178, .if_icmp .ne 16, 3), (172, .goto 76, 3), (168, .goto 80, 3), (164, .if_icmp .lt 7, 3), (159, .if_icmp .ne 16, 3), (153, .goto 95, 3), (149, .goto 99, 3), (145, .if_icmp .le 7, 3), (140, .if_icmp .ne 16, 3), (134, .goto 114, 3), (130, .goto 118, 3), (126, .if_icmp .gt 7, 3), (121, .if_icmp .ne 16, 3), (115, .goto 133, 3), (111, .goto 137, 3), (107, .if_icmp .ge 7, 3), (102, .if_icmp .ne 16, 3), (248, .invokestatic 690, 3), (252, .invokevirtual 564, 3), (85, .ifCond .eq 170, 3)])
set_option maxRecDepth 100000 in
theorem m_Mo_tests : hx_mok M_Mo_tests = true := by decide +kernel
theorem pd_Mo_tests : (parseMethodDescriptor M_Mo_tests.2.1.desc).map (fun q => q.parameters.length) = some 1 := by decide +kernel
theorem y_Mo_tests : hx_okV M_Mo_tests := ⟨⟨lw_g (lw_at lw_m10 194 rfl) rfl, lw_g (lw_at lw_m10 193 rfl) rfl, qs175, lw_g (lw_at lw_m1 12 rfl) rfl, rfl, by decide, by decide, by decide⟩, rfl, by decide, plainFor_of_name (by decide)⟩
noncomputable def f_Mo_tests (x1 : Int32) (h : hH) : Option (Unit × hH) :=
  bE (P := Unit) (X := (Unit × hH)) (
    bE (P := Unit) (X := (Unit ⊕ (Unit × hH))) (
      if x1 = (80 : Int32) ∨ x1 = (81 : Int32) ∨ x1 = (82 : Int32) ∨ x1 = (83 : Int32) ∨ x1 = (84 : Int32) ∨ x1 = (85 : Int32) ∨ x1 = (90 : Int32) ∨ x1 = (91 : Int32) then (
        some (.inr (.inl ()))
      ) else (
        if x1 = (86 : Int32) ∨ x1 = (87 : Int32) then (
          some (.inl ())
        ) else (
          if x1 = (88 : Int32) then (
            bS (f_Mo_has (1 : Int32) h) fun a5 h1 =>
            if a5 = 0 then (
              some (.inr (.inr ((), h1)))
            ) else (
              bS (f_Mo_pop h1) fun a6 h2 =>
              if a6 = 0 then (
                bS (f_Mo_pass (rdI h2 192 93) (27 : Int32) (89 : Int32) (1 : Int32) h2) fun a7 h3 =>
                lz (wrI h3 192 93 a7) fun h4 =>
                some (.inr (.inr ((), h4)))
              ) else (
                some (.inr (.inr ((), h2)))
              )
            )
          ) else (
            if x1 = (89 : Int32) then (
              some (.inr (.inr ((), h)))
            ) else (
              if x1 = (92 : Int32) then (
                bS (f_Mo_has (1 : Int32) h) fun a12 h5 =>
                if a12 = 0 then (
                  some (.inr (.inr ((), h5)))
                ) else (
                  bS (f_Mo_pop h5) fun a13 h6 =>
                  lz (A := Int32) (if a13 = 0 then (1 : Int32) else (0 : Int32)) fun p14 =>
                  bP (f_Mo_one p14) fun a16 =>
                  bS (f_Mo_push (Int32.toInt64 a16) h6) fun _ h7 =>
                  some (.inr (.inr ((), h7)))
                )
              ) else (
                if x1 = (93 : Int32) then (
                  bS (f_Mo_deltas (0 : Int32) (1 : Int32) h) fun _ h8 =>
                  some (.inr (.inr ((), h8)))
                ) else (
                  if x1 = (94 : Int32) then (
                    bS (f_Mo_has (1 : Int32) h) fun a20 h9 =>
                    bP (A := (Int32 × hH)) (
                      if a20 = 0 then (
                        some ((0 : Int32), h9)
                      ) else (
                        bS (f_Mo_pop h9) fun a22 h10 =>
                        some (a22, h10)
                      )
                    ) fun p21 =>
                    lz (wrI p21.2 192 85 p21.1) fun h11 =>
                    some (.inr (.inr ((), h11)))
                  ) else (
                    if x1 = (95 : Int32) then (
                      bS (f_Mo_has (1 : Int32) h) fun a25 h12 =>
                      if a25 = 0 then (
                        some (.inr (.inr ((), h12)))
                      ) else (
                        bS (f_Mo_pop h12) fun a26 h13 =>
                        bP (f_Mo_in (Int32.toInt64 a26) (0 : Int64) (6 : Int64)) fun a27 =>
                        bP (A := hH) (
                          if a27 = 0 then (
                            bS (f_Mo_fail (11 : Int32) h13) fun _ h14 =>
                            some h14
                          ) else (
                            some h13
                          )
                        ) fun p28 =>
                        lz (wrI p28 192 86 a26) fun h15 =>
                        some (.inr (.inr ((), h15)))
                      )
                    ) else (
                      bS (f_Mo_unknown x1 h) fun _ h16 =>
                      some (.inr (.inr ((), h16)))
                    )
                  )
                )
              )
            )
          )
        )
      )
    ) fun p2 =>
    bS (f_Mo_has (1 : Int32) h) fun a32 h17 =>
    if a32 = 0 then (
      some (.inr ((), h17))
    ) else (
      bS (f_Mo_pop h17) fun a33 h18 =>
      bP (f_Mo_rounded (Int32.toInt64 a33) h18) fun a34 =>
      lz (A := Int64) (if x1 = (86 : Int32) then (64 : Int64) else (0 : Int64)) fun p35 =>
      lz (A := Int32) (if (a34 &&& (127 : Int64)) = p35 then (1 : Int32) else (0 : Int32)) fun p37 =>
      bP (f_Mo_one p37) fun a39 =>
      bS (f_Mo_push (Int32.toInt64 a39) h18) fun _ h19 =>
      some (.inr ((), h19))
    )
  ) fun p1 =>
  bS (f_Mo_has (2 : Int32) h) fun a41 h20 =>
  if a41 = 0 then (
    some ((), h20)
  ) else (
    bS (f_Mo_pop h20) fun a42 h21 =>
    bS (f_Mo_pop h21) fun a43 h22 =>
    lz (A := Int32) (if x1 = (80 : Int32) then (if a42 ≤ a43 then (0 : Int32) else (1 : Int32)) else (if x1 = (81 : Int32) then (if a42 < a43 then (0 : Int32) else (1 : Int32)) else (if x1 = (82 : Int32) then (if a43 ≤ a42 then (0 : Int32) else (1 : Int32)) else (if x1 = (83 : Int32) then (if a43 < a42 then (0 : Int32) else (1 : Int32)) else (if x1 = (84 : Int32) then (if a43 = a42 then (1 : Int32) else (0 : Int32)) else (if x1 = (85 : Int32) then (if a43 = a42 then (0 : Int32) else (1 : Int32)) else (if x1 = (90 : Int32) then (if a43 = 0 then (0 : Int32) else (if a42 = 0 then (0 : Int32) else (1 : Int32))) else (if a43 = 0 then (if a42 = 0 then (0 : Int32) else (1 : Int32)) else (1 : Int32))))))))) fun p44 =>
    bP (f_Mo_one p44) fun a62 =>
    bS (f_Mo_push (Int32.toInt64 a62) h22) fun _ h23 =>
    some ((), h23)
  )
set_option maxRecDepth 20000 in
theorem k_Mo_tests (x1 : Int32) (h : hH) : hx_kS S0 M_Mo_tests 7 NT [(.ref 192), (.int x1)] h (f_Mo_tests x1 h) cvU := by
  have hm := m_Mo_tests
  show hx_P S0 M_Mo_tests 7 0 [(0, (.ref 192)), (1, (.int x1))] [] NT h (f_Mo_tests x1 h) (hx_Rc cvU NT)
  unfold f_Mo_tests
  refine hp_E 80 (fun (p1 : Unit) => [(0, (.ref 192)), (1, (.int x1))]) (fun (p1 : Unit) => []) (fun (p1 : Unit) => h) ?_ (fun p1 => ?_)
  · refine hp_E 256 (fun (p2 : Unit) => [(0, (.ref 192)), (1, (.int x1))]) (fun (p2 : Unit) => []) (fun (p2 : Unit) => h) ?_ (fun p2 => ?_)
    · refine hp_b hm (at1 0 rfl) (L' := [(0, (.ref 192)), (1, (.int x1))]) (st' := [(.int x1)]) rfl (by exact trivial) (pc' := 1) rfl ?_
      refine hp_sw hm 0 rfl (cs := [80, 81, 82, 83, 84, 85, 90, 91]) (off := 79) (by decide) (tgt := 80) rfl (sw8 _ _ _ _ _ _ _ _ _) ?_ (fun c3 => ?_)
      · exact hp_lf [0, 1] rfl (fun _ e => e)
      · refine hp_sw hm 0 rfl (cs := [86, 87]) (off := 255) (by decide) (tgt := 256) rfl (sw2 _ _ _) ?_ (fun c4 => ?_)
        · exact hp_lf [0, 1] rfl (fun _ e => e)
        · refine hp_sw hm 0 rfl (cs := [88]) (off := 307) (by decide) (tgt := 308) rfl (sw1 _ _) ?_ (fun c10 => ?_)
          · refine hp_cVS (M2 := M_Mo_has) hm (at1 1 rfl) (as := [(.int (1 : Int32))]) (rest := []) (z := 192) rfl (by exact trivial) (pc' := 310) rfl 1 rfl (lw_g (lw_at lw_m10 20 rfl) rfl) y_Mo_has rfl (d2 := 2) ⟨le_b rfl, pd_Mo_has, le_b rfl⟩ (le_b rfl) og_192 (k_Mo_has (1 : Int32) h) (fun a5 h1 => ?_)
            refine hp_if_eq hm at0 rfl (by exact trivial) (pc' := 313) rfl 6 rfl (tgt := 340) rfl (fun c9 => ?_) (fun c9 => ?_)
            · exact hp_vr hm 2 rfl rfl (fun _ e => e)
            · refine hp_cVS (M2 := M_Mo_pop) hm (at1 2 rfl) (as := []) (rest := []) (z := 192) rfl (by exact trivial) (pc' := 317) rfl 3 rfl (lw_g (lw_at lw_m10 24 rfl) rfl) y_Mo_pop rfl (d2 := 1) ⟨le_b rfl, pd_Mo_pop, le_b rfl⟩ (le_b rfl) og_192 (k_Mo_pop h1) (fun a6 h2 => ?_)
              refine hp_if_ne hm at0 rfl (by exact trivial) (pc' := 320) rfl 5 rfl (tgt := 340) rfl (fun c8 => ?_) (fun c8 => ?_)
              · exact hp_vr hm 2 rfl rfl (fun _ e => e)
              · refine hp_cVS (M2 := M_Mo_pass) hm (at1 3 rfl) (as := [(.int (rdI h2 192 93)), (.int (27 : Int32)), (.int (89 : Int32)), (.int (1 : Int32))]) (rest := [(.ref 192)]) (z := 192) rfl (by exact og_192) (pc' := 334) rfl 4 rfl (lw_g (lw_at lw_m10 116 rfl) rfl) y_Mo_pass rfl (d2 := 4) ⟨le_b rfl, pd_Mo_pass, le_b rfl⟩ (le_b rfl) og_192 (k_Mo_pass (rdI h2 192 93) (27 : Int32) (89 : Int32) (1 : Int32) h2) (fun a7 h3 => ?_)
                refine hp_w hm (at1 4 rfl) (L' := [(0, (.ref 192)), (1, (.int x1))]) rfl (by exact og_192) (pc' := 340) rfl (fun h4 => ?_)
                exact hp_vr hm 2 rfl rfl (fun _ e => e)
          · refine hp_sw hm 0 rfl (cs := [89]) (off := 340) (by decide) (tgt := 341) rfl (sw1 _ _) ?_ (fun c11 => ?_)
            · exact hp_vr hm 7 rfl rfl (fun _ e => e)
            · refine hp_sw hm 0 rfl (cs := [92]) (off := 341) (by decide) (tgt := 342) rfl (sw1 _ _) ?_ (fun c18 => ?_)
              · refine hp_cVS (M2 := M_Mo_has) hm (at1 5 rfl) (as := [(.int (1 : Int32))]) (rest := []) (z := 192) rfl (by exact trivial) (pc' := 344) rfl 8 rfl (lw_g (lw_at lw_m10 20 rfl) rfl) y_Mo_has rfl (d2 := 2) ⟨le_b rfl, pd_Mo_has, le_b rfl⟩ (le_b rfl) og_192 (k_Mo_has (1 : Int32) h) (fun a12 h5 => ?_)
                refine hp_if_eq hm at0 rfl (by exact trivial) (pc' := 347) rfl 15 rfl (tgt := 370) rfl (fun c17 => ?_) (fun c17 => ?_)
                · exact hp_vr hm 9 rfl rfl (fun _ e => e)
                · refine hp_cVS (M2 := M_Mo_pop) hm (at1 6 rfl) (as := []) (rest := [(.ref 192)]) (z := 192) rfl (by exact trivial) (pc' := 352) rfl 10 rfl (lw_g (lw_at lw_m10 24 rfl) rfl) y_Mo_pop rfl (d2 := 1) ⟨le_b rfl, pd_Mo_pop, le_b rfl⟩ (le_b rfl) og_192 (k_Mo_pop h5) (fun a13 h6 => ?_)
                  refine hp_JZ 363 (fun (p14 : Int32) => []) (fun (p14 : Int32) => [(.int p14), (.ref 192)]) (fun (p14 : Int32) => h6) ?_ (fun p14 => ?_)
                  · refine hp_sv0 ?_
                    refine hp_if_ne hm at0 rfl (by exact trivial) (pc' := 355) rfl 12 rfl (tgt := 362) rfl (fun c15 => ?_) (fun c15 => ?_)
                    · refine hp_b hm (at1 7 rfl) (L' := [(0, (.ref 192)), (1, (.int x1))]) (st' := [(.int (0 : Int32)), (.ref 192)]) rfl (by exact trivial) (pc' := 363) rfl ?_
                      exact hp_lf [] rfl (fun _ e => e)
                    · refine hp_b hm (at1 8 rfl) (L' := [(0, (.ref 192)), (1, (.int x1))]) (st' := [(.int (1 : Int32)), (.ref 192)]) rfl (by exact trivial) (pc' := 359) rfl ?_
                      refine hp_goto hm 11 rfl (tgt := 363) rfl ?_
                      exact hp_lf [] rfl (fun _ e => e)
                  · refine hp_cSP (M2 := M_Mo_one) hm at0 (as := [(.int p14)]) (rest := [(.ref 192)]) rfl (by exact trivial) (pc' := 363) rfl 13 rfl (lw_g (lw_at lw_m10 195 rfl) rfl) y_Mo_one rfl (d2 := 1) ⟨le_b rfl, pd_Mo_one, le_b rfl⟩ (le_b rfl) (k_Mo_one p14 h6) (fun a16 => ?_)
                    refine hp_cVS (M2 := M_Mo_push) hm (at1 9 rfl) (as := [(.long (Int32.toInt64 a16))]) (rest := []) (z := 192) rfl (by exact trivial) (pc' := 367) rfl 14 rfl (lw_g (lw_at lw_m10 86 rfl) rfl) y_Mo_push rfl (d2 := 2) ⟨le_b rfl, pd_Mo_push, le_b rfl⟩ (le_b rfl) og_192 (k_Mo_push (Int32.toInt64 a16) h6) (fun _ h7 => ?_)
                    exact hp_vr hm 9 rfl rfl (fun _ e => e)
              · refine hp_sw hm 0 rfl (cs := [93]) (off := 370) (by decide) (tgt := 371) rfl (sw1 _ _) ?_ (fun c19 => ?_)
                · refine hp_cVS (M2 := M_Mo_deltas) hm (at1 10 rfl) (as := [(.int (0 : Int32)), (.int (1 : Int32))]) (rest := []) (z := 192) rfl (by exact trivial) (pc' := 374) rfl 16 rfl (lw_g (lw_at lw_m10 199 rfl) rfl) y_Mo_deltas rfl (d2 := 6) ⟨le_b rfl, pd_Mo_deltas, le_b rfl⟩ (le_b rfl) og_192 (k_Mo_deltas (0 : Int32) (1 : Int32) h) (fun _ h8 => ?_)
                  exact hp_vr hm 17 rfl rfl (fun _ e => e)
                · refine hp_sw hm 0 rfl (cs := [94]) (off := 377) (by decide) (tgt := 378) rfl (sw1 _ _) ?_ (fun c24 => ?_)
                  · refine hp_cVS (M2 := M_Mo_has) hm (at1 11 rfl) (as := [(.int (1 : Int32))]) (rest := [(.ref 192)]) (z := 192) rfl (by exact trivial) (pc' := 381) rfl 18 rfl (lw_g (lw_at lw_m10 20 rfl) rfl) y_Mo_has rfl (d2 := 2) ⟨le_b rfl, pd_Mo_has, le_b rfl⟩ (le_b rfl) og_192 (k_Mo_has (1 : Int32) h) (fun a20 h9 => ?_)
                    refine hp_J 395 (fun (p21 : (Int32 × hH)) => []) (fun (p21 : (Int32 × hH)) => [(.int p21.1), (.ref 192)]) (fun (p21 : (Int32 × hH)) => p21.2) ?_ (fun p21 => ?_)
                    · refine hp_if_eq hm at0 rfl (by exact trivial) (pc' := 384) rfl 21 rfl (tgt := 394) rfl (fun c23 => ?_) (fun c23 => ?_)
                      · refine hp_b hm (at1 12 rfl) (L' := [(0, (.ref 192)), (1, (.int x1))]) (st' := [(.int (0 : Int32)), (.ref 192)]) rfl (by exact trivial) (pc' := 395) rfl ?_
                        exact hp_lf [] rfl (fun _ e => e)
                      · refine hp_cVS (M2 := M_Mo_pop) hm (at1 13 rfl) (as := []) (rest := [(.ref 192)]) (z := 192) rfl (by exact trivial) (pc' := 388) rfl 19 rfl (lw_g (lw_at lw_m10 24 rfl) rfl) y_Mo_pop rfl (d2 := 1) ⟨le_b rfl, pd_Mo_pop, le_b rfl⟩ (le_b rfl) og_192 (k_Mo_pop h9) (fun a22 h10 => ?_)
                        refine hp_goto hm 20 rfl (tgt := 395) rfl ?_
                        exact hp_lf [] rfl (fun _ e => e)
                    · refine hp_w hm (at1 14 rfl) (L' := []) rfl (by exact og_192) (pc' := 398) rfl (fun h11 => ?_)
                      exact hp_vr hm 22 rfl rfl (fun _ e => e)
                  · refine hp_sw hm 0 rfl (cs := [95]) (off := 398) (by decide) (tgt := 399) rfl (sw1 _ _) ?_ (fun c31 => ?_)
                    · refine hp_cVS (M2 := M_Mo_has) hm (at1 15 rfl) (as := [(.int (1 : Int32))]) (rest := []) (z := 192) rfl (by exact trivial) (pc' := 401) rfl 23 rfl (lw_g (lw_at lw_m10 20 rfl) rfl) y_Mo_has rfl (d2 := 2) ⟨le_b rfl, pd_Mo_has, le_b rfl⟩ (le_b rfl) og_192 (k_Mo_has (1 : Int32) h) (fun a25 h12 => ?_)
                      refine hp_if_eq hm at0 rfl (by exact trivial) (pc' := 404) rfl 29 rfl (tgt := 435) rfl (fun c30 => ?_) (fun c30 => ?_)
                      · exact hp_vr hm 24 rfl rfl (fun _ e => e)
                      · refine hp_cVS (M2 := M_Mo_pop) hm (at1 16 rfl) (as := []) (rest := []) (z := 192) rfl (by exact trivial) (pc' := 408) rfl 25 rfl (lw_g (lw_at lw_m10 24 rfl) rfl) y_Mo_pop rfl (d2 := 1) ⟨le_b rfl, pd_Mo_pop, le_b rfl⟩ (le_b rfl) og_192 (k_Mo_pop h12) (fun a26 h13 => ?_)
                        refine hp_b hm (at1 17 rfl) (L' := [(2, (.int a26)), (0, (.ref 192)), (1, (.int x1))]) (st' := [(.long (6 : Int64)), (.long (0 : Int64)), (.long (Int32.toInt64 a26))]) rfl (by exact trivial) (pc' := 418) rfl ?_
                        refine hp_cSP (M2 := M_Mo_in) hm at0 (as := [(.long (Int32.toInt64 a26)), (.long (0 : Int64)), (.long (6 : Int64))]) (rest := []) rfl (by exact trivial) (pc' := 418) rfl 26 rfl (lw_g (lw_at lw_m9 184 rfl) rfl) y_Mo_in rfl (d2 := 1) ⟨le_b rfl, pd_Mo_in, le_b rfl⟩ (le_b rfl) (k_Mo_in (Int32.toInt64 a26) (0 : Int64) (6 : Int64) h13) (fun a27 => ?_)
                        refine hp_J 430 (fun (p28 : hH) => [(0, (.ref 192)), (2, (.int a26))]) (fun (p28 : hH) => []) (fun (p28 : hH) => p28) ?_ (fun p28 => ?_)
                        · refine hp_if_ne hm at0 rfl (by exact trivial) (pc' := 421) rfl 28 rfl (tgt := 430) rfl (fun c29 => ?_) (fun c29 => ?_)
                          · exact hp_lf [1, 0] rfl (fun _ e => e)
                          · refine hp_cVS (M2 := M_Mo_fail) hm (at1 18 rfl) (as := [(.int (11 : Int32))]) (rest := []) (z := 192) rfl (by exact trivial) (pc' := 427) rfl 27 rfl (lw_g (lw_at lw_m10 4 rfl) rfl) y_Mo_fail rfl (d2 := 1) ⟨le_b rfl, pd_Mo_fail, le_b rfl⟩ (le_b rfl) og_192 (k_Mo_fail (11 : Int32) h13) (fun _ h14 => ?_)
                            exact hp_lf [1, 0] rfl (fun _ e => e)
                        · refine hp_w hm (at1 19 rfl) (L' := [(0, (.ref 192)), (2, (.int a26))]) rfl (by exact og_192) (pc' := 435) rfl (fun h15 => ?_)
                          exact hp_vr hm 24 rfl rfl (fun _ e => e)
                    · refine hp_sd2 hm 0 rfl (css := [[80, 81, 82, 83, 84, 85, 90, 91], [86, 87], [88], [89], [92], [93], [94], [95]]) (by decide) (by decide) (List.forall_mem_cons.mpr ⟨c3, (List.forall_mem_cons.mpr ⟨c4, (List.forall_mem_cons.mpr ⟨c10, (List.forall_mem_cons.mpr ⟨c11, (List.forall_mem_cons.mpr ⟨c18, (List.forall_mem_cons.mpr ⟨c19, (List.forall_mem_cons.mpr ⟨c24, (List.forall_mem_cons.mpr ⟨c31, (fun _ h => absurd h List.not_mem_nil)⟩)⟩)⟩)⟩)⟩)⟩)⟩)⟩) (tgt := 436) rfl ?_
                      refine hp_cVS (M2 := M_Mo_unknown) hm (at1 20 rfl) (as := [(.int x1)]) (rest := []) (z := 192) rfl (by exact trivial) (pc' := 438) rfl 30 rfl (lw_g (lw_at lw_m10 152 rfl) rfl) y_Mo_unknown rfl (d2 := 3) ⟨le_b rfl, pd_Mo_unknown, le_b rfl⟩ (le_b rfl) og_192 (k_Mo_unknown x1 h) (fun _ h16 => ?_)
                      exact hp_vr hm 31 rfl rfl (fun _ e => e)
    · refine hp_cVS (M2 := M_Mo_has) hm (at1 21 rfl) (as := [(.int (1 : Int32))]) (rest := []) (z := 192) rfl (by exact trivial) (pc' := 258) rfl 32 rfl (lw_g (lw_at lw_m10 20 rfl) rfl) y_Mo_has rfl (d2 := 2) ⟨le_b rfl, pd_Mo_has, le_b rfl⟩ (le_b rfl) og_192 (k_Mo_has (1 : Int32) h) (fun a32 h17 => ?_)
      refine hp_if_eq hm at0 rfl (by exact trivial) (pc' := 261) rfl 42 rfl (tgt := 307) rfl (fun c40 => ?_) (fun c40 => ?_)
      · exact hp_vr hm 33 rfl rfl (fun _ e => e)
      · refine hp_cVS (M2 := M_Mo_pop) hm (at1 22 rfl) (as := []) (rest := [(.ref 192), (.ref 192)]) (z := 192) rfl (by exact trivial) (pc' := 267) rfl 34 rfl (lw_g (lw_at lw_m10 24 rfl) rfl) y_Mo_pop rfl (d2 := 1) ⟨le_b rfl, pd_Mo_pop, le_b rfl⟩ (le_b rfl) og_192 (k_Mo_pop h17) (fun a33 h18 => ?_)
        refine hp_cVP (M2 := M_Mo_rounded) hm (at1 23 rfl) (as := [(.long (Int32.toInt64 a33))]) (rest := [(.ref 192)]) (z := 192) rfl (by exact trivial) (pc' := 271) rfl 35 rfl (lw_g (lw_at lw_m10 44 rfl) rfl) y_Mo_rounded rfl (d2 := 2) ⟨le_b rfl, pd_Mo_rounded, le_b rfl⟩ (le_b rfl) og_192 (k_Mo_rounded (Int32.toInt64 a33) h18) (fun a34 => ?_)
        refine hp_JZ 291 (fun (p35 : Int64) => []) (fun (p35 : Int64) => [(.long p35), (.long (a34 &&& (127 : Int64))), (.ref 192)]) (fun (p35 : Int64) => h18) ?_ (fun p35 => ?_)
        · refine hp_sv0 ?_
          refine hp_ic_ne hm (at1 24 rfl) rfl (by exact trivial) (pc' := 281) rfl 37 rfl (tgt := 290) rfl (fun c36 => ?_) (fun c36 => ?_)
          · refine hp_b hm (at1 25 rfl) (L' := [(0, (.ref 192)), (1, (.int x1))]) (st' := [(.long (0 : Int64)), (.long (a34 &&& (127 : Int64))), (.ref 192)]) rfl (by exact trivial) (pc' := 291) rfl ?_
            exact hp_lf [] rfl (fun _ e => e)
          · refine hp_b hm (at1 26 rfl) (L' := [(0, (.ref 192)), (1, (.int x1))]) (st' := [(.long (64 : Int64)), (.long (a34 &&& (127 : Int64))), (.ref 192)]) rfl (by exact trivial) (pc' := 287) rfl ?_
            refine hp_goto hm 36 rfl (tgt := 291) rfl ?_
            exact hp_lf [] rfl (fun _ e => e)
        · refine hp_JZ 300 (fun (p37 : Int32) => []) (fun (p37 : Int32) => [(.int p37), (.ref 192)]) (fun (p37 : Int32) => h18) ?_ (fun p37 => ?_)
          · refine hp_sv0 ?_
            refine hp_lc_ne hm (at1 27 rfl) rfl (by exact trivial) (pc' := 292) rfl 39 rfl (tgt := 299) rfl (fun c38 => ?_) (fun c38 => ?_)
            · refine hp_b hm (at1 28 rfl) (L' := []) (st' := [(.int (0 : Int32)), (.ref 192)]) rfl (by exact trivial) (pc' := 300) rfl ?_
              exact hp_lf [] rfl (fun _ e => e)
            · refine hp_b hm (at1 29 rfl) (L' := []) (st' := [(.int (1 : Int32)), (.ref 192)]) rfl (by exact trivial) (pc' := 296) rfl ?_
              refine hp_goto hm 38 rfl (tgt := 300) rfl ?_
              exact hp_lf [] rfl (fun _ e => e)
          · refine hp_cSP (M2 := M_Mo_one) hm at0 (as := [(.int p37)]) (rest := [(.ref 192)]) rfl (by exact trivial) (pc' := 300) rfl 40 rfl (lw_g (lw_at lw_m10 195 rfl) rfl) y_Mo_one rfl (d2 := 1) ⟨le_b rfl, pd_Mo_one, le_b rfl⟩ (le_b rfl) (k_Mo_one p37 h18) (fun a39 => ?_)
            refine hp_cVS (M2 := M_Mo_push) hm (at1 30 rfl) (as := [(.long (Int32.toInt64 a39))]) (rest := []) (z := 192) rfl (by exact trivial) (pc' := 304) rfl 41 rfl (lw_g (lw_at lw_m10 86 rfl) rfl) y_Mo_push rfl (d2 := 2) ⟨le_b rfl, pd_Mo_push, le_b rfl⟩ (le_b rfl) og_192 (k_Mo_push (Int32.toInt64 a39) h18) (fun _ h19 => ?_)
            exact hp_vr hm 33 rfl rfl (fun _ e => e)
  · refine hp_cVS (M2 := M_Mo_has) hm (at1 31 rfl) (as := [(.int (2 : Int32))]) (rest := []) (z := 192) rfl (by exact trivial) (pc' := 82) rfl 43 rfl (lw_g (lw_at lw_m10 20 rfl) rfl) y_Mo_has rfl (d2 := 2) ⟨le_b rfl, pd_Mo_has, le_b rfl⟩ (le_b rfl) og_192 (k_Mo_has (2 : Int32) h) (fun a41 h20 => ?_)
    refine hp_if_eq hm at0 rfl (by exact trivial) (pc' := 85) rfl 81 rfl (tgt := 255) rfl (fun c63 => ?_) (fun c63 => ?_)
    · exact hp_vr hm 44 rfl rfl (fun _ e => e)
    · refine hp_cVS (M2 := M_Mo_pop) hm (at1 32 rfl) (as := []) (rest := []) (z := 192) rfl (by exact trivial) (pc' := 89) rfl 45 rfl (lw_g (lw_at lw_m10 24 rfl) rfl) y_Mo_pop rfl (d2 := 1) ⟨le_b rfl, pd_Mo_pop, le_b rfl⟩ (le_b rfl) og_192 (k_Mo_pop h20) (fun a42 h21 => ?_)
      refine hp_b hm (at1 33 rfl) (L' := [(2, (.int a42)), (0, (.ref 192)), (1, (.int x1))]) (st' := [(.ref 192)]) rfl (by exact trivial) (pc' := 94) rfl ?_
      refine hp_cVS (M2 := M_Mo_pop) hm at0 (as := []) (rest := []) (z := 192) rfl (by exact trivial) (pc' := 94) rfl 46 rfl (lw_g (lw_at lw_m10 24 rfl) rfl) y_Mo_pop rfl (d2 := 1) ⟨le_b rfl, pd_Mo_pop, le_b rfl⟩ (le_b rfl) og_192 (k_Mo_pop h21) (fun a43 h22 => ?_)
      refine hp_b hm (at1 34 rfl) (L' := [(3, (.int a43)), (2, (.int a42)), (0, (.ref 192)), (1, (.int x1))]) (st' := [(.int (80 : Int32)), (.int x1), (.ref 192)]) rfl (by exact trivial) (pc' := 102) rfl ?_
      refine hp_JZ 248 (fun (p44 : Int32) => []) (fun (p44 : Int32) => [(.int p44), (.ref 192)]) (fun (p44 : Int32) => h22) ?_ (fun p44 => ?_)
      · refine hp_sv0 ?_
        refine hp_ic_ne hm at0 rfl (by exact trivial) (pc' := 102) rfl 78 rfl (tgt := 118) rfl (fun c61 => ?_) (fun c61 => ?_)
        · refine hp_sv0 ?_
          refine hp_ic_ne hm (at1 35 rfl) rfl (by exact trivial) (pc' := 121) rfl 74 rfl (tgt := 137) rfl (fun c59 => ?_) (fun c59 => ?_)
          · refine hp_sv0 ?_
            refine hp_ic_ne hm (at1 36 rfl) rfl (by exact trivial) (pc' := 140) rfl 70 rfl (tgt := 156) rfl (fun c57 => ?_) (fun c57 => ?_)
            · refine hp_sv0 ?_
              refine hp_ic_ne hm (at1 37 rfl) rfl (by exact trivial) (pc' := 159) rfl 66 rfl (tgt := 175) rfl (fun c55 => ?_) (fun c55 => ?_)
              · refine hp_sv0 ?_
                refine hp_ic_ne hm (at1 38 rfl) rfl (by exact trivial) (pc' := 178) rfl 62 rfl (tgt := 194) rfl (fun c53 => ?_) (fun c53 => ?_)
                · refine hp_sv0 ?_
                  refine hp_ic_ne hm (at1 39 rfl) rfl (by exact trivial) (pc' := 197) rfl 58 rfl (tgt := 213) rfl (fun c51 => ?_) (fun c51 => ?_)
                  · refine hp_sv0 ?_
                    refine hp_ic_ne hm (at1 40 rfl) rfl (by exact trivial) (pc' := 216) rfl 54 rfl (tgt := 235) rfl (fun c49 => ?_) (fun c49 => ?_)
                    · refine hp_sv0 ?_
                      refine hp_if_ne hm (at1 41 rfl) rfl (by exact trivial) (pc' := 236) rfl 49 rfl (tgt := 243) rfl (fun c46 => ?_) (fun c46 => ?_)
                      · refine hp_b hm (at1 42 rfl) (L' := [(3, (.int a43)), (2, (.int a42)), (0, (.ref 192)), (1, (.int x1))]) (st' := [(.int (1 : Int32)), (.ref 192)]) rfl (by exact trivial) (pc' := 244) rfl ?_
                        refine hp_goto hm 47 rfl (tgt := 248) rfl ?_
                        exact hp_lf [] rfl (fun _ e => e)
                      · refine hp_sv0 ?_
                        refine hp_if_eq hm (at1 43 rfl) rfl (by exact trivial) (pc' := 240) rfl 48 rfl (tgt := 247) rfl (fun c45 => ?_) (fun c45 => ?_)
                        · refine hp_b hm (at1 44 rfl) (L' := [(3, (.int a43)), (2, (.int a42)), (0, (.ref 192)), (1, (.int x1))]) (st' := [(.int (0 : Int32)), (.ref 192)]) rfl (by exact trivial) (pc' := 248) rfl ?_
                          exact hp_lf [] rfl (fun _ e => e)
                        · refine hp_b hm (at1 42 rfl) (L' := [(3, (.int a43)), (2, (.int a42)), (0, (.ref 192)), (1, (.int x1))]) (st' := [(.int (1 : Int32)), (.ref 192)]) rfl (by exact trivial) (pc' := 244) rfl ?_
                          refine hp_goto hm 47 rfl (tgt := 248) rfl ?_
                          exact hp_lf [] rfl (fun _ e => e)
                    · refine hp_sv0 ?_
                      refine hp_if_eq hm (at1 45 rfl) rfl (by exact trivial) (pc' := 220) rfl 53 rfl (tgt := 231) rfl (fun c48 => ?_) (fun c48 => ?_)
                      · refine hp_b hm (at1 46 rfl) (L' := [(3, (.int a43)), (2, (.int a42)), (0, (.ref 192)), (1, (.int x1))]) (st' := [(.int (0 : Int32)), (.ref 192)]) rfl (by exact trivial) (pc' := 232) rfl ?_
                        refine hp_goto hm 50 rfl (tgt := 248) rfl ?_
                        exact hp_lf [] rfl (fun _ e => e)
                      · refine hp_sv0 ?_
                        refine hp_if_eq hm (at1 47 rfl) rfl (by exact trivial) (pc' := 224) rfl 52 rfl (tgt := 231) rfl (fun c47 => ?_) (fun c47 => ?_)
                        · refine hp_b hm (at1 46 rfl) (L' := [(3, (.int a43)), (2, (.int a42)), (0, (.ref 192)), (1, (.int x1))]) (st' := [(.int (0 : Int32)), (.ref 192)]) rfl (by exact trivial) (pc' := 232) rfl ?_
                          refine hp_goto hm 50 rfl (tgt := 248) rfl ?_
                          exact hp_lf [] rfl (fun _ e => e)
                        · refine hp_b hm (at1 48 rfl) (L' := [(3, (.int a43)), (2, (.int a42)), (0, (.ref 192)), (1, (.int x1))]) (st' := [(.int (1 : Int32)), (.ref 192)]) rfl (by exact trivial) (pc' := 228) rfl ?_
                          refine hp_goto hm 51 rfl (tgt := 248) rfl ?_
                          exact hp_lf [] rfl (fun _ e => e)
                  · refine hp_sv0 ?_
                    refine hp_ic_eq hm (at1 49 rfl) rfl (by exact trivial) (pc' := 202) rfl 57 rfl (tgt := 209) rfl (fun c50 => ?_) (fun c50 => ?_)
                    · refine hp_b hm (at1 50 rfl) (L' := [(3, (.int a43)), (2, (.int a42)), (0, (.ref 192)), (1, (.int x1))]) (st' := [(.int (0 : Int32)), (.ref 192)]) rfl (by exact trivial) (pc' := 210) rfl ?_
                      refine hp_goto hm 55 rfl (tgt := 248) rfl ?_
                      exact hp_lf [] rfl (fun _ e => e)
                    · refine hp_b hm (at1 51 rfl) (L' := [(3, (.int a43)), (2, (.int a42)), (0, (.ref 192)), (1, (.int x1))]) (st' := [(.int (1 : Int32)), (.ref 192)]) rfl (by exact trivial) (pc' := 206) rfl ?_
                      refine hp_goto hm 56 rfl (tgt := 248) rfl ?_
                      exact hp_lf [] rfl (fun _ e => e)
                · refine hp_sv0 ?_
                  refine hp_ic_ne hm (at1 52 rfl) rfl (by exact trivial) (pc' := 183) rfl 61 rfl (tgt := 190) rfl (fun c52 => ?_) (fun c52 => ?_)
                  · refine hp_b hm (at1 53 rfl) (L' := [(3, (.int a43)), (2, (.int a42)), (0, (.ref 192)), (1, (.int x1))]) (st' := [(.int (0 : Int32)), (.ref 192)]) rfl (by exact trivial) (pc' := 191) rfl ?_
                    refine hp_goto hm 59 rfl (tgt := 248) rfl ?_
                    exact hp_lf [] rfl (fun _ e => e)
                  · refine hp_b hm (at1 54 rfl) (L' := [(3, (.int a43)), (2, (.int a42)), (0, (.ref 192)), (1, (.int x1))]) (st' := [(.int (1 : Int32)), (.ref 192)]) rfl (by exact trivial) (pc' := 187) rfl ?_
                    refine hp_goto hm 60 rfl (tgt := 248) rfl ?_
                    exact hp_lf [] rfl (fun _ e => e)
              · refine hp_sv0 ?_
                refine hp_ic_lt hm (at1 55 rfl) rfl (by exact trivial) (pc' := 164) rfl 65 rfl (tgt := 171) rfl (fun c54 => ?_) (fun c54 => ?_)
                · refine hp_b hm (at1 56 rfl) (L' := [(3, (.int a43)), (2, (.int a42)), (0, (.ref 192)), (1, (.int x1))]) (st' := [(.int (0 : Int32)), (.ref 192)]) rfl (by exact trivial) (pc' := 172) rfl ?_
                  refine hp_goto hm 63 rfl (tgt := 248) rfl ?_
                  exact hp_lf [] rfl (fun _ e => e)
                · refine hp_b hm (at1 57 rfl) (L' := [(3, (.int a43)), (2, (.int a42)), (0, (.ref 192)), (1, (.int x1))]) (st' := [(.int (1 : Int32)), (.ref 192)]) rfl (by exact trivial) (pc' := 168) rfl ?_
                  refine hp_goto hm 64 rfl (tgt := 248) rfl ?_
                  exact hp_lf [] rfl (fun _ e => e)
            · refine hp_sv0 ?_
              refine hp_ic_le hm (at1 58 rfl) rfl (by exact trivial) (pc' := 145) rfl 69 rfl (tgt := 152) rfl (fun c56 => ?_) (fun c56 => ?_)
              · refine hp_b hm (at1 59 rfl) (L' := [(3, (.int a43)), (2, (.int a42)), (0, (.ref 192)), (1, (.int x1))]) (st' := [(.int (0 : Int32)), (.ref 192)]) rfl (by exact trivial) (pc' := 153) rfl ?_
                refine hp_goto hm 67 rfl (tgt := 248) rfl ?_
                exact hp_lf [] rfl (fun _ e => e)
              · refine hp_b hm (at1 60 rfl) (L' := [(3, (.int a43)), (2, (.int a42)), (0, (.ref 192)), (1, (.int x1))]) (st' := [(.int (1 : Int32)), (.ref 192)]) rfl (by exact trivial) (pc' := 149) rfl ?_
                refine hp_goto hm 68 rfl (tgt := 248) rfl ?_
                exact hp_lf [] rfl (fun _ e => e)
          · refine hp_sv0 ?_
            refine hp_ic_gt hm (at1 61 rfl) rfl (by exact trivial) (pc' := 126) rfl 73 rfl (tgt := 133) rfl (fun c58 => ?_) (fun c58 => ?_)
            · refine hp_b hm (at1 62 rfl) (L' := [(3, (.int a43)), (2, (.int a42)), (0, (.ref 192)), (1, (.int x1))]) (st' := [(.int (0 : Int32)), (.ref 192)]) rfl (by exact trivial) (pc' := 134) rfl ?_
              refine hp_goto hm 71 rfl (tgt := 248) rfl ?_
              exact hp_lf [] rfl (fun _ e => e)
            · refine hp_b hm (at1 63 rfl) (L' := [(3, (.int a43)), (2, (.int a42)), (0, (.ref 192)), (1, (.int x1))]) (st' := [(.int (1 : Int32)), (.ref 192)]) rfl (by exact trivial) (pc' := 130) rfl ?_
              refine hp_goto hm 72 rfl (tgt := 248) rfl ?_
              exact hp_lf [] rfl (fun _ e => e)
        · refine hp_sv0 ?_
          refine hp_ic_ge hm (at1 64 rfl) rfl (by exact trivial) (pc' := 107) rfl 77 rfl (tgt := 114) rfl (fun c60 => ?_) (fun c60 => ?_)
          · refine hp_b hm (at1 65 rfl) (L' := [(3, (.int a43)), (2, (.int a42)), (0, (.ref 192)), (1, (.int x1))]) (st' := [(.int (0 : Int32)), (.ref 192)]) rfl (by exact trivial) (pc' := 115) rfl ?_
            refine hp_goto hm 75 rfl (tgt := 248) rfl ?_
            exact hp_lf [] rfl (fun _ e => e)
          · refine hp_b hm (at1 66 rfl) (L' := [(3, (.int a43)), (2, (.int a42)), (0, (.ref 192)), (1, (.int x1))]) (st' := [(.int (1 : Int32)), (.ref 192)]) rfl (by exact trivial) (pc' := 111) rfl ?_
            refine hp_goto hm 76 rfl (tgt := 248) rfl ?_
            exact hp_lf [] rfl (fun _ e => e)
      · refine hp_cSP (M2 := M_Mo_one) hm at0 (as := [(.int p44)]) (rest := [(.ref 192)]) rfl (by exact trivial) (pc' := 248) rfl 79 rfl (lw_g (lw_at lw_m10 195 rfl) rfl) y_Mo_one rfl (d2 := 1) ⟨le_b rfl, pd_Mo_one, le_b rfl⟩ (le_b rfl) (k_Mo_one p44 h22) (fun a62 => ?_)
        refine hp_cVS (M2 := M_Mo_push) hm (at1 67 rfl) (as := [(.long (Int32.toInt64 a62))]) (rest := []) (z := 192) rfl (by exact trivial) (pc' := 252) rfl 80 rfl (lw_g (lw_at lw_m10 86 rfl) rfl) y_Mo_push rfl (d2 := 2) ⟨le_b rfl, pd_Mo_push, le_b rfl⟩ (le_b rfl) og_192 (k_Mo_push (Int32.toInt64 a62) h22) (fun _ h23 => ?_)
        exact hp_vr hm 44 rfl rfl (fun _ e => e)
/-! HintHouseModel.middle(I)V -/
def M_Mo_middle : hM := (11, ⟨"HintHouseModel", "middle", "(I)V"⟩, prog_13_method_77_code, 4, (Option.none : Option Jvm.ClassFile.FieldType), [], [(0, [(.iload_n 1, 1, 0, 0, 0, .null)]), (140, [(.aload_n 0, 1, 0, 0, 0, .null), (.aload_n 0, 1, 0, 0, 0, .null), (.getfield 73, 3, 11, 47, 4, .null), (.aload_n 0, 1, 0, 0, 0, .null), (.getfield 79, 3, 11, 49, 4, .null), (.iconst 2, 1, 0, 0, 0, (.int (2 : Int32)))]), (154, [(.aload_n 0, 1, 0, 0, 0, .null), (.aload_n 0, 1, 0, 0, 0, .null), (.getfield 70, 3, 11, 46, 4, .null), (.aload_n 0, 1, 0, 0, 0, .null), (.getfield 76, 3, 11, 48, 4, .null), (.iconst 1, 1, 0, 0, 0, (.int (1 : Int32)))]), (186, [(.aload_n 0, 1, 0, 0, 0, .null), (.bipush 61, 2, 0, 0, 0, (.int (61 : Int32))), (.bipush 32, 2, 0, 0, 0, (.int (32 : Int32))), (.iconst 0, 1, 0, 0, 0, (.int (0 : Int32))), (.bipush 16, 2, 0, 0, 0, (.int (16 : Int32)))]), (258, [(.aload_n 0, 1, 0, 0, 0, .null), (.iconst 2, 1, 0, 0, 0, (.int (2 : Int32)))]), (266, [(.aload_n 0, 1, 0, 0, 0, .null)]), (270, [(.istore_n 2, 1, 0, 0, 0, .null), (.aload_n 0, 1, 0, 0, 0, .null)]), (275, [(.istore_n 3, 1, 0, 0, 0, .null), (.iload_n 3, 1, 0, 0, 0, .null)]), (280, [(.iload_n 3, 1, 0, 0, 0, .null), (.aload_n 0, 1, 0, 0, 0, .null), (.getfield 319, 3, 11, 15, 0, .null)]), (288, [(.aload_n 0, 1, 0, 0, 0, .null), (.bipush 6, 2, 0, 0, 0, (.int (6 : Int32)))]), (297, [(.aload_n 0, 1, 0, 0, 0, .null), (.getfield 67, 3, 11, 45, 4, .null), (.iload_n 3, 1, 0, 0, 0, .null), (.iload_n 2, 1, 0, 0, 0, .null), (.iastore, 1, 0, 0, 0, .null)]), (305, [(.aload_n 0, 1, 0, 0, 0, .null), (.iconst 1, 1, 0, 0, 0, (.int (1 : Int32)))]), (313, [(.aload_n 0, 1, 0, 0, 0, .null)]), (317, [(.istore_n 2, 1, 0, 0, 0, .null), (.iload_n 2, 1, 0, 0, 0, .null)]), (322, [(.iload_n 2, 1, 0, 0, 0, .null), (.aload_n 0, 1, 0, 0, 0, .null), (.getfield 319, 3, 11, 15, 0, .null)]), (330, [(.aload_n 0, 1, 0, 0, 0, .null), (.bipush 6, 2, 0, 0, 0, (.int (6 : Int32)))]), (339, [(.aload_n 0, 1, 0, 0, 0, .null), (.aload_n 0, 1, 0, 0, 0, .null), (.getfield 67, 3, 11, 45, 4, .null), (.iload_n 2, 1, 0, 0, 0, .null), (.iaload, 1, 0, 0, 0, .null), (.i2l, 1, 0, 0, 0, .null)]), (351, [(.aload_n 0, 1, 0, 0, 0, .null), (.iconst 0, 1, 0, 0, 0, (.int (0 : Int32)))]), (357, [(.aload_n 0, 1, 0, 0, 0, .null), (.iconst 1, 1, 0, 0, 0, (.int (1 : Int32)))]), (365, [(.aload_n 0, 1, 0, 0, 0, .null), (.aload_n 0, 1, 0, 0, 0, .null)]), (373, [(.istore_n 2, 1, 0, 0, 0, .null), (.aload_n 0, 1, 0, 0, 0, .null), (.getfield 409, 3, 11, 59, 0, .null)]), (381, [(.aload_n 0, 1, 0, 0, 0, .null), (.iload_n 2, 1, 0, 0, 0, .null), (.i2l, 1, 0, 0, 0, .null)]), (460, [(.aload_n 0, 1, 0, 0, 0, .null), (.iconst 2, 1, 0, 0, 0, (.int (2 : Int32)))]), (468, [(.aload_n 0, 1, 0, 0, 0, .null)]), (472, [(.istore_n 2, 1, 0, 0, 0, .null), (.aload_n 0, 1, 0, 0, 0, .null), (.aload_n 0, 1, 0, 0, 0, .null), (.getfield 466, 3, 11, 74, 0, .null), (.aload_n 0, 1, 0, 0, 0, .null)]), (485, [(.istore_n 3, 1, 0, 0, 0, .null), (.aload_n 0, 1, 0, 0, 0, .null), (.getfield 409, 3, 11, 59, 0, .null)]), (493, [(.aload_n 0, 1, 0, 0, 0, .null), (.iload_n 3, 1, 0, 0, 0, .null), (.iload_n 2, 1, 0, 0, 0, .null), (.i2l, 1, 0, 0, 0, .null), (.aload_n 0, 1, 0, 0, 0, .null), (.iload_n 3, 1, 0, 0, 0, .null)]), (502, [(.i2l, 1, 0, 0, 0, .null), (.lsub, 1, 0, 0, 0, .null)]), (507, [(.aload_n 0, 1, 0, 0, 0, .null), (.getfield 466, 3, 11, 74, 0, .null)]), (514, [(.aload_n 0, 1, 0, 0, 0, .null), (.getfield 70, 3, 11, 46, 4, .null), (.iload_n 3, 1, 0, 0, 0, .null), (.aload_n 0, 1, 0, 0, 0, .null), (.getfield 76, 3, 11, 48, 4, .null), (.iload_n 3, 1, 0, 0, 0, .null), (.iaload, 1, 0, 0, 0, .null), (.iastore, 1, 0, 0, 0, .null)]), (526, [(.aload_n 0, 1, 0, 0, 0, .null), (.getfield 73, 3, 11, 47, 4, .null), (.iload_n 3, 1, 0, 0, 0, .null), (.aload_n 0, 1, 0, 0, 0, .null), (.getfield 79, 3, 11, 49, 4, .null), (.iload_n 3, 1, 0, 0, 0, .null), (.iaload, 1, 0, 0, 0, .null), (.iastore, 1, 0, 0, 0, .null)]), (634, [(.aload_n 0, 1, 0, 0, 0, .null), (.iload_n 1, 1, 0, 0, 0, .null)]), (618, [(.aload_n 0, 1, 0, 0, 0, .null), (.iload_n 1, 1, 0, 0, 0, .null), (.bipush 77, 2, 0, 0, 0, (.int (77 : Int32)))]), (629, [(.iconst 0, 1, 0, 0, 0, (.int (0 : Int32)))]), (625, [(.iconst 1, 1, 0, 0, 0, (.int (1 : Int32)))]), (630, [(.putfield 683, 3, 11, 84, 1, .null)]), (608, [(.aload_n 0, 1, 0, 0, 0, .null), (.aload_n 0, 1, 0, 0, 0, .null), (.getfield 621, 3, 11, 62, 0, .null), (.i2l, 1, 0, 0, 0, .null)]), (539, [(.aload_n 0, 1, 0, 0, 0, .null), (.iconst 2, 1, 0, 0, 0, (.int (2 : Int32)))]), (547, [(.aload_n 0, 1, 0, 0, 0, .null), (.aload_n 0, 1, 0, 0, 0, .null), (.getfield 463, 3, 11, 73, 0, .null), (.aload_n 0, 1, 0, 0, 0, .null)]), (559, [(.istore_n 2, 1, 0, 0, 0, .null), (.aload_n 0, 1, 0, 0, 0, .null), (.aload_n 0, 1, 0, 0, 0, .null), (.getfield 460, 3, 11, 72, 0, .null), (.aload_n 0, 1, 0, 0, 0, .null)]), (572, [(.istore_n 3, 1, 0, 0, 0, .null), (.aload_n 0, 1, 0, 0, 0, .null), (.getfield 409, 3, 11, 59, 0, .null)]), (580, [(.aload_n 0, 1, 0, 0, 0, .null), (.iload_n 1, 1, 0, 0, 0, .null), (.bipush 73, 2, 0, 0, 0, (.int (73 : Int32)))]), (597, [(.aload_n 0, 1, 0, 0, 0, .null), (.iload_n 3, 1, 0, 0, 0, .null), (.iload_n 2, 1, 0, 0, 0, .null)]), (603, [(.i2l, 1, 0, 0, 0, .null)]), (587, [(.aload_n 0, 1, 0, 0, 0, .null), (.iload_n 3, 1, 0, 0, 0, .null), (.iload_n 2, 1, 0, 0, 0, .null)]), (593, [(.i2l, 1, 0, 0, 0, .null)]), (388, [(.aload_n 0, 1, 0, 0, 0, .null), (.iconst 1, 1, 0, 0, 0, (.int (1 : Int32)))]), (396, [(.aload_n 0, 1, 0, 0, 0, .null), (.aload_n 0, 1, 0, 0, 0, .null), (.getfield 466, 3, 11, 74, 0, .null), (.aload_n 0, 1, 0, 0, 0, .null)]), (408, [(.istore_n 2, 1, 0, 0, 0, .null), (.aload_n 0, 1, 0, 0, 0, .null), (.getfield 409, 3, 11, 59, 0, .null)]), (416, [(.aload_n 0, 1, 0, 0, 0, .null), (.iload_n 1, 1, 0, 0, 0, .null), (.bipush 70, 2, 0, 0, 0, (.int (70 : Int32)))]), (432, [(.aload_n 0, 1, 0, 0, 0, .null), (.getfield 70, 3, 11, 46, 4, .null), (.iload_n 2, 1, 0, 0, 0, .null), (.iaload, 1, 0, 0, 0, .null), (.aload_n 0, 1, 0, 0, 0, .null), (.getfield 73, 3, 11, 47, 4, .null), (.iload_n 2, 1, 0, 0, 0, .null), (.iaload, 1, 0, 0, 0, .null), (.aload_n 0, 1, 0, 0, 0, .null), (.getfield 445, 3, 11, 67, 0, .null), (.aload_n 0, 1, 0, 0, 0, .null), (.getfield 448, 3, 11, 68, 0, .null)]), (455, [(.i2l, 1, 0, 0, 0, .null)]), (423, [(.aload_n 0, 1, 0, 0, 0, .null), (.iload_n 2, 1, 0, 0, 0, .null)]), (428, [(.i2l, 1, 0, 0, 0, .null)]), (204, [(.aload_n 0, 1, 0, 0, 0, .null), (.getfield 496, 3, 11, 93, 0, .null), (.aload_n 0, 1, 0, 0, 0, .null), (.getfield 97, 3, 11, 90, 4, .null), (.aload_n 0, 1, 0, 0, 0, .null), (.getfield 427, 3, 11, 92, 0, .null), (.iaload, 1, 0, 0, 0, .null)]), (228, [(.aload_n 0, 1, 0, 0, 0, .null), (.aload_n 0, 1, 0, 0, 0, .null), (.aload_n 0, 1, 0, 0, 0, .null), (.getfield 496, 3, 11, 93, 0, .null)]), (237, [(.iload_n 1, 1, 0, 0, 0, .null), (.bipush 65, 2, 0, 0, 0, (.int (65 : Int32)))]), (247, [(.iconst 0, 1, 0, 0, 0, (.int (0 : Int32)))]), (243, [(.iconst 1, 1, 0, 0, 0, (.int (1 : Int32)))]), (248, [(.aload_n 0, 1, 0, 0, 0, .null), (.getfield 496, 3, 11, 93, 0, .null), (.iconst 1, 1, 0, 0, 0, (.int (1 : Int32))), (.iadd, 1, 0, 0, 0, .null)]), (220, [(.aload_n 0, 1, 0, 0, 0, .null), (.iconst 4, 1, 0, 0, 0, (.int (4 : Int32)))]), (198, [(.aload_n 0, 1, 0, 0, 0, .null), (.iload_n 1, 1, 0, 0, 0, .null)]), (180, [(.aload_n 0, 1, 0, 0, 0, .null), (.iload_n 1, 1, 0, 0, 0, .null)]), (174, [(.aload_n 0, 1, 0, 0, 0, .null), (.iload_n 1, 1, 0, 0, 0, .null)]), (168, [(.aload_n 0, 1, 0, 0, 0, .null), (.iload_n 1, 1, 0, 0, 0, .null)])], [(1, .tableswitch 633 48 78 #[139, 153, 167, 167, 167, 167, 167, 167, 173, 173, 179, 179, 173, 185, 197, 197, 203, 203, 257, 304, 350, 356, 387, 387, 459, 538, 538, 607, 607, 617, 617], 139), (150, .invokevirtual 658, 3), (153, .return_, 1), (164, .invokevirtual 658, 3), (167, .return_, 1), (194, .invokevirtual 472, 3), (197, .return_, 1), (260, .invokevirtual 576, 3), (304, .return_, 1), (267, .invokevirtual 579, 3), (272, .invokevirtual 579, 3), (285, .if_icmp .lt 12, 3), (277, .ifCond .lt 11, 3), (291, .invokevirtual 421, 3), (294, .goto 10, 3), (263, .ifCond .eq 41, 3), (307, .invokevirtual 576, 3), (350, .return_, 1), (314, .invokevirtual 579, 3), (327, .if_icmp .lt 12, 3), (319, .ifCond .lt 11, 3), (333, .invokevirtual 421, 3), (336, .goto 14, 3), (347, .invokevirtual 564, 3), (310, .ifCond .eq 40, 3), (353, .invokevirtual 674, 3), (356, .return_, 1), (359, .invokevirtual 576, 3), (387, .return_, 1), (367, .invokevirtual 579, 3), (370, .invokevirtual 677, 3), (384, .invokevirtual 564, 3), (378, .ifCond .ne 9, 3), (362, .ifCond .eq 25, 3), (462, .invokevirtual 576, 3), (538, .return_, 1), (469, .invokevirtual 579, 3), (479, .invokevirtual 579, 3), (482, .invokevirtual 582, 3), (499, .invokevirtual 644, 3), (504, .invokevirtual 630, 3), (511, .ifCond .ne 27, 3), (490, .ifCond .ne 48, 3), (465, .ifCond .eq 73, 3), (636, .invokevirtual 687, 3), (639, .return_, 1), (626, .goto 4, 3), (622, .if_icmp .ne 7, 3), (633, .return_, 1), (614, .invokevirtual 564, 3), (617, .return_, 1), (541, .invokevirtual 576, 3), (607, .return_, 1), (553, .invokevirtual 579, 3), (556, .invokevirtual 582, 3), (566, .invokevirtual 579, 3), (569, .invokevirtual 582, 3), (600, .invokevirtual 680, 3), (590, .invokevirtual 627, 3), (594, .goto 10, 3), (584, .if_icmp .ne 13, 3), (604, .invokevirtual 564, 3), (577, .ifCond .ne 30, 3), (544, .ifCond .eq 63, 3), (390, .invokevirtual 576, 3), (459, .return_, 1), (402, .invokevirtual 579, 3), (405, .invokevirtual 582, 3), (452, .invokestatic 520, 3), (425, .invokevirtual 644, 3), (429, .goto 27, 3), (420, .if_icmp .ne 12, 3), (456, .invokevirtual 564, 3), (413, .ifCond .ne 46, 3), (393, .ifCond .eq 66, 3), (234, .invokevirtual 430, 3), (244, .goto 4, 3), (240, .if_icmp .ne 7, 3), (254, .invokevirtual 551, 3), (257, .return_, 1), (222, .invokevirtual 421, 3), (225, .goto 32, 3), (217, .if_icmp .lt 11, 3), (200, .invokevirtual 671, 3), (203, .return_, 1), (182, .invokevirtual 668, 3), (185, .return_, 1), (176, .invokevirtual 665, 3), (179, .return_, 1), (170, .invokevirtual 662, 3), (173, .return_, 1)])
set_option maxRecDepth 100000 in
theorem m_Mo_middle : hx_mok M_Mo_middle = true := by decide +kernel
theorem pd_Mo_middle : (parseMethodDescriptor M_Mo_middle.2.1.desc).map (fun q => q.parameters.length) = some 1 := by decide +kernel
theorem y_Mo_middle : hx_okV M_Mo_middle := ⟨⟨lw_g (lw_at lw_m10 159 rfl) rfl, lw_g (lw_at lw_m10 158 rfl) rfl, qs167, lw_g (lw_at lw_m1 12 rfl) rfl, rfl, by decide, by decide, by decide⟩, rfl, by decide, plainFor_of_name (by decide)⟩
noncomputable def f_Mo_middle (x1 : Int32) (h : hH) : Option (Unit × hH) :=
  bE (P := Unit) (X := (Unit × hH)) (
    bE (P := Unit) (X := (Unit ⊕ (Unit × hH))) (
      bE (P := Unit) (X := (Unit ⊕ (Unit ⊕ (Unit × hH)))) (
        bE (P := Unit) (X := (Unit ⊕ (Unit ⊕ (Unit ⊕ (Unit × hH))))) (
          bE (P := Unit) (X := (Unit ⊕ (Unit ⊕ (Unit ⊕ (Unit ⊕ (Unit × hH)))))) (
            bE (P := Unit) (X := (Unit ⊕ (Unit ⊕ (Unit ⊕ (Unit ⊕ (Unit ⊕ (Unit × hH))))))) (
              bE (P := Unit) (X := (Unit ⊕ (Unit ⊕ (Unit ⊕ (Unit ⊕ (Unit ⊕ (Unit ⊕ (Unit × hH)))))))) (
                bE (P := Unit) (X := (Unit ⊕ (Unit ⊕ (Unit ⊕ (Unit ⊕ (Unit ⊕ (Unit ⊕ (Unit ⊕ (Unit × hH))))))))) (
                  bE (P := Unit) (X := (Unit ⊕ (Unit ⊕ (Unit ⊕ (Unit ⊕ (Unit ⊕ (Unit ⊕ (Unit ⊕ (Unit ⊕ (Unit × hH)))))))))) (
                    if x1 = (48 : Int32) then (
                      bS (f_Mo_followAll 213 215 (2 : Int32) h) fun _ h1 =>
                      some (.inr (.inr (.inr (.inr (.inr (.inr (.inr (.inr (.inr ((), h1))))))))))
                    ) else (
                      if x1 = (49 : Int32) then (
                        bS (f_Mo_followAll 212 214 (1 : Int32) h) fun _ h2 =>
                        some (.inr (.inr (.inr (.inr (.inr (.inr (.inr (.inr (.inr ((), h2))))))))))
                      ) else (
                        if x1 = (50 : Int32) ∨ x1 = (51 : Int32) ∨ x1 = (52 : Int32) ∨ x1 = (53 : Int32) ∨ x1 = (54 : Int32) ∨ x1 = (55 : Int32) then (
                          some (.inr (.inr (.inr (.inr (.inr (.inr (.inr (.inr (.inl ())))))))))
                        ) else (
                          if x1 = (56 : Int32) ∨ x1 = (57 : Int32) ∨ x1 = (60 : Int32) then (
                            some (.inr (.inr (.inr (.inr (.inr (.inr (.inr (.inl ()))))))))
                          ) else (
                            if x1 = (58 : Int32) ∨ x1 = (59 : Int32) then (
                              some (.inr (.inr (.inr (.inr (.inr (.inr (.inl ())))))))
                            ) else (
                              if x1 = (61 : Int32) then (
                                bS (f_Mo_setRounding (61 : Int32) (32 : Int32) (0 : Int32) (16 : Int32) h) fun _ h3 =>
                                some (.inr (.inr (.inr (.inr (.inr (.inr (.inr (.inr (.inr ((), h3))))))))))
                              ) else (
                                if x1 = (62 : Int32) ∨ x1 = (63 : Int32) then (
                                  some (.inr (.inr (.inr (.inr (.inr (.inl ()))))))
                                ) else (
                                  if x1 = (64 : Int32) ∨ x1 = (65 : Int32) then (
                                    some (.inr (.inr (.inr (.inr (.inl ())))))
                                  ) else (
                                    if x1 = (66 : Int32) then (
                                      bS (f_Mo_has (2 : Int32) h) fun a18 h4 =>
                                      if a18 = 0 then (
                                        some (.inr (.inr (.inr (.inr (.inr (.inr (.inr (.inr (.inr ((), h4))))))))))
                                      ) else (
                                        bS (f_Mo_pop h4) fun a19 h5 =>
                                        bS (f_Mo_pop h5) fun a20 h6 =>
                                        if (a20 < 0 ∨ ¬ (a20 < (rdI h6 192 15))) then (
                                          bS (f_Mo_fail (6 : Int32) h6) fun _ h7 =>
                                          some (.inr (.inr (.inr (.inr (.inr (.inr (.inr (.inr (.inr ((), h7))))))))))
                                        ) else (
                                          gd (vp_in a20 64) <|
                                          lz (wrI h6 211 (Int32.toNatClampNeg a20) a19) fun h8 =>
                                          some (.inr (.inr (.inr (.inr (.inr (.inr (.inr (.inr (.inr ((), h8))))))))))
                                        )
                                      )
                                    ) else (
                                      if x1 = (67 : Int32) then (
                                        bS (f_Mo_has (1 : Int32) h) fun a29 h9 =>
                                        if a29 = 0 then (
                                          some (.inr (.inr (.inr (.inr (.inr (.inr (.inr (.inr (.inr ((), h9))))))))))
                                        ) else (
                                          bS (f_Mo_pop h9) fun a30 h10 =>
                                          if (a30 < 0 ∨ ¬ (a30 < (rdI h10 192 15))) then (
                                            bS (f_Mo_fail (6 : Int32) h10) fun _ h11 =>
                                            some (.inr (.inr (.inr (.inr (.inr (.inr (.inr (.inr (.inr ((), h11))))))))))
                                          ) else (
                                            gd (vp_in a30 64) <|
                                            bS (f_Mo_push (Int32.toInt64 (rdI h10 211 (Int32.toNatClampNeg a30))) h10) fun _ h12 =>
                                            some (.inr (.inr (.inr (.inr (.inr (.inr (.inr (.inr (.inr ((), h12))))))))))
                                          )
                                        )
                                      ) else (
                                        if x1 = (68 : Int32) then (
                                          bS (f_Mo_setCvt (0 : Int32) h) fun _ h13 =>
                                          some (.inr (.inr (.inr (.inr (.inr (.inr (.inr (.inr (.inr ((), h13))))))))))
                                        ) else (
                                          if x1 = (69 : Int32) then (
                                            bS (f_Mo_has (1 : Int32) h) fun a40 h14 =>
                                            if a40 = 0 then (
                                              some (.inr (.inr (.inr (.inr (.inr (.inr (.inr (.inr (.inr ((), h14))))))))))
                                            ) else (
                                              bS (f_Mo_pop h14) fun a41 h15 =>
                                              bS (f_Mo_cvtOf a41 h15) fun a42 h16 =>
                                              if (rdI h16 192 59) = 0 then (
                                                bS (f_Mo_push (Int32.toInt64 a42) h16) fun _ h17 =>
                                                some (.inr (.inr (.inr (.inr (.inr (.inr (.inr (.inr (.inr ((), h17))))))))))
                                              ) else (
                                                some (.inr (.inr (.inr (.inr (.inr (.inr (.inr (.inr (.inr ((), h16))))))))))
                                              )
                                            )
                                          ) else (
                                            if x1 = (70 : Int32) ∨ x1 = (71 : Int32) then (
                                              some (.inr (.inr (.inr (.inl ()))))
                                            ) else (
                                              if x1 = (72 : Int32) then (
                                                bS (f_Mo_has (2 : Int32) h) fun a47 h18 =>
                                                if a47 = 0 then (
                                                  some (.inr (.inr (.inr (.inr (.inr (.inr (.inr (.inr (.inr ((), h18))))))))))
                                                ) else (
                                                  bS (f_Mo_pop h18) fun a48 h19 =>
                                                  bS (f_Mo_pop h19) fun a49 h20 =>
                                                  bS (f_Mo_pointOf (rdI h19 192 74) a49 h20) fun a50 h21 =>
                                                  if (rdI h21 192 59) = 0 then (
                                                    bP (f_Mo_longOf a50 h21) fun a51 =>
                                                    bS (f_Mo_move a50 ((Int32.toInt64 a48) - (Int32.toInt64 a51)) h21) fun _ h22 =>
                                                    if (rdI h22 192 74) = 0 then (
                                                      gd (vp_in a50 204) <|
                                                      lz (wrI h22 212 (Int32.toNatClampNeg a50) (rdI h22 214 (Int32.toNatClampNeg a50))) fun h23 =>
                                                      gd (vp_in a50 204) <|
                                                      lz (wrI h23 213 (Int32.toNatClampNeg a50) (rdI h23 215 (Int32.toNatClampNeg a50))) fun h24 =>
                                                      some (.inr (.inr (.inr (.inr (.inr (.inr (.inr (.inr (.inr ((), h24))))))))))
                                                    ) else (
                                                      some (.inr (.inr (.inr (.inr (.inr (.inr (.inr (.inr (.inr ((), h22))))))))))
                                                    )
                                                  ) else (
                                                    some (.inr (.inr (.inr (.inr (.inr (.inr (.inr (.inr (.inr ((), h21))))))))))
                                                  )
                                                )
                                              ) else (
                                                if x1 = (73 : Int32) ∨ x1 = (74 : Int32) then (
                                                  some (.inr (.inr (.inl ())))
                                                ) else (
                                                  if x1 = (75 : Int32) ∨ x1 = (76 : Int32) then (
                                                    some (.inr (.inl ()))
                                                  ) else (
                                                    if x1 = (77 : Int32) ∨ x1 = (78 : Int32) then (
                                                      some (.inl ())
                                                    ) else (
                                                      bS (f_Mo_tests x1 h) fun _ h25 =>
                                                      some (.inr (.inr (.inr (.inr (.inr (.inr (.inr (.inr (.inr ((), h25))))))))))
                                                    )
                                                  )
                                                )
                                              )
                                            )
                                          )
                                        )
                                      )
                                    )
                                  )
                                )
                              )
                            )
                          )
                        )
                      )
                    )
                  ) fun p9 =>
                  lz (A := Int32) (if x1 = (77 : Int32) then (1 : Int32) else (0 : Int32)) fun p61 =>
                  gd ((p61 = 0 ∨ p61 = 1)) <|
                  lz (wrI h 192 84 p61) fun h26 =>
                  some (.inr (.inr (.inr (.inr (.inr (.inr (.inr (.inr ((), h26)))))))))
                ) fun p8 =>
                bS (f_Mo_push (Int32.toInt64 (rdI h 192 62)) h) fun _ h27 =>
                some (.inr (.inr (.inr (.inr (.inr (.inr (.inr ((), h27))))))))
              ) fun p7 =>
              bS (f_Mo_has (2 : Int32) h) fun a64 h28 =>
              if a64 = 0 then (
                some (.inr (.inr (.inr (.inr (.inr (.inr ((), h28)))))))
              ) else (
                bS (f_Mo_pop h28) fun a65 h29 =>
                bS (f_Mo_pointOf (rdI h28 192 73) a65 h29) fun a66 h30 =>
                bS (f_Mo_pop h30) fun a67 h31 =>
                bS (f_Mo_pointOf (rdI h30 192 72) a67 h31) fun a68 h32 =>
                if (rdI h32 192 59) = 0 then (
                  bP (A := Int64) (
                    if x1 = (73 : Int32) then (
                      bP (f_Mo_between a68 a66 h32) fun a71 =>
                      some (Int32.toInt64 a71)
                    ) else (
                      bP (f_Mo_originally a68 a66 h32) fun a70 =>
                      some (Int32.toInt64 a70)
                    )
                  ) fun p69 =>
                  bS (f_Mo_push p69 h32) fun _ h33 =>
                  some (.inr (.inr (.inr (.inr (.inr (.inr ((), h33)))))))
                ) else (
                  some (.inr (.inr (.inr (.inr (.inr (.inr ((), h32)))))))
                )
              )
            ) fun p6 =>
            bS (f_Mo_has (1 : Int32) h) fun a75 h34 =>
            if a75 = 0 then (
              some (.inr (.inr (.inr (.inr (.inr ((), h34))))))
            ) else (
              bS (f_Mo_pop h34) fun a76 h35 =>
              bS (f_Mo_pointOf (rdI h34 192 74) a76 h35) fun a77 h36 =>
              if (rdI h36 192 59) = 0 then (
                bP (A := Int64) (
                  if x1 = (70 : Int32) then (
                    bP (f_Mo_longOf a77 h36) fun a81 =>
                    some (Int32.toInt64 a81)
                  ) else (
                    gd (vp_in a77 204) <|
                    bP (f_Mo_by (rdI h36 212 (Int32.toNatClampNeg a77)) (rdI h36 213 (Int32.toNatClampNeg a77)) (rdI h36 192 67) (rdI h36 192 68)) fun a80 =>
                    some (Int32.toInt64 a80)
                  )
                ) fun p78 =>
                bS (f_Mo_push p78 h36) fun _ h37 =>
                some (.inr (.inr (.inr (.inr (.inr ((), h37))))))
              ) else (
                some (.inr (.inr (.inr (.inr (.inr ((), h36))))))
              )
            )
          ) fun p5 =>
          gd (vp_in (rdI h 192 92) 3) <|
          if (rdI h 192 93) < (rdI h 221 (Int32.toNatClampNeg (rdI h 192 92))) then (
            bP (f_Mo_codeByte (rdI h 192 93) h) fun a86 =>
            lz (A := Int32) (if x1 = (65 : Int32) then (1 : Int32) else (0 : Int32)) fun p87 =>
            bS (f_Mo_pushBytes a86 p87 ((rdI h 192 93) + (1 : Int32)) h) fun _ h38 =>
            some (.inr (.inr (.inr (.inr ((), h38)))))
          ) else (
            bS (f_Mo_fail (4 : Int32) h) fun _ h39 =>
            some (.inr (.inr (.inr (.inr ((), h39)))))
          )
        ) fun p4 =>
        bS (f_Mo_toCvt x1 h) fun _ h40 =>
        some (.inr (.inr (.inr ((), h40))))
      ) fun p3 =>
      bS (f_Mo_toDistance x1 h) fun _ h41 =>
      some (.inr (.inr ((), h41)))
    ) fun p2 =>
    bS (f_Mo_loops x1 h) fun _ h42 =>
    some (.inr ((), h42))
  ) fun p1 =>
  bS (f_Mo_likeReference x1 h) fun _ h43 =>
  some ((), h43)
set_option maxRecDepth 20000 in
theorem k_Mo_middle (x1 : Int32) (h : hH) : hx_kS S0 M_Mo_middle 8 NT [(.ref 192), (.int x1)] h (f_Mo_middle x1 h) cvU := by
  have hm := m_Mo_middle
  show hx_P S0 M_Mo_middle 8 0 [(0, (.ref 192)), (1, (.int x1))] [] NT h (f_Mo_middle x1 h) (hx_Rc cvU NT)
  unfold f_Mo_middle
  refine hp_E 168 (fun (p1 : Unit) => [(0, (.ref 192)), (1, (.int x1))]) (fun (p1 : Unit) => []) (fun (p1 : Unit) => h) ?_ (fun p1 => ?_)
  · refine hp_E 174 (fun (p2 : Unit) => [(0, (.ref 192)), (1, (.int x1))]) (fun (p2 : Unit) => []) (fun (p2 : Unit) => h) ?_ (fun p2 => ?_)
    · refine hp_E 180 (fun (p3 : Unit) => [(0, (.ref 192)), (1, (.int x1))]) (fun (p3 : Unit) => []) (fun (p3 : Unit) => h) ?_ (fun p3 => ?_)
      · refine hp_E 198 (fun (p4 : Unit) => [(0, (.ref 192)), (1, (.int x1))]) (fun (p4 : Unit) => []) (fun (p4 : Unit) => h) ?_ (fun p4 => ?_)
        · refine hp_E 204 (fun (p5 : Unit) => [(0, (.ref 192)), (1, (.int x1))]) (fun (p5 : Unit) => []) (fun (p5 : Unit) => h) ?_ (fun p5 => ?_)
          · refine hp_E 388 (fun (p6 : Unit) => [(0, (.ref 192)), (1, (.int x1))]) (fun (p6 : Unit) => []) (fun (p6 : Unit) => h) ?_ (fun p6 => ?_)
            · refine hp_E 539 (fun (p7 : Unit) => [(0, (.ref 192)), (1, (.int x1))]) (fun (p7 : Unit) => []) (fun (p7 : Unit) => h) ?_ (fun p7 => ?_)
              · refine hp_E 608 (fun (p8 : Unit) => [(0, (.ref 192))]) (fun (p8 : Unit) => []) (fun (p8 : Unit) => h) ?_ (fun p8 => ?_)
                · refine hp_E 618 (fun (p9 : Unit) => [(0, (.ref 192)), (1, (.int x1))]) (fun (p9 : Unit) => []) (fun (p9 : Unit) => h) ?_ (fun p9 => ?_)
                  · refine hp_b hm (at1 0 rfl) (L' := [(0, (.ref 192)), (1, (.int x1))]) (st' := [(.int x1)]) rfl (by exact trivial) (pc' := 1) rfl ?_
                    refine hp_sw hm 0 rfl (cs := [48]) (off := 139) (by decide) (tgt := 140) rfl (sw1 _ _) ?_ (fun c10 => ?_)
                    · refine hp_cVS (M2 := M_Mo_followAll) hm (at1 1 rfl) (as := [(.ref 213), (.ref 215), (.int (2 : Int32))]) (rest := []) (z := 192) rfl (by exact ⟨og_192, og_192⟩) (pc' := 150) rfl 1 rfl (lw_g (lw_at lw_m10 160 rfl) rfl) y_Mo_followAll rfl (d2 := 4) ⟨le_b rfl, pd_Mo_followAll, le_b rfl⟩ (le_b rfl) og_192 (k_Mo_followAll 213 215 (2 : Int32) h og_213 og_215) (fun _ h1 => ?_)
                      exact hp_vr hm 2 rfl rfl (fun _ e => e)
                    · refine hp_sw hm 0 rfl (cs := [49]) (off := 153) (by decide) (tgt := 154) rfl (sw1 _ _) ?_ (fun c11 => ?_)
                      · refine hp_cVS (M2 := M_Mo_followAll) hm (at1 2 rfl) (as := [(.ref 212), (.ref 214), (.int (1 : Int32))]) (rest := []) (z := 192) rfl (by exact ⟨og_192, og_192⟩) (pc' := 164) rfl 3 rfl (lw_g (lw_at lw_m10 160 rfl) rfl) y_Mo_followAll rfl (d2 := 4) ⟨le_b rfl, pd_Mo_followAll, le_b rfl⟩ (le_b rfl) og_192 (k_Mo_followAll 212 214 (1 : Int32) h og_212 og_214) (fun _ h2 => ?_)
                        exact hp_vr hm 4 rfl rfl (fun _ e => e)
                      · refine hp_sw hm 0 rfl (cs := [50, 51, 52, 53, 54, 55]) (off := 167) (by decide) (tgt := 168) rfl (sw6 _ _ _ _ _ _ _) ?_ (fun c12 => ?_)
                        · exact hp_lf [0, 1] rfl (fun _ e => e)
                        · refine hp_sw hm 0 rfl (cs := [56, 57, 60]) (off := 173) (by decide) (tgt := 174) rfl (sw3 _ _ _ _) ?_ (fun c13 => ?_)
                          · exact hp_lf [0, 1] rfl (fun _ e => e)
                          · refine hp_sw hm 0 rfl (cs := [58, 59]) (off := 179) (by decide) (tgt := 180) rfl (sw2 _ _ _) ?_ (fun c14 => ?_)
                            · exact hp_lf [0, 1] rfl (fun _ e => e)
                            · refine hp_sw hm 0 rfl (cs := [61]) (off := 185) (by decide) (tgt := 186) rfl (sw1 _ _) ?_ (fun c15 => ?_)
                              · refine hp_cVS (M2 := M_Mo_setRounding) hm (at1 3 rfl) (as := [(.int (61 : Int32)), (.int (32 : Int32)), (.int (0 : Int32)), (.int (16 : Int32))]) (rest := []) (z := 192) rfl (by exact trivial) (pc' := 194) rfl 5 rfl (lw_g (lw_at lw_m10 0 rfl) rfl) y_Mo_setRounding rfl (d2 := 1) ⟨le_b rfl, pd_Mo_setRounding, le_b rfl⟩ (le_b rfl) og_192 (k_Mo_setRounding (61 : Int32) (32 : Int32) (0 : Int32) (16 : Int32) h) (fun _ h3 => ?_)
                                exact hp_vr hm 6 rfl rfl (fun _ e => e)
                              · refine hp_sw hm 0 rfl (cs := [62, 63]) (off := 197) (by decide) (tgt := 198) rfl (sw2 _ _ _) ?_ (fun c16 => ?_)
                                · exact hp_lf [0, 1] rfl (fun _ e => e)
                                · refine hp_sw hm 0 rfl (cs := [64, 65]) (off := 203) (by decide) (tgt := 204) rfl (sw2 _ _ _) ?_ (fun c17 => ?_)
                                  · exact hp_lf [0, 1] rfl (fun _ e => e)
                                  · refine hp_sw hm 0 rfl (cs := [66]) (off := 257) (by decide) (tgt := 258) rfl (sw1 _ _) ?_ (fun c28 => ?_)
                                    · refine hp_cVS (M2 := M_Mo_has) hm (at1 4 rfl) (as := [(.int (2 : Int32))]) (rest := []) (z := 192) rfl (by exact trivial) (pc' := 260) rfl 7 rfl (lw_g (lw_at lw_m10 20 rfl) rfl) y_Mo_has rfl (d2 := 2) ⟨le_b rfl, pd_Mo_has, le_b rfl⟩ (le_b rfl) og_192 (k_Mo_has (2 : Int32) h) (fun a18 h4 => ?_)
                                      refine hp_if_eq hm at0 rfl (by exact trivial) (pc' := 263) rfl 15 rfl (tgt := 304) rfl (fun c27 => ?_) (fun c27 => ?_)
                                      · exact hp_vr hm 8 rfl rfl (fun _ e => e)
                                      · refine hp_cVS (M2 := M_Mo_pop) hm (at1 5 rfl) (as := []) (rest := []) (z := 192) rfl (by exact trivial) (pc' := 267) rfl 9 rfl (lw_g (lw_at lw_m10 24 rfl) rfl) y_Mo_pop rfl (d2 := 1) ⟨le_b rfl, pd_Mo_pop, le_b rfl⟩ (le_b rfl) og_192 (k_Mo_pop h4) (fun a19 h5 => ?_)
                                        refine hp_b hm (at1 6 rfl) (L' := [(2, (.int a19)), (0, (.ref 192)), (1, (.int x1))]) (st' := [(.ref 192)]) rfl (by exact trivial) (pc' := 272) rfl ?_
                                        refine hp_cVS (M2 := M_Mo_pop) hm at0 (as := []) (rest := []) (z := 192) rfl (by exact trivial) (pc' := 272) rfl 10 rfl (lw_g (lw_at lw_m10 24 rfl) rfl) y_Mo_pop rfl (d2 := 1) ⟨le_b rfl, pd_Mo_pop, le_b rfl⟩ (le_b rfl) og_192 (k_Mo_pop h5) (fun a20 h6 => ?_)
                                        refine hp_b hm (at1 7 rfl) (L' := [(3, (.int a20)), (2, (.int a19)), (0, (.ref 192)), (1, (.int x1))]) (st' := [(.int a20)]) rfl (by exact trivial) (pc' := 277) rfl ?_
                                        refine hp_cI (L0 := [(3, (.int a20)), (2, (.int a19)), (0, (.ref 192)), (1, (.int x1))]) (s0 := []) 288 297 ?_ (fun c25 => ?_) (fun c25 => ?_)
                                        · refine hp_or ?_
                                          refine hp_if_lt hm at0 rfl (by exact trivial) (pc' := 277) rfl 12 rfl (tgt := 288) rfl (fun c22 => ?_) (fun c22 => ?_)
                                          · exact hp_l0 (fun _ e => e)
                                          · refine hp_decn ?_
                                            refine hp_ic_lt hm (at1 8 rfl) rfl (by exact og_192) (pc' := 285) rfl 11 rfl (tgt := 297) rfl (fun c21 => ?_) (fun c21 => ?_)
                                            · exact hp_l0 (fun _ e => e)
                                            · exact hp_l0 (fun _ e => e)
                                        · refine hp_cVS (M2 := M_Mo_fail) hm (at1 9 rfl) (as := [(.int (6 : Int32))]) (rest := []) (z := 192) rfl (by exact trivial) (pc' := 291) rfl 13 rfl (lw_g (lw_at lw_m10 4 rfl) rfl) y_Mo_fail rfl (d2 := 1) ⟨le_b rfl, pd_Mo_fail, le_b rfl⟩ (le_b rfl) og_192 (k_Mo_fail (6 : Int32) h6) (fun _ h7 => ?_)
                                          refine hp_goto hm 14 rfl (tgt := 304) rfl ?_
                                          exact hp_vr hm 8 rfl rfl (fun _ e => e)
                                        · refine hp_GW hm (at1 10 rfl) (L' := [(3, (.int a20)), (2, (.int a19)), (0, (.ref 192)), (1, (.int x1))]) rfl (fun hP => (by exact ⟨og_192, ⟨og_211, hP⟩⟩)) (pc' := 304) rfl (fun q26 h8 => ?_)
                                          exact hp_vr hm 8 rfl rfl (fun _ e => e)
                                    · refine hp_sw hm 0 rfl (cs := [67]) (off := 304) (by decide) (tgt := 305) rfl (sw1 _ _) ?_ (fun c38 => ?_)
                                      · refine hp_cVS (M2 := M_Mo_has) hm (at1 11 rfl) (as := [(.int (1 : Int32))]) (rest := []) (z := 192) rfl (by exact trivial) (pc' := 307) rfl 16 rfl (lw_g (lw_at lw_m10 20 rfl) rfl) y_Mo_has rfl (d2 := 2) ⟨le_b rfl, pd_Mo_has, le_b rfl⟩ (le_b rfl) og_192 (k_Mo_has (1 : Int32) h) (fun a29 h9 => ?_)
                                        refine hp_if_eq hm at0 rfl (by exact trivial) (pc' := 310) rfl 24 rfl (tgt := 350) rfl (fun c37 => ?_) (fun c37 => ?_)
                                        · exact hp_vr hm 17 rfl rfl (fun _ e => e)
                                        · refine hp_cVS (M2 := M_Mo_pop) hm (at1 12 rfl) (as := []) (rest := []) (z := 192) rfl (by exact trivial) (pc' := 314) rfl 18 rfl (lw_g (lw_at lw_m10 24 rfl) rfl) y_Mo_pop rfl (d2 := 1) ⟨le_b rfl, pd_Mo_pop, le_b rfl⟩ (le_b rfl) og_192 (k_Mo_pop h9) (fun a30 h10 => ?_)
                                          refine hp_b hm (at1 13 rfl) (L' := [(2, (.int a30)), (0, (.ref 192)), (1, (.int x1))]) (st' := [(.int a30)]) rfl (by exact trivial) (pc' := 319) rfl ?_
                                          refine hp_cI (L0 := [(2, (.int a30)), (0, (.ref 192)), (1, (.int x1))]) (s0 := []) 330 339 ?_ (fun c35 => ?_) (fun c35 => ?_)
                                          · refine hp_or ?_
                                            refine hp_if_lt hm at0 rfl (by exact trivial) (pc' := 319) rfl 20 rfl (tgt := 330) rfl (fun c32 => ?_) (fun c32 => ?_)
                                            · exact hp_l0 (fun _ e => e)
                                            · refine hp_decn ?_
                                              refine hp_ic_lt hm (at1 14 rfl) rfl (by exact og_192) (pc' := 327) rfl 19 rfl (tgt := 339) rfl (fun c31 => ?_) (fun c31 => ?_)
                                              · exact hp_l0 (fun _ e => e)
                                              · exact hp_l0 (fun _ e => e)
                                          · refine hp_cVS (M2 := M_Mo_fail) hm (at1 15 rfl) (as := [(.int (6 : Int32))]) (rest := []) (z := 192) rfl (by exact trivial) (pc' := 333) rfl 21 rfl (lw_g (lw_at lw_m10 4 rfl) rfl) y_Mo_fail rfl (d2 := 1) ⟨le_b rfl, pd_Mo_fail, le_b rfl⟩ (le_b rfl) og_192 (k_Mo_fail (6 : Int32) h10) (fun _ h11 => ?_)
                                            refine hp_goto hm 22 rfl (tgt := 350) rfl ?_
                                            exact hp_vr hm 17 rfl rfl (fun _ e => e)
                                          · refine hp_G hm (at1 16 rfl) (L' := [(2, (.int a30)), (0, (.ref 192)), (1, (.int x1))]) (st' := [(.long (Int32.toInt64 (rdI h10 211 (Int32.toNatClampNeg a30)))), (.ref 192)]) rfl (fun hP => (by exact ⟨og_192, ⟨og_211, hP⟩⟩)) (pc' := 347) rfl (fun q36 => ?_)
                                            refine hp_cVS (M2 := M_Mo_push) hm at0 (as := [(.long (Int32.toInt64 (rdI h10 211 (Int32.toNatClampNeg a30))))]) (rest := []) (z := 192) rfl (by exact trivial) (pc' := 347) rfl 23 rfl (lw_g (lw_at lw_m10 86 rfl) rfl) y_Mo_push rfl (d2 := 2) ⟨le_b rfl, pd_Mo_push, le_b rfl⟩ (le_b rfl) og_192 (k_Mo_push (Int32.toInt64 (rdI h10 211 (Int32.toNatClampNeg a30))) h10) (fun _ h12 => ?_)
                                            exact hp_vr hm 17 rfl rfl (fun _ e => e)
                                      · refine hp_sw hm 0 rfl (cs := [68]) (off := 350) (by decide) (tgt := 351) rfl (sw1 _ _) ?_ (fun c39 => ?_)
                                        · refine hp_cVS (M2 := M_Mo_setCvt) hm (at1 17 rfl) (as := [(.int (0 : Int32))]) (rest := []) (z := 192) rfl (by exact trivial) (pc' := 353) rfl 25 rfl (lw_g (lw_at lw_m10 187 rfl) rfl) y_Mo_setCvt rfl (d2 := 5) ⟨le_b rfl, pd_Mo_setCvt, le_b rfl⟩ (le_b rfl) og_192 (k_Mo_setCvt (0 : Int32) h) (fun _ h13 => ?_)
                                          exact hp_vr hm 26 rfl rfl (fun _ e => e)
                                        · refine hp_sw hm 0 rfl (cs := [69]) (off := 356) (by decide) (tgt := 357) rfl (sw1 _ _) ?_ (fun c45 => ?_)
                                          · refine hp_cVS (M2 := M_Mo_has) hm (at1 18 rfl) (as := [(.int (1 : Int32))]) (rest := []) (z := 192) rfl (by exact trivial) (pc' := 359) rfl 27 rfl (lw_g (lw_at lw_m10 20 rfl) rfl) y_Mo_has rfl (d2 := 2) ⟨le_b rfl, pd_Mo_has, le_b rfl⟩ (le_b rfl) og_192 (k_Mo_has (1 : Int32) h) (fun a40 h14 => ?_)
                                            refine hp_if_eq hm at0 rfl (by exact trivial) (pc' := 362) rfl 33 rfl (tgt := 387) rfl (fun c44 => ?_) (fun c44 => ?_)
                                            · exact hp_vr hm 28 rfl rfl (fun _ e => e)
                                            · refine hp_cVS (M2 := M_Mo_pop) hm (at1 19 rfl) (as := []) (rest := [(.ref 192)]) (z := 192) rfl (by exact trivial) (pc' := 367) rfl 29 rfl (lw_g (lw_at lw_m10 24 rfl) rfl) y_Mo_pop rfl (d2 := 1) ⟨le_b rfl, pd_Mo_pop, le_b rfl⟩ (le_b rfl) og_192 (k_Mo_pop h14) (fun a41 h15 => ?_)
                                              refine hp_cVS (M2 := M_Mo_cvtOf) hm at0 (as := [(.int a41)]) (rest := []) (z := 192) rfl (by exact trivial) (pc' := 370) rfl 30 rfl (lw_g (lw_at lw_m10 78 rfl) rfl) y_Mo_cvtOf rfl (d2 := 2) ⟨le_b rfl, pd_Mo_cvtOf, le_b rfl⟩ (le_b rfl) og_192 (k_Mo_cvtOf a41 h15) (fun a42 h16 => ?_)
                                              refine hp_b hm (at1 20 rfl) (L' := [(2, (.int a42)), (0, (.ref 192)), (1, (.int x1))]) (st' := [(.int (rdI h16 192 59))]) rfl (by exact og_192) (pc' := 378) rfl ?_
                                              refine hp_if_ne hm at0 rfl (by exact trivial) (pc' := 378) rfl 32 rfl (tgt := 387) rfl (fun c43 => ?_) (fun c43 => ?_)
                                              · exact hp_vr hm 28 rfl rfl (fun _ e => e)
                                              · refine hp_cVS (M2 := M_Mo_push) hm (at1 21 rfl) (as := [(.long (Int32.toInt64 a42))]) (rest := []) (z := 192) rfl (by exact trivial) (pc' := 384) rfl 31 rfl (lw_g (lw_at lw_m10 86 rfl) rfl) y_Mo_push rfl (d2 := 2) ⟨le_b rfl, pd_Mo_push, le_b rfl⟩ (le_b rfl) og_192 (k_Mo_push (Int32.toInt64 a42) h16) (fun _ h17 => ?_)
                                                exact hp_vr hm 28 rfl rfl (fun _ e => e)
                                          · refine hp_sw hm 0 rfl (cs := [70, 71]) (off := 387) (by decide) (tgt := 388) rfl (sw2 _ _ _) ?_ (fun c46 => ?_)
                                            · exact hp_lf [0, 1] rfl (fun _ e => e)
                                            · refine hp_sw hm 0 rfl (cs := [72]) (off := 459) (by decide) (tgt := 460) rfl (sw1 _ _) ?_ (fun c57 => ?_)
                                              · refine hp_cVS (M2 := M_Mo_has) hm (at1 22 rfl) (as := [(.int (2 : Int32))]) (rest := []) (z := 192) rfl (by exact trivial) (pc' := 462) rfl 34 rfl (lw_g (lw_at lw_m10 20 rfl) rfl) y_Mo_has rfl (d2 := 2) ⟨le_b rfl, pd_Mo_has, le_b rfl⟩ (le_b rfl) og_192 (k_Mo_has (2 : Int32) h) (fun a47 h18 => ?_)
                                                refine hp_if_eq hm at0 rfl (by exact trivial) (pc' := 465) rfl 43 rfl (tgt := 538) rfl (fun c56 => ?_) (fun c56 => ?_)
                                                · exact hp_vr hm 35 rfl rfl (fun _ e => e)
                                                · refine hp_cVS (M2 := M_Mo_pop) hm (at1 23 rfl) (as := []) (rest := []) (z := 192) rfl (by exact trivial) (pc' := 469) rfl 36 rfl (lw_g (lw_at lw_m10 24 rfl) rfl) y_Mo_pop rfl (d2 := 1) ⟨le_b rfl, pd_Mo_pop, le_b rfl⟩ (le_b rfl) og_192 (k_Mo_pop h18) (fun a48 h19 => ?_)
                                                  refine hp_b hm (at1 24 rfl) (L' := [(2, (.int a48)), (0, (.ref 192)), (1, (.int x1))]) (st' := [(.ref 192), (.int (rdI h19 192 74)), (.ref 192)]) rfl (by exact og_192) (pc' := 479) rfl ?_
                                                  refine hp_cVS (M2 := M_Mo_pop) hm at0 (as := []) (rest := [(.int (rdI h19 192 74)), (.ref 192)]) (z := 192) rfl (by exact trivial) (pc' := 479) rfl 37 rfl (lw_g (lw_at lw_m10 24 rfl) rfl) y_Mo_pop rfl (d2 := 1) ⟨le_b rfl, pd_Mo_pop, le_b rfl⟩ (le_b rfl) og_192 (k_Mo_pop h19) (fun a49 h20 => ?_)
                                                  refine hp_cVS (M2 := M_Mo_pointOf) hm at0 (as := [(.int (rdI h19 192 74)), (.int a49)]) (rest := []) (z := 192) rfl (by exact trivial) (pc' := 482) rfl 38 rfl (lw_g (lw_at lw_m10 28 rfl) rfl) y_Mo_pointOf rfl (d2 := 2) ⟨le_b rfl, pd_Mo_pointOf, le_b rfl⟩ (le_b rfl) og_192 (k_Mo_pointOf (rdI h19 192 74) a49 h20) (fun a50 h21 => ?_)
                                                  refine hp_b hm (at1 25 rfl) (L' := [(3, (.int a50)), (2, (.int a48)), (0, (.ref 192)), (1, (.int x1))]) (st' := [(.int (rdI h21 192 59))]) rfl (by exact og_192) (pc' := 490) rfl ?_
                                                  refine hp_if_ne hm at0 rfl (by exact trivial) (pc' := 490) rfl 42 rfl (tgt := 538) rfl (fun c55 => ?_) (fun c55 => ?_)
                                                  · exact hp_vr hm 35 rfl rfl (fun _ e => e)
                                                  · refine hp_cVP (M2 := M_Mo_longOf) hm (at1 26 rfl) (as := [(.int a50)]) (rest := [(.long (Int32.toInt64 a48)), (.int a50), (.ref 192)]) (z := 192) rfl (by exact trivial) (pc' := 499) rfl 39 rfl (lw_g (lw_at lw_m10 148 rfl) rfl) y_Mo_longOf rfl (d2 := 5) ⟨le_b rfl, pd_Mo_longOf, le_b rfl⟩ (le_b rfl) og_192 (k_Mo_longOf a50 h21) (fun a51 => ?_)
                                                    refine hp_cVS (M2 := M_Mo_move) hm (at1 27 rfl) (as := [(.int a50), (.long ((Int32.toInt64 a48) - (Int32.toInt64 a51)))]) (rest := []) (z := 192) rfl (by exact trivial) (pc' := 504) rfl 40 rfl (lw_g (lw_at lw_m10 61 rfl) rfl) y_Mo_move rfl (d2 := 5) ⟨le_b rfl, pd_Mo_move, le_b rfl⟩ (le_b rfl) og_192 (k_Mo_move a50 ((Int32.toInt64 a48) - (Int32.toInt64 a51)) h21) (fun _ h22 => ?_)
                                                    refine hp_if_ne hm (at1 28 rfl) rfl (by exact og_192) (pc' := 511) rfl 41 rfl (tgt := 538) rfl (fun c54 => ?_) (fun c54 => ?_)
                                                    · exact hp_vr hm 35 rfl rfl (fun _ e => e)
                                                    · refine hp_GW hm (at1 29 rfl) (L' := [(3, (.int a50)), (2, (.int a48)), (0, (.ref 192)), (1, (.int x1))]) rfl (fun hP => (by exact ⟨⟨⟨og_192, og_192⟩, ⟨og_214, hP⟩⟩, ⟨og_212, hP⟩⟩)) (pc' := 526) rfl (fun q52 h23 => ?_)
                                                      refine hp_GW hm (at1 30 rfl) (L' := [(3, (.int a50)), (2, (.int a48)), (0, (.ref 192)), (1, (.int x1))]) rfl (fun hP => (by exact ⟨⟨⟨og_192, og_192⟩, ⟨og_215, hP⟩⟩, ⟨og_213, hP⟩⟩)) (pc' := 538) rfl (fun q53 h24 => ?_)
                                                      exact hp_vr hm 35 rfl rfl (fun _ e => e)
                                              · refine hp_sw hm 0 rfl (cs := [73, 74]) (off := 538) (by decide) (tgt := 539) rfl (sw2 _ _ _) ?_ (fun c58 => ?_)
                                                · exact hp_lf [0, 1] rfl (fun _ e => e)
                                                · refine hp_sw hm 0 rfl (cs := [75, 76]) (off := 607) (by decide) (tgt := 608) rfl (sw2 _ _ _) ?_ (fun c59 => ?_)
                                                  · exact hp_lf [0] rfl (fun _ e => e)
                                                  · refine hp_sw hm 0 rfl (cs := [77, 78]) (off := 617) (by decide) (tgt := 618) rfl (sw2 _ _ _) ?_ (fun c60 => ?_)
                                                    · exact hp_lf [0, 1] rfl (fun _ e => e)
                                                    · refine hp_sd2 hm 0 rfl (css := [[48], [49], [50, 51, 52, 53, 54, 55], [56, 57, 60], [58, 59], [61], [62, 63], [64, 65], [66], [67], [68], [69], [70, 71], [72], [73, 74], [75, 76], [77, 78]]) (by decide) (by decide) (List.forall_mem_cons.mpr ⟨c10, (List.forall_mem_cons.mpr ⟨c11, (List.forall_mem_cons.mpr ⟨c12, (List.forall_mem_cons.mpr ⟨c13, (List.forall_mem_cons.mpr ⟨c14, (List.forall_mem_cons.mpr ⟨c15, (List.forall_mem_cons.mpr ⟨c16, (List.forall_mem_cons.mpr ⟨c17, (List.forall_mem_cons.mpr ⟨c28, (List.forall_mem_cons.mpr ⟨c38, (List.forall_mem_cons.mpr ⟨c39, (List.forall_mem_cons.mpr ⟨c45, (List.forall_mem_cons.mpr ⟨c46, (List.forall_mem_cons.mpr ⟨c57, (List.forall_mem_cons.mpr ⟨c58, (List.forall_mem_cons.mpr ⟨c59, (List.forall_mem_cons.mpr ⟨c60, (fun _ h => absurd h List.not_mem_nil)⟩)⟩)⟩)⟩)⟩)⟩)⟩)⟩)⟩)⟩)⟩)⟩)⟩)⟩)⟩)⟩)⟩) (tgt := 634) rfl ?_
                                                      refine hp_cVS (M2 := M_Mo_tests) hm (at1 31 rfl) (as := [(.int x1)]) (rest := []) (z := 192) rfl (by exact trivial) (pc' := 636) rfl 44 rfl (lw_g (lw_at lw_m10 191 rfl) rfl) y_Mo_tests rfl (d2 := 7) ⟨le_b rfl, pd_Mo_tests, le_b rfl⟩ (le_b rfl) og_192 (k_Mo_tests x1 h) (fun _ h25 => ?_)
                                                      exact hp_vr hm 45 rfl rfl (fun _ e => e)
                  · refine hp_JZ 630 (fun (p61 : Int32) => []) (fun (p61 : Int32) => [(.int p61), (.ref 192)]) (fun (p61 : Int32) => h) ?_ (fun p61 => ?_)
                    · refine hp_sv0 ?_
                      refine hp_ic_ne hm (at1 32 rfl) rfl (by exact trivial) (pc' := 622) rfl 47 rfl (tgt := 629) rfl (fun c62 => ?_) (fun c62 => ?_)
                      · refine hp_b hm (at1 33 rfl) (L' := [(0, (.ref 192)), (1, (.int x1))]) (st' := [(.int (0 : Int32)), (.ref 192)]) rfl (by exact trivial) (pc' := 630) rfl ?_
                        exact hp_lf [] rfl (fun _ e => e)
                      · refine hp_b hm (at1 34 rfl) (L' := [(0, (.ref 192)), (1, (.int x1))]) (st' := [(.int (1 : Int32)), (.ref 192)]) rfl (by exact trivial) (pc' := 626) rfl ?_
                        refine hp_goto hm 46 rfl (tgt := 630) rfl ?_
                        exact hp_lf [] rfl (fun _ e => e)
                    · refine hp_GW hm (at1 35 rfl) (L' := []) rfl (fun hP => (by exact ⟨og_192, hP⟩)) (pc' := 633) rfl (fun q63 h26 => ?_)
                      exact hp_vr hm 48 rfl rfl (fun _ e => e)
                · refine hp_cVS (M2 := M_Mo_push) hm (at1 36 rfl) (as := [(.long (Int32.toInt64 (rdI h 192 62)))]) (rest := []) (z := 192) rfl (by exact og_192) (pc' := 614) rfl 49 rfl (lw_g (lw_at lw_m10 86 rfl) rfl) y_Mo_push rfl (d2 := 2) ⟨le_b rfl, pd_Mo_push, le_b rfl⟩ (le_b rfl) og_192 (k_Mo_push (Int32.toInt64 (rdI h 192 62)) h) (fun _ h27 => ?_)
                  exact hp_vr hm 50 rfl rfl (fun _ e => e)
              · refine hp_cVS (M2 := M_Mo_has) hm (at1 37 rfl) (as := [(.int (2 : Int32))]) (rest := []) (z := 192) rfl (by exact trivial) (pc' := 541) rfl 51 rfl (lw_g (lw_at lw_m10 20 rfl) rfl) y_Mo_has rfl (d2 := 2) ⟨le_b rfl, pd_Mo_has, le_b rfl⟩ (le_b rfl) og_192 (k_Mo_has (2 : Int32) h) (fun a64 h28 => ?_)
                refine hp_if_eq hm at0 rfl (by exact trivial) (pc' := 544) rfl 63 rfl (tgt := 607) rfl (fun c74 => ?_) (fun c74 => ?_)
                · exact hp_vr hm 52 rfl rfl (fun _ e => e)
                · refine hp_cVS (M2 := M_Mo_pop) hm (at1 38 rfl) (as := []) (rest := [(.int (rdI h28 192 73)), (.ref 192)]) (z := 192) rfl (by exact og_192) (pc' := 553) rfl 53 rfl (lw_g (lw_at lw_m10 24 rfl) rfl) y_Mo_pop rfl (d2 := 1) ⟨le_b rfl, pd_Mo_pop, le_b rfl⟩ (le_b rfl) og_192 (k_Mo_pop h28) (fun a65 h29 => ?_)
                  refine hp_cVS (M2 := M_Mo_pointOf) hm at0 (as := [(.int (rdI h28 192 73)), (.int a65)]) (rest := []) (z := 192) rfl (by exact trivial) (pc' := 556) rfl 54 rfl (lw_g (lw_at lw_m10 28 rfl) rfl) y_Mo_pointOf rfl (d2 := 2) ⟨le_b rfl, pd_Mo_pointOf, le_b rfl⟩ (le_b rfl) og_192 (k_Mo_pointOf (rdI h28 192 73) a65 h29) (fun a66 h30 => ?_)
                  refine hp_b hm (at1 39 rfl) (L' := [(2, (.int a66)), (0, (.ref 192)), (1, (.int x1))]) (st' := [(.ref 192), (.int (rdI h30 192 72)), (.ref 192)]) rfl (by exact og_192) (pc' := 566) rfl ?_
                  refine hp_cVS (M2 := M_Mo_pop) hm at0 (as := []) (rest := [(.int (rdI h30 192 72)), (.ref 192)]) (z := 192) rfl (by exact trivial) (pc' := 566) rfl 55 rfl (lw_g (lw_at lw_m10 24 rfl) rfl) y_Mo_pop rfl (d2 := 1) ⟨le_b rfl, pd_Mo_pop, le_b rfl⟩ (le_b rfl) og_192 (k_Mo_pop h30) (fun a67 h31 => ?_)
                  refine hp_cVS (M2 := M_Mo_pointOf) hm at0 (as := [(.int (rdI h30 192 72)), (.int a67)]) (rest := []) (z := 192) rfl (by exact trivial) (pc' := 569) rfl 56 rfl (lw_g (lw_at lw_m10 28 rfl) rfl) y_Mo_pointOf rfl (d2 := 2) ⟨le_b rfl, pd_Mo_pointOf, le_b rfl⟩ (le_b rfl) og_192 (k_Mo_pointOf (rdI h30 192 72) a67 h31) (fun a68 h32 => ?_)
                  refine hp_b hm (at1 40 rfl) (L' := [(3, (.int a68)), (2, (.int a66)), (0, (.ref 192)), (1, (.int x1))]) (st' := [(.int (rdI h32 192 59))]) rfl (by exact og_192) (pc' := 577) rfl ?_
                  refine hp_if_ne hm at0 rfl (by exact trivial) (pc' := 577) rfl 62 rfl (tgt := 607) rfl (fun c73 => ?_) (fun c73 => ?_)
                  · exact hp_vr hm 52 rfl rfl (fun _ e => e)
                  · refine hp_J 604 (fun (p69 : Int64) => []) (fun (p69 : Int64) => [(.long p69), (.ref 192)]) (fun (p69 : Int64) => h32) ?_ (fun p69 => ?_)
                    · refine hp_ic_ne hm (at1 41 rfl) rfl (by exact trivial) (pc' := 584) rfl 60 rfl (tgt := 597) rfl (fun c72 => ?_) (fun c72 => ?_)
                      · refine hp_cVP (M2 := M_Mo_originally) hm (at1 42 rfl) (as := [(.int a68), (.int a66)]) (rest := [(.ref 192)]) (z := 192) rfl (by exact trivial) (pc' := 600) rfl 57 rfl (lw_g (lw_at lw_m10 32 rfl) rfl) y_Mo_originally rfl (d2 := 5) ⟨le_b rfl, pd_Mo_originally, le_b rfl⟩ (le_b rfl) og_192 (k_Mo_originally a68 a66 h32) (fun a70 => ?_)
                        refine hp_b hm (at1 43 rfl) (L' := [(3, (.int a68)), (2, (.int a66)), (0, (.ref 192)), (1, (.int x1))]) (st' := [(.long (Int32.toInt64 a70)), (.ref 192)]) rfl (by exact trivial) (pc' := 604) rfl ?_
                        exact hp_lf [] rfl (fun _ e => e)
                      · refine hp_cVP (M2 := M_Mo_between) hm (at1 44 rfl) (as := [(.int a68), (.int a66)]) (rest := [(.ref 192)]) (z := 192) rfl (by exact trivial) (pc' := 590) rfl 58 rfl (lw_g (lw_at lw_m10 57 rfl) rfl) y_Mo_between rfl (d2 := 5) ⟨le_b rfl, pd_Mo_between, le_b rfl⟩ (le_b rfl) og_192 (k_Mo_between a68 a66 h32) (fun a71 => ?_)
                        refine hp_b hm (at1 45 rfl) (L' := [(3, (.int a68)), (2, (.int a66)), (0, (.ref 192)), (1, (.int x1))]) (st' := [(.long (Int32.toInt64 a71)), (.ref 192)]) rfl (by exact trivial) (pc' := 594) rfl ?_
                        refine hp_goto hm 59 rfl (tgt := 604) rfl ?_
                        exact hp_lf [] rfl (fun _ e => e)
                    · refine hp_cVS (M2 := M_Mo_push) hm at0 (as := [(.long p69)]) (rest := []) (z := 192) rfl (by exact trivial) (pc' := 604) rfl 61 rfl (lw_g (lw_at lw_m10 86 rfl) rfl) y_Mo_push rfl (d2 := 2) ⟨le_b rfl, pd_Mo_push, le_b rfl⟩ (le_b rfl) og_192 (k_Mo_push p69 h32) (fun _ h33 => ?_)
                      exact hp_vr hm 52 rfl rfl (fun _ e => e)
            · refine hp_cVS (M2 := M_Mo_has) hm (at1 46 rfl) (as := [(.int (1 : Int32))]) (rest := []) (z := 192) rfl (by exact trivial) (pc' := 390) rfl 64 rfl (lw_g (lw_at lw_m10 20 rfl) rfl) y_Mo_has rfl (d2 := 2) ⟨le_b rfl, pd_Mo_has, le_b rfl⟩ (le_b rfl) og_192 (k_Mo_has (1 : Int32) h) (fun a75 h34 => ?_)
              refine hp_if_eq hm at0 rfl (by exact trivial) (pc' := 393) rfl 74 rfl (tgt := 459) rfl (fun c84 => ?_) (fun c84 => ?_)
              · exact hp_vr hm 65 rfl rfl (fun _ e => e)
              · refine hp_cVS (M2 := M_Mo_pop) hm (at1 47 rfl) (as := []) (rest := [(.int (rdI h34 192 74)), (.ref 192)]) (z := 192) rfl (by exact og_192) (pc' := 402) rfl 66 rfl (lw_g (lw_at lw_m10 24 rfl) rfl) y_Mo_pop rfl (d2 := 1) ⟨le_b rfl, pd_Mo_pop, le_b rfl⟩ (le_b rfl) og_192 (k_Mo_pop h34) (fun a76 h35 => ?_)
                refine hp_cVS (M2 := M_Mo_pointOf) hm at0 (as := [(.int (rdI h34 192 74)), (.int a76)]) (rest := []) (z := 192) rfl (by exact trivial) (pc' := 405) rfl 67 rfl (lw_g (lw_at lw_m10 28 rfl) rfl) y_Mo_pointOf rfl (d2 := 2) ⟨le_b rfl, pd_Mo_pointOf, le_b rfl⟩ (le_b rfl) og_192 (k_Mo_pointOf (rdI h34 192 74) a76 h35) (fun a77 h36 => ?_)
                refine hp_b hm (at1 48 rfl) (L' := [(2, (.int a77)), (0, (.ref 192)), (1, (.int x1))]) (st' := [(.int (rdI h36 192 59))]) rfl (by exact og_192) (pc' := 413) rfl ?_
                refine hp_if_ne hm at0 rfl (by exact trivial) (pc' := 413) rfl 73 rfl (tgt := 459) rfl (fun c83 => ?_) (fun c83 => ?_)
                · exact hp_vr hm 65 rfl rfl (fun _ e => e)
                · refine hp_J 456 (fun (p78 : Int64) => []) (fun (p78 : Int64) => [(.long p78), (.ref 192)]) (fun (p78 : Int64) => h36) ?_ (fun p78 => ?_)
                  · refine hp_ic_ne hm (at1 49 rfl) rfl (by exact trivial) (pc' := 420) rfl 71 rfl (tgt := 432) rfl (fun c82 => ?_) (fun c82 => ?_)
                    · refine hp_G hm (at1 50 rfl) (L' := [(2, (.int a77)), (0, (.ref 192)), (1, (.int x1))]) (st' := [(.int (rdI h36 192 68)), (.int (rdI h36 192 67)), (.int (rdI h36 213 (Int32.toNatClampNeg a77))), (.int (rdI h36 212 (Int32.toNatClampNeg a77))), (.ref 192)]) rfl (fun hP => (by exact ⟨⟨⟨⟨⟨og_192, ⟨og_212, hP⟩⟩, og_192⟩, ⟨og_213, hP⟩⟩, og_192⟩, og_192⟩)) (pc' := 452) rfl (fun q79 => ?_)
                      refine hp_cSP (M2 := M_Mo_by) hm at0 (as := [(.int (rdI h36 212 (Int32.toNatClampNeg a77))), (.int (rdI h36 213 (Int32.toNatClampNeg a77))), (.int (rdI h36 192 67)), (.int (rdI h36 192 68))]) (rest := [(.ref 192)]) rfl (by exact trivial) (pc' := 452) rfl 68 rfl (lw_g (lw_at lw_m10 36 rfl) rfl) y_Mo_by rfl (d2 := 4) ⟨le_b rfl, pd_Mo_by, le_b rfl⟩ (le_b rfl) (k_Mo_by (rdI h36 212 (Int32.toNatClampNeg a77)) (rdI h36 213 (Int32.toNatClampNeg a77)) (rdI h36 192 67) (rdI h36 192 68) h36) (fun a80 => ?_)
                      refine hp_b hm (at1 51 rfl) (L' := [(2, (.int a77)), (0, (.ref 192)), (1, (.int x1))]) (st' := [(.long (Int32.toInt64 a80)), (.ref 192)]) rfl (by exact trivial) (pc' := 456) rfl ?_
                      exact hp_lf [] rfl (fun _ e => e)
                    · refine hp_cVP (M2 := M_Mo_longOf) hm (at1 52 rfl) (as := [(.int a77)]) (rest := [(.ref 192)]) (z := 192) rfl (by exact trivial) (pc' := 425) rfl 69 rfl (lw_g (lw_at lw_m10 148 rfl) rfl) y_Mo_longOf rfl (d2 := 5) ⟨le_b rfl, pd_Mo_longOf, le_b rfl⟩ (le_b rfl) og_192 (k_Mo_longOf a77 h36) (fun a81 => ?_)
                      refine hp_b hm (at1 53 rfl) (L' := [(2, (.int a77)), (0, (.ref 192)), (1, (.int x1))]) (st' := [(.long (Int32.toInt64 a81)), (.ref 192)]) rfl (by exact trivial) (pc' := 429) rfl ?_
                      refine hp_goto hm 70 rfl (tgt := 456) rfl ?_
                      exact hp_lf [] rfl (fun _ e => e)
                  · refine hp_cVS (M2 := M_Mo_push) hm at0 (as := [(.long p78)]) (rest := []) (z := 192) rfl (by exact trivial) (pc' := 456) rfl 72 rfl (lw_g (lw_at lw_m10 86 rfl) rfl) y_Mo_push rfl (d2 := 2) ⟨le_b rfl, pd_Mo_push, le_b rfl⟩ (le_b rfl) og_192 (k_Mo_push p78 h36) (fun _ h37 => ?_)
                    exact hp_vr hm 65 rfl rfl (fun _ e => e)
          · refine hp_G hm (at1 54 rfl) (L' := [(0, (.ref 192)), (1, (.int x1))]) (st' := [(.int (rdI h 221 (Int32.toNatClampNeg (rdI h 192 92)))), (.int (rdI h 192 93))]) rfl (fun hP => (by exact ⟨⟨⟨og_192, og_192⟩, og_192⟩, ⟨og_221, hP⟩⟩)) (pc' := 217) rfl (fun q85 => ?_)
            refine hp_ic_lt hm at0 rfl (by exact trivial) (pc' := 217) rfl 82 rfl (tgt := 228) rfl (fun c89 => ?_) (fun c89 => ?_)
            · refine hp_cVP (M2 := M_Mo_codeByte) hm (at1 55 rfl) (as := [(.int (rdI h 192 93))]) (rest := [(.ref 192)]) (z := 192) rfl (by exact og_192) (pc' := 234) rfl 75 rfl (lw_g (lw_at lw_m10 8 rfl) rfl) y_Mo_codeByte rfl (d2 := 2) ⟨le_b rfl, pd_Mo_codeByte, le_b rfl⟩ (le_b rfl) og_192 (k_Mo_codeByte (rdI h 192 93) h) (fun a86 => ?_)
              refine hp_JZ 248 (fun (p87 : Int32) => [(0, (.ref 192))]) (fun (p87 : Int32) => [(.int p87), (.int a86), (.ref 192)]) (fun (p87 : Int32) => h) ?_ (fun p87 => ?_)
              · refine hp_sv0 ?_
                refine hp_ic_ne hm (at1 56 rfl) rfl (by exact trivial) (pc' := 240) rfl 77 rfl (tgt := 247) rfl (fun c88 => ?_) (fun c88 => ?_)
                · refine hp_b hm (at1 57 rfl) (L' := [(0, (.ref 192)), (1, (.int x1))]) (st' := [(.int (0 : Int32)), (.int a86), (.ref 192)]) rfl (by exact trivial) (pc' := 248) rfl ?_
                  exact hp_lf [0] rfl (fun _ e => e)
                · refine hp_b hm (at1 58 rfl) (L' := [(0, (.ref 192)), (1, (.int x1))]) (st' := [(.int (1 : Int32)), (.int a86), (.ref 192)]) rfl (by exact trivial) (pc' := 244) rfl ?_
                  refine hp_goto hm 76 rfl (tgt := 248) rfl ?_
                  exact hp_lf [0] rfl (fun _ e => e)
              · refine hp_cVS (M2 := M_Mo_pushBytes) hm (at1 59 rfl) (as := [(.int a86), (.int p87), (.int ((rdI h 192 93) + (1 : Int32)))]) (rest := []) (z := 192) rfl (by exact og_192) (pc' := 254) rfl 78 rfl (lw_g (lw_at lw_m10 82 rfl) rfl) y_Mo_pushBytes rfl (d2 := 4) ⟨le_b rfl, pd_Mo_pushBytes, le_b rfl⟩ (le_b rfl) og_192 (k_Mo_pushBytes a86 p87 ((rdI h 192 93) + (1 : Int32)) h) (fun _ h38 => ?_)
                exact hp_vr hm 79 rfl rfl (fun _ e => e)
            · refine hp_cVS (M2 := M_Mo_fail) hm (at1 60 rfl) (as := [(.int (4 : Int32))]) (rest := []) (z := 192) rfl (by exact trivial) (pc' := 222) rfl 80 rfl (lw_g (lw_at lw_m10 4 rfl) rfl) y_Mo_fail rfl (d2 := 1) ⟨le_b rfl, pd_Mo_fail, le_b rfl⟩ (le_b rfl) og_192 (k_Mo_fail (4 : Int32) h) (fun _ h39 => ?_)
              refine hp_goto hm 81 rfl (tgt := 257) rfl ?_
              exact hp_vr hm 79 rfl rfl (fun _ e => e)
        · refine hp_cVS (M2 := M_Mo_toCvt) hm (at1 61 rfl) (as := [(.int x1)]) (rest := []) (z := 192) rfl (by exact trivial) (pc' := 200) rfl 83 rfl (lw_g (lw_at lw_m10 183 rfl) rfl) y_Mo_toCvt rfl (d2 := 6) ⟨le_b rfl, pd_Mo_toCvt, le_b rfl⟩ (le_b rfl) og_192 (k_Mo_toCvt x1 h) (fun _ h40 => ?_)
          exact hp_vr hm 84 rfl rfl (fun _ e => e)
      · refine hp_cVS (M2 := M_Mo_toDistance) hm (at1 62 rfl) (as := [(.int x1)]) (rest := []) (z := 192) rfl (by exact trivial) (pc' := 182) rfl 85 rfl (lw_g (lw_at lw_m10 179 rfl) rfl) y_Mo_toDistance rfl (d2 := 6) ⟨le_b rfl, pd_Mo_toDistance, le_b rfl⟩ (le_b rfl) og_192 (k_Mo_toDistance x1 h) (fun _ h41 => ?_)
        exact hp_vr hm 86 rfl rfl (fun _ e => e)
    · refine hp_cVS (M2 := M_Mo_loops) hm (at1 63 rfl) (as := [(.int x1)]) (rest := []) (z := 192) rfl (by exact trivial) (pc' := 176) rfl 87 rfl (lw_g (lw_at lw_m10 171 rfl) rfl) y_Mo_loops rfl (d2 := 7) ⟨le_b rfl, pd_Mo_loops, le_b rfl⟩ (le_b rfl) og_192 (k_Mo_loops x1 h) (fun _ h42 => ?_)
      exact hp_vr hm 88 rfl rfl (fun _ e => e)
  · refine hp_cVS (M2 := M_Mo_likeReference) hm (at1 64 rfl) (as := [(.int x1)]) (rest := []) (z := 192) rfl (by exact trivial) (pc' := 170) rfl 89 rfl (lw_g (lw_at lw_m10 167 rfl) rfl) y_Mo_likeReference rfl (d2 := 6) ⟨le_b rfl, pd_Mo_likeReference, le_b rfl⟩ (le_b rfl) og_192 (k_Mo_likeReference x1 h) (fun _ h43 => ?_)
    exact hp_vr hm 90 rfl rfl (fun _ e => e)
/-! HintHouseModel.ownRounding(I)V -/
def M_Mo_ownRounding : hM := (11, ⟨"HintHouseModel", "ownRounding", "(I)V"⟩, prog_13_method_95_code, 6, (Option.none : Option Jvm.ClassFile.FieldType), [], [(0, [(.aload_n 0, 1, 0, 0, 0, .null), (.iconst 1, 1, 0, 0, 0, (.int (1 : Int32)))]), (9, [(.aload_n 0, 1, 0, 0, 0, .null)]), (13, [(.istore_n 2, 1, 0, 0, 0, .null), (.iload_n 2, 1, 0, 0, 0, .null), (.bipush 6, 2, 0, 0, 0, (.int (6 : Int32))), (.ishr, 1, 0, 0, 0, .null), (.iconst 3, 1, 0, 0, 0, (.int (3 : Int32))), (.iand, 1, 0, 0, 0, .null), (.istore_n 3, 1, 0, 0, 0, .null)]), (21, [(.iload_n 3, 1, 0, 0, 0, .null), (.iconst 3, 1, 0, 0, 0, (.int (3 : Int32)))]), (33, [(.iload_n 1, 1, 0, 0, 0, .null), (.bipush 118, 2, 0, 0, 0, (.int (118 : Int32)))]), (46, [(.iload_n 3, 1, 0, 0, 0, .null)]), (55, [(.iload_n 3, 1, 0, 0, 0, .null), (.iconst 1, 1, 0, 0, 0, (.int (1 : Int32)))]), (65, [(.bipush 90, 2, 0, 0, 0, (.int (90 : Int32)))]), (60, [(.bipush 45, 2, 0, 0, 0, (.int (45 : Int32)))]), (50, [(.bipush 22, 2, 0, 0, 0, (.int (22 : Int32)))]), (39, [(.bipush 32, 2, 0, 0, 0, (.int (32 : Int32))), (.iload_n 3, 1, 0, 0, 0, .null), (.ishl, 1, 0, 0, 0, .null)]), (67, [(.istore 4, 2, 0, 0, 0, .null), (.iload_n 2, 1, 0, 0, 0, .null), (.bipush 15, 2, 0, 0, 0, (.int (15 : Int32))), (.iand, 1, 0, 0, 0, .null), (.istore 5, 2, 0, 0, 0, .null)]), (75, [(.aload_n 0, 1, 0, 0, 0, .null), (.iload_n 1, 1, 0, 0, 0, .null), (.iload 4, 2, 0, 0, 0, .null), (.iload 4, 2, 0, 0, 0, .null), (.iload_n 2, 1, 0, 0, 0, .null), (.iconst 4, 1, 0, 0, 0, (.int (4 : Int32))), (.ishr, 1, 0, 0, 0, .null), (.iconst 3, 1, 0, 0, 0, (.int (3 : Int32))), (.iand, 1, 0, 0, 0, .null), (.imul, 1, 0, 0, 0, .null), (.iconst 4, 1, 0, 0, 0, (.int (4 : Int32))), (.idiv, 1, 0, 0, 0, .null), (.iload 5, 2, 0, 0, 0, .null)]), (101, [(.iload 5, 2, 0, 0, 0, .null), (.iconst 4, 1, 0, 0, 0, (.int (4 : Int32))), (.isub, 1, 0, 0, 0, .null), (.iload 4, 2, 0, 0, 0, .null), (.imul, 1, 0, 0, 0, .null), (.bipush 8, 2, 0, 0, 0, (.int (8 : Int32))), (.idiv, 1, 0, 0, 0, .null)]), (94, [(.iload 4, 2, 0, 0, 0, .null), (.iconst 1, 1, 0, 0, 0, (.int (1 : Int32))), (.isub, 1, 0, 0, 0, .null)]), (26, [(.aload_n 0, 1, 0, 0, 0, .null), (.bipush 11, 2, 0, 0, 0, (.int (11 : Int32)))])], [(2, .invokevirtual 576, 3), (10, .invokevirtual 579, 3), (62, .goto 5, 3), (57, .if_icmp .ne 8, 3), (52, .goto 15, 3), (47, .ifCond .ne 8, 3), (43, .goto 24, 3), (36, .if_icmp .ne 10, 3), (98, .goto 13, 3), (91, .ifCond .ne 10, 3), (111, .invokevirtual 472, 3), (114, .return_, 1), (29, .invokevirtual 421, 3), (32, .return_, 1), (23, .if_icmp .ne 10, 3), (8, .return_, 1), (5, .ifCond .ne 4, 3)])
set_option maxRecDepth 100000 in
theorem m_Mo_ownRounding : hx_mok M_Mo_ownRounding = true := by decide +kernel
theorem pd_Mo_ownRounding : (parseMethodDescriptor M_Mo_ownRounding.2.1.desc).map (fun q => q.parameters.length) = some 1 := by decide +kernel
theorem y_Mo_ownRounding : hx_okV M_Mo_ownRounding := ⟨⟨lw_g (lw_at lw_m10 213 rfl) rfl, lw_g (lw_at lw_m10 212 rfl) rfl, qs178, lw_g (lw_at lw_m1 12 rfl) rfl, rfl, by decide, by decide, by decide⟩, rfl, by decide, plainFor_of_name (by decide)⟩
noncomputable def f_Mo_ownRounding (x1 : Int32) (h : hH) : Option (Unit × hH) :=
  bS (f_Mo_has (1 : Int32) h) fun a1 h1 =>
  if a1 = 0 then (
    some ((), h1)
  ) else (
    bS (f_Mo_pop h1) fun a2 h2 =>
    lz (A := Int32) ((a2 >>> ((6 : Int32) &&& 31)) &&& (3 : Int32)) fun v3 =>
    if v3 = (3 : Int32) then (
      bS (f_Mo_fail (11 : Int32) h2) fun _ h4 =>
      some ((), h4)
    ) else (
      lz (A := Int32) (if x1 = (118 : Int32) then ((32 : Int32) <<< (v3 &&& 31)) else (if v3 = 0 then (22 : Int32) else (if v3 = (1 : Int32) then (45 : Int32) else (90 : Int32)))) fun p4 =>
      lz (A := Int32) (a2 &&& (15 : Int32)) fun v8 =>
      lz (A := Int32) (if v8 = 0 then (p4 - (1 : Int32)) else (((v8 - (4 : Int32)) * p4) / (8 : Int32))) fun p9 =>
      bS (f_Mo_setRounding x1 p4 ((p4 * ((a2 >>> ((4 : Int32) &&& 31)) &&& (3 : Int32))) / (4 : Int32)) p9 h2) fun _ h3 =>
      some ((), h3)
    )
  )
set_option maxRecDepth 20000 in
theorem k_Mo_ownRounding (x1 : Int32) (h : hH) : hx_kS S0 M_Mo_ownRounding 3 NT [(.ref 192), (.int x1)] h (f_Mo_ownRounding x1 h) cvU := by
  have hm := m_Mo_ownRounding
  show hx_P S0 M_Mo_ownRounding 3 0 [(0, (.ref 192)), (1, (.int x1))] [] NT h (f_Mo_ownRounding x1 h) (hx_Rc cvU NT)
  unfold f_Mo_ownRounding
  refine hp_cVS (M2 := M_Mo_has) hm (at1 0 rfl) (as := [(.int (1 : Int32))]) (rest := []) (z := 192) rfl (by exact trivial) (pc' := 2) rfl 0 rfl (lw_g (lw_at lw_m10 20 rfl) rfl) y_Mo_has rfl (d2 := 2) ⟨le_b rfl, pd_Mo_has, le_b rfl⟩ (le_b rfl) og_192 (k_Mo_has (1 : Int32) h) (fun a1 h1 => ?_)
  refine hp_if_ne hm at0 rfl (by exact trivial) (pc' := 5) rfl 16 rfl (tgt := 9) rfl (fun c12 => ?_) (fun c12 => ?_)
  · refine hp_cVS (M2 := M_Mo_pop) hm (at1 1 rfl) (as := []) (rest := []) (z := 192) rfl (by exact trivial) (pc' := 10) rfl 1 rfl (lw_g (lw_at lw_m10 24 rfl) rfl) y_Mo_pop rfl (d2 := 1) ⟨le_b rfl, pd_Mo_pop, le_b rfl⟩ (le_b rfl) og_192 (k_Mo_pop h1) (fun a2 h2 => ?_)
    refine hp_z hm (at1 2 rfl) (fun (v3 : Int32) => [(3, (.int v3)), (2, (.int a2)), (0, (.ref 192)), (1, (.int x1))]) (fun (v3 : Int32) => []) rfl (by exact trivial) (pc' := 21) rfl (fun v3 => ?_)
    refine hp_ic_ne hm (at1 3 rfl) rfl (by exact trivial) (pc' := 23) rfl 14 rfl (tgt := 33) rfl (fun c11 => ?_) (fun c11 => ?_)
    · refine hp_JZ 67 (fun (p4 : Int32) => [(0, (.ref 192)), (1, (.int x1)), (2, (.int a2))]) (fun (p4 : Int32) => [(.int p4)]) (fun (p4 : Int32) => h2) ?_ (fun p4 => ?_)
      · refine hp_sv0 ?_
        refine hp_ic_ne hm (at1 4 rfl) rfl (by exact trivial) (pc' := 36) rfl 7 rfl (tgt := 46) rfl (fun c7 => ?_) (fun c7 => ?_)
        · refine hp_sv0 ?_
          refine hp_if_ne hm (at1 5 rfl) rfl (by exact trivial) (pc' := 47) rfl 5 rfl (tgt := 55) rfl (fun c6 => ?_) (fun c6 => ?_)
          · refine hp_sv0 ?_
            refine hp_ic_ne hm (at1 6 rfl) rfl (by exact trivial) (pc' := 57) rfl 3 rfl (tgt := 65) rfl (fun c5 => ?_) (fun c5 => ?_)
            · refine hp_b hm (at1 7 rfl) (L' := [(3, (.int v3)), (2, (.int a2)), (0, (.ref 192)), (1, (.int x1))]) (st' := [(.int (90 : Int32))]) rfl (by exact trivial) (pc' := 67) rfl ?_
              exact hp_lf [2, 3, 1] rfl (fun _ e => e)
            · refine hp_b hm (at1 8 rfl) (L' := [(3, (.int v3)), (2, (.int a2)), (0, (.ref 192)), (1, (.int x1))]) (st' := [(.int (45 : Int32))]) rfl (by exact trivial) (pc' := 62) rfl ?_
              refine hp_goto hm 2 rfl (tgt := 67) rfl ?_
              exact hp_lf [2, 3, 1] rfl (fun _ e => e)
          · refine hp_b hm (at1 9 rfl) (L' := [(3, (.int v3)), (2, (.int a2)), (0, (.ref 192)), (1, (.int x1))]) (st' := [(.int (22 : Int32))]) rfl (by exact trivial) (pc' := 52) rfl ?_
            refine hp_goto hm 4 rfl (tgt := 67) rfl ?_
            exact hp_lf [2, 3, 1] rfl (fun _ e => e)
        · refine hp_b hm (at1 10 rfl) (L' := [(3, (.int v3)), (2, (.int a2)), (0, (.ref 192)), (1, (.int x1))]) (st' := [(.int ((32 : Int32) <<< (v3 &&& 31)))]) rfl (by exact trivial) (pc' := 43) rfl ?_
          refine hp_goto hm 6 rfl (tgt := 67) rfl ?_
          exact hp_lf [2, 3, 1] rfl (fun _ e => e)
      · refine hp_z hm (at1 11 rfl) (fun (v8 : Int32) => [(5, (.int v8)), (4, (.int p4)), (0, (.ref 192)), (1, (.int x1)), (2, (.int a2))]) (fun (v8 : Int32) => []) rfl (by exact trivial) (pc' := 75) rfl (fun v8 => ?_)
        refine hp_JZ 111 (fun (p9 : Int32) => []) (fun (p9 : Int32) => [(.int p9), (.int ((p4 * ((a2 >>> ((4 : Int32) &&& 31)) &&& (3 : Int32))) / (4 : Int32))), (.int p4), (.int x1), (.ref 192)]) (fun (p9 : Int32) => h2) ?_ (fun p9 => ?_)
        · refine hp_sv0 ?_
          refine hp_if_ne hm (at1 12 rfl) rfl (by exact (show ¬ (4 : Int32) = 0 by decide)) (pc' := 91) rfl 9 rfl (tgt := 101) rfl (fun c10 => ?_) (fun c10 => ?_)
          · refine hp_b hm (at1 13 rfl) (L' := [(5, (.int v8)), (4, (.int p4)), (0, (.ref 192)), (1, (.int x1)), (2, (.int a2))]) (st' := [(.int (((v8 - (4 : Int32)) * p4) / (8 : Int32))), (.int ((p4 * ((a2 >>> ((4 : Int32) &&& 31)) &&& (3 : Int32))) / (4 : Int32))), (.int p4), (.int x1), (.ref 192)]) rfl (by exact (show ¬ (8 : Int32) = 0 by decide)) (pc' := 111) rfl ?_
            exact hp_lf [] rfl (fun _ e => e)
          · refine hp_b hm (at1 14 rfl) (L' := [(5, (.int v8)), (4, (.int p4)), (0, (.ref 192)), (1, (.int x1)), (2, (.int a2))]) (st' := [(.int (p4 - (1 : Int32))), (.int ((p4 * ((a2 >>> ((4 : Int32) &&& 31)) &&& (3 : Int32))) / (4 : Int32))), (.int p4), (.int x1), (.ref 192)]) rfl (by exact trivial) (pc' := 98) rfl ?_
            refine hp_goto hm 8 rfl (tgt := 111) rfl ?_
            exact hp_lf [] rfl (fun _ e => e)
        · refine hp_cVS (M2 := M_Mo_setRounding) hm at0 (as := [(.int x1), (.int p4), (.int ((p4 * ((a2 >>> ((4 : Int32) &&& 31)) &&& (3 : Int32))) / (4 : Int32))), (.int p9)]) (rest := []) (z := 192) rfl (by exact trivial) (pc' := 111) rfl 10 rfl (lw_g (lw_at lw_m10 0 rfl) rfl) y_Mo_setRounding rfl (d2 := 1) ⟨le_b rfl, pd_Mo_setRounding, le_b rfl⟩ (le_b rfl) og_192 (k_Mo_setRounding x1 p4 ((p4 * ((a2 >>> ((4 : Int32) &&& 31)) &&& (3 : Int32))) / (4 : Int32)) p9 h2) (fun _ h3 => ?_)
          exact hp_vr hm 11 rfl rfl (fun _ e => e)
    · refine hp_cVS (M2 := M_Mo_fail) hm (at1 15 rfl) (as := [(.int (11 : Int32))]) (rest := []) (z := 192) rfl (by exact trivial) (pc' := 29) rfl 12 rfl (lw_g (lw_at lw_m10 4 rfl) rfl) y_Mo_fail rfl (d2 := 1) ⟨le_b rfl, pd_Mo_fail, le_b rfl⟩ (le_b rfl) og_192 (k_Mo_fail (11 : Int32) h2) (fun _ h4 => ?_)
      exact hp_vr hm 13 rfl rfl (fun _ e => e)
  · exact hp_vr hm 15 rfl rfl (fun _ e => e)
/-! HintHouseModel.defineOwn()V -/
def M_Mo_defineOwn : hM := (11, ⟨"HintHouseModel", "defineOwn", "()V"⟩, prog_13_method_76_code, 4, (Option.none : Option Jvm.ClassFile.FieldType), [], [(0, [(.aload_n 0, 1, 0, 0, 0, .null), (.iconst 1, 1, 0, 0, 0, (.int (1 : Int32)))]), (9, [(.aload_n 0, 1, 0, 0, 0, .null)]), (13, [(.istore_n 1, 1, 0, 0, 0, .null), (.aload_n 0, 1, 0, 0, 0, .null), (.getfield 493, 3, 11, 91, 0, .null), (.iconst 2, 1, 0, 0, 0, (.int (2 : Int32)))]), (28, [(.iload_n 1, 1, 0, 0, 0, .null), (.i2l, 1, 0, 0, 0, .null), (.lconst 0, 1, 0, 0, 0, (.long (0 : Int64))), (.ldc2_w 653, 3, 0, 0, 0, (.long (255 : Int64)))]), (47, [(.aload_n 0, 1, 0, 0, 0, .null), (.getfield 106, 3, 11, 96, 4, .null), (.iload_n 1, 1, 0, 0, 0, .null), (.iaload, 1, 0, 0, 0, .null)]), (56, [(.aload_n 0, 1, 0, 0, 0, .null), (.getfield 655, 3, 11, 98, 0, .null), (.aload_n 0, 1, 0, 0, 0, .null), (.getfield 325, 3, 11, 17, 0, .null)]), (67, [(.aload_n 0, 1, 0, 0, 0, .null), (.bipush 6, 2, 0, 0, 0, (.int (6 : Int32)))]), (74, [(.aload_n 0, 1, 0, 0, 0, .null), (.getfield 496, 3, 11, 93, 0, .null), (.istore_n 2, 1, 0, 0, 0, .null)]), (79, [(.aload_n 0, 1, 0, 0, 0, .null), (.getfield 427, 3, 11, 92, 0, .null), (.istore_n 3, 1, 0, 0, 0, .null)]), (84, [(.aload_n 0, 1, 0, 0, 0, .null), (.aload_n 0, 1, 0, 0, 0, .null), (.aload_n 0, 1, 0, 0, 0, .null), (.getfield 496, 3, 11, 93, 0, .null), (.bipush 45, 2, 0, 0, 0, (.int (45 : Int32))), (.bipush 45, 2, 0, 0, 0, (.int (45 : Int32))), (.iconst 0, 1, 0, 0, 0, (.int (0 : Int32)))]), (98, [(.putfield 496, 3, 11, 93, 0, .null)]), (101, [(.aload_n 0, 1, 0, 0, 0, .null), (.getfield 409, 3, 11, 59, 0, .null)]), (108, [(.aload_n 0, 1, 0, 0, 0, .null), (.dup, 1, 0, 0, 0, .null), (.getfield 655, 3, 11, 98, 0, .null), (.aload_n 0, 1, 0, 0, 0, .null), (.getfield 106, 3, 11, 96, 4, .null), (.iload_n 1, 1, 0, 0, 0, .null), (.iaload, 1, 0, 0, 0, .null)]), (126, [(.iconst 0, 1, 0, 0, 0, (.int (0 : Int32)))]), (122, [(.iconst 1, 1, 0, 0, 0, (.int (1 : Int32)))]), (127, [(.iadd, 1, 0, 0, 0, .null), (.putfield 655, 3, 11, 98, 0, .null)]), (131, [(.aload_n 0, 1, 0, 0, 0, .null), (.getfield 106, 3, 11, 96, 4, .null), (.iload_n 1, 1, 0, 0, 0, .null), (.iload_n 2, 1, 0, 0, 0, .null), (.iastore, 1, 0, 0, 0, .null)]), (138, [(.aload_n 0, 1, 0, 0, 0, .null), (.getfield 109, 3, 11, 97, 4, .null), (.iload_n 1, 1, 0, 0, 0, .null), (.iload_n 3, 1, 0, 0, 0, .null), (.iastore, 1, 0, 0, 0, .null)]), (40, [(.aload_n 0, 1, 0, 0, 0, .null), (.bipush 11, 2, 0, 0, 0, (.int (11 : Int32)))]), (22, [(.aload_n 0, 1, 0, 0, 0, .null), (.iconst 3, 1, 0, 0, 0, (.int (3 : Int32)))])], [(2, .invokevirtual 576, 3), (10, .invokevirtual 579, 3), (34, .invokestatic 263, 3), (64, .if_icmp .ne 10, 3), (53, .ifCond .ge 21, 3), (70, .invokevirtual 421, 3), (73, .return_, 1), (95, .invokevirtual 598, 3), (145, .return_, 1), (123, .goto 4, 3), (119, .ifCond .ge 7, 3), (105, .ifCond .ne 40, 3), (43, .invokevirtual 421, 3), (46, .return_, 1), (37, .ifCond .ne 10, 3), (24, .invokevirtual 421, 3), (27, .return_, 1), (19, .if_icmp .ne 9, 3), (8, .return_, 1), (5, .ifCond .ne 4, 3)])
set_option maxRecDepth 100000 in
theorem m_Mo_defineOwn : hx_mok M_Mo_defineOwn = true := by decide +kernel
theorem pd_Mo_defineOwn : (parseMethodDescriptor M_Mo_defineOwn.2.1.desc).map (fun q => q.parameters.length) = some 0 := by decide +kernel
theorem y_Mo_defineOwn : hx_okV M_Mo_defineOwn := ⟨⟨lw_g (lw_at lw_m10 222 rfl) rfl, lw_g (lw_at lw_m10 221 rfl) rfl, qs180, lw_g (lw_at lw_m1 12 rfl) rfl, rfl, by decide, by decide, by decide⟩, rfl, by decide, plainFor_of_name (by decide)⟩
noncomputable def f_Mo_defineOwn (h : hH) : Option (Unit × hH) :=
  bS (f_Mo_has (1 : Int32) h) fun a1 h1 =>
  if a1 = 0 then (
    some ((), h1)
  ) else (
    bS (f_Mo_pop h1) fun a2 h2 =>
    if (rdI h2 192 91) = (2 : Int32) then (
      bS (f_Mo_fail (3 : Int32) h2) fun _ h10 =>
      some ((), h10)
    ) else (
      bP (f_Mo_in (Int32.toInt64 a2) (0 : Int64) (255 : Int64)) fun a3 =>
      if a3 = 0 then (
        bS (f_Mo_fail (11 : Int32) h2) fun _ h9 =>
        some ((), h9)
      ) else (
        gd (vp_in a2 256) <|
        if (¬ (0 ≤ (rdI h2 224 (Int32.toNatClampNeg a2))) ∧ (rdI h2 192 98) = (rdI h2 192 17)) then (
          bS (f_Mo_fail (6 : Int32) h2) fun _ h3 =>
          some ((), h3)
        ) else (
          lz (A := Int32) (rdI h2 192 93) fun v10 =>
          lz (A := Int32) (rdI h2 192 92) fun v11 =>
          bS (f_Mo_pass (rdI h2 192 93) (45 : Int32) (45 : Int32) (0 : Int32) h2) fun a12 h4 =>
          lz (wrI h4 192 93 a12) fun h5 =>
          if (rdI h5 192 59) = 0 then (
            gd (vp_in a2 256) <|
            lz (A := Int32) (if 0 ≤ (rdI h5 224 (Int32.toNatClampNeg a2)) then (0 : Int32) else (1 : Int32)) fun p14 =>
            lz (wrI h5 192 98 ((rdI h5 192 98) + p14)) fun h6 =>
            gd (vp_in a2 256) <|
            lz (wrI h6 224 (Int32.toNatClampNeg a2) v10) fun h7 =>
            gd (vp_in a2 256) <|
            lz (wrI h7 225 (Int32.toNatClampNeg a2) v11) fun h8 =>
            some ((), h8)
          ) else (
            some ((), h5)
          )
        )
      )
    )
  )
set_option maxRecDepth 20000 in
theorem k_Mo_defineOwn (h : hH) : hx_kS S0 M_Mo_defineOwn 5 NT [(.ref 192)] h (f_Mo_defineOwn h) cvU := by
  have hm := m_Mo_defineOwn
  show hx_P S0 M_Mo_defineOwn 5 0 [(0, (.ref 192))] [] NT h (f_Mo_defineOwn h) (hx_Rc cvU NT)
  unfold f_Mo_defineOwn
  refine hp_cVS (M2 := M_Mo_has) hm (at1 0 rfl) (as := [(.int (1 : Int32))]) (rest := []) (z := 192) rfl (by exact trivial) (pc' := 2) rfl 0 rfl (lw_g (lw_at lw_m10 20 rfl) rfl) y_Mo_has rfl (d2 := 2) ⟨le_b rfl, pd_Mo_has, le_b rfl⟩ (le_b rfl) og_192 (k_Mo_has (1 : Int32) h) (fun a1 h1 => ?_)
  refine hp_if_ne hm at0 rfl (by exact trivial) (pc' := 5) rfl 19 rfl (tgt := 9) rfl (fun c21 => ?_) (fun c21 => ?_)
  · refine hp_cVS (M2 := M_Mo_pop) hm (at1 1 rfl) (as := []) (rest := []) (z := 192) rfl (by exact trivial) (pc' := 10) rfl 1 rfl (lw_g (lw_at lw_m10 24 rfl) rfl) y_Mo_pop rfl (d2 := 1) ⟨le_b rfl, pd_Mo_pop, le_b rfl⟩ (le_b rfl) og_192 (k_Mo_pop h1) (fun a2 h2 => ?_)
    refine hp_b hm (at1 2 rfl) (L' := [(1, (.int a2)), (0, (.ref 192))]) (st' := [(.int (2 : Int32)), (.int (rdI h2 192 91))]) rfl (by exact og_192) (pc' := 19) rfl ?_
    refine hp_ic_ne hm at0 rfl (by exact trivial) (pc' := 19) rfl 17 rfl (tgt := 28) rfl (fun c20 => ?_) (fun c20 => ?_)
    · refine hp_cSP (M2 := M_Mo_in) hm (at1 3 rfl) (as := [(.long (Int32.toInt64 a2)), (.long (0 : Int64)), (.long (255 : Int64))]) (rest := []) rfl (by exact trivial) (pc' := 34) rfl 2 rfl (lw_g (lw_at lw_m9 184 rfl) rfl) y_Mo_in rfl (d2 := 1) ⟨le_b rfl, pd_Mo_in, le_b rfl⟩ (le_b rfl) (k_Mo_in (Int32.toInt64 a2) (0 : Int64) (255 : Int64) h2) (fun a3 => ?_)
      refine hp_if_ne hm at0 rfl (by exact trivial) (pc' := 37) rfl 14 rfl (tgt := 47) rfl (fun c19 => ?_) (fun c19 => ?_)
      · refine hp_G hm (at1 4 rfl) (L' := [(1, (.int a2)), (0, (.ref 192))]) (st' := [(.int (rdI h2 224 (Int32.toNatClampNeg a2)))]) rfl (fun hP => (by exact ⟨og_192, ⟨og_224, hP⟩⟩)) (pc' := 53) rfl (fun q4 => ?_)
        refine hp_cI (L0 := [(1, (.int a2)), (0, (.ref 192))]) (s0 := []) 67 74 ?_ (fun c9 => ?_) (fun c9 => ?_)
        · refine hp_nand ?_
          refine hp_if_ge hm at0 rfl (by exact trivial) (pc' := 53) rfl 4 rfl (tgt := 74) rfl (fun c6 => ?_) (fun c6 => ?_)
          · exact hp_l0 (fun _ e => e)
          · refine hp_dec ?_
            refine hp_ic_ne hm (at1 5 rfl) rfl (by exact ⟨og_192, og_192⟩) (pc' := 64) rfl 3 rfl (tgt := 74) rfl (fun c5 => ?_) (fun c5 => ?_)
            · exact hp_l0 (fun _ e => e)
            · exact hp_l0 (fun _ e => e)
        · refine hp_cVS (M2 := M_Mo_fail) hm (at1 6 rfl) (as := [(.int (6 : Int32))]) (rest := []) (z := 192) rfl (by exact trivial) (pc' := 70) rfl 5 rfl (lw_g (lw_at lw_m10 4 rfl) rfl) y_Mo_fail rfl (d2 := 1) ⟨le_b rfl, pd_Mo_fail, le_b rfl⟩ (le_b rfl) og_192 (k_Mo_fail (6 : Int32) h2) (fun _ h3 => ?_)
          exact hp_vr hm 6 rfl rfl (fun _ e => e)
        · refine hp_z hm (at1 7 rfl) (fun (v10 : Int32) => [(2, (.int v10)), (1, (.int a2)), (0, (.ref 192))]) (fun (v10 : Int32) => []) rfl (by exact og_192) (pc' := 79) rfl (fun v10 => ?_)
          refine hp_z hm (at1 8 rfl) (fun (v11 : Int32) => [(3, (.int v11)), (2, (.int v10)), (1, (.int a2)), (0, (.ref 192))]) (fun (v11 : Int32) => []) rfl (by exact og_192) (pc' := 84) rfl (fun v11 => ?_)
          refine hp_cVS (M2 := M_Mo_pass) hm (at1 9 rfl) (as := [(.int (rdI h2 192 93)), (.int (45 : Int32)), (.int (45 : Int32)), (.int (0 : Int32))]) (rest := [(.ref 192)]) (z := 192) rfl (by exact og_192) (pc' := 95) rfl 7 rfl (lw_g (lw_at lw_m10 116 rfl) rfl) y_Mo_pass rfl (d2 := 4) ⟨le_b rfl, pd_Mo_pass, le_b rfl⟩ (le_b rfl) og_192 (k_Mo_pass (rdI h2 192 93) (45 : Int32) (45 : Int32) (0 : Int32) h2) (fun a12 h4 => ?_)
          refine hp_w hm (at1 10 rfl) (L' := [(3, (.int v11)), (2, (.int v10)), (1, (.int a2)), (0, (.ref 192))]) rfl (by exact og_192) (pc' := 101) rfl (fun h5 => ?_)
          refine hp_if_ne hm (at1 11 rfl) rfl (by exact og_192) (pc' := 105) rfl 11 rfl (tgt := 145) rfl (fun c18 => ?_) (fun c18 => ?_)
          · exact hp_vr hm 8 rfl rfl (fun _ e => e)
          · refine hp_G hm (at1 12 rfl) (L' := [(3, (.int v11)), (2, (.int v10)), (1, (.int a2)), (0, (.ref 192))]) (st' := [(.int (rdI h5 224 (Int32.toNatClampNeg a2))), (.int (rdI h5 192 98)), (.ref 192)]) rfl (fun hP => (by exact ⟨⟨og_192, og_192⟩, ⟨og_224, hP⟩⟩)) (pc' := 119) rfl (fun q13 => ?_)
            refine hp_JZ 127 (fun (p14 : Int32) => [(0, (.ref 192)), (1, (.int a2)), (2, (.int v10)), (3, (.int v11))]) (fun (p14 : Int32) => [(.int p14), (.int (rdI h5 192 98)), (.ref 192)]) (fun (p14 : Int32) => h5) ?_ (fun p14 => ?_)
            · refine hp_sv0 ?_
              refine hp_if_ge hm at0 rfl (by exact trivial) (pc' := 119) rfl 10 rfl (tgt := 126) rfl (fun c15 => ?_) (fun c15 => ?_)
              · refine hp_b hm (at1 13 rfl) (L' := [(3, (.int v11)), (2, (.int v10)), (1, (.int a2)), (0, (.ref 192))]) (st' := [(.int (0 : Int32)), (.int (rdI h5 192 98)), (.ref 192)]) rfl (by exact trivial) (pc' := 127) rfl ?_
                exact hp_lf [3, 2, 1, 0] rfl (fun _ e => e)
              · refine hp_b hm (at1 14 rfl) (L' := [(3, (.int v11)), (2, (.int v10)), (1, (.int a2)), (0, (.ref 192))]) (st' := [(.int (1 : Int32)), (.int (rdI h5 192 98)), (.ref 192)]) rfl (by exact trivial) (pc' := 123) rfl ?_
                refine hp_goto hm 9 rfl (tgt := 127) rfl ?_
                exact hp_lf [3, 2, 1, 0] rfl (fun _ e => e)
            · refine hp_w hm (at1 15 rfl) (L' := [(0, (.ref 192)), (1, (.int a2)), (2, (.int v10)), (3, (.int v11))]) rfl (by exact og_192) (pc' := 131) rfl (fun h6 => ?_)
              refine hp_GW hm (at1 16 rfl) (L' := [(0, (.ref 192)), (1, (.int a2)), (2, (.int v10)), (3, (.int v11))]) rfl (fun hP => (by exact ⟨og_192, ⟨og_224, hP⟩⟩)) (pc' := 138) rfl (fun q16 h7 => ?_)
              refine hp_GW hm (at1 17 rfl) (L' := [(0, (.ref 192)), (1, (.int a2)), (2, (.int v10)), (3, (.int v11))]) rfl (fun hP => (by exact ⟨og_192, ⟨og_225, hP⟩⟩)) (pc' := 145) rfl (fun q17 h8 => ?_)
              exact hp_vr hm 8 rfl rfl (fun _ e => e)
      · refine hp_cVS (M2 := M_Mo_fail) hm (at1 18 rfl) (as := [(.int (11 : Int32))]) (rest := []) (z := 192) rfl (by exact trivial) (pc' := 43) rfl 12 rfl (lw_g (lw_at lw_m10 4 rfl) rfl) y_Mo_fail rfl (d2 := 1) ⟨le_b rfl, pd_Mo_fail, le_b rfl⟩ (le_b rfl) og_192 (k_Mo_fail (11 : Int32) h2) (fun _ h9 => ?_)
        exact hp_vr hm 13 rfl rfl (fun _ e => e)
    · refine hp_cVS (M2 := M_Mo_fail) hm (at1 19 rfl) (as := [(.int (3 : Int32))]) (rest := []) (z := 192) rfl (by exact trivial) (pc' := 24) rfl 15 rfl (lw_g (lw_at lw_m10 4 rfl) rfl) y_Mo_fail rfl (d2 := 1) ⟨le_b rfl, pd_Mo_fail, le_b rfl⟩ (le_b rfl) og_192 (k_Mo_fail (3 : Int32) h2) (fun _ h10 => ?_)
      exact hp_vr hm 16 rfl rfl (fun _ e => e)
  · exact hp_vr hm 18 rfl rfl (fun _ e => e)
/-! HintHouseModel.more(I)V -/
def M_Mo_more : hM := (11, ⟨"HintHouseModel", "more", "(I)V"⟩, prog_13_method_96_code, 6, (Option.none : Option Jvm.ClassFile.FieldType), [], [(0, [(.iload_n 1, 1, 0, 0, 0, .null)]), (72, [(.aload_n 0, 1, 0, 0, 0, .null), (.aload_n 0, 1, 0, 0, 0, .null), (.getfield 469, 3, 11, 75, 0, .null)]), (83, [(.iconst 0, 1, 0, 0, 0, (.int (0 : Int32))), (.istore_n 2, 1, 0, 0, 0, .null)]), (85, [(.iload_n 2, 1, 0, 0, 0, .null), (.aload_n 0, 1, 0, 0, 0, .null), (.getfield 469, 3, 11, 75, 0, .null)]), (93, [(.aload_n 0, 1, 0, 0, 0, .null), (.getfield 409, 3, 11, 59, 0, .null)]), (100, [(.aload_n 0, 1, 0, 0, 0, .null), (.aload_n 0, 1, 0, 0, 0, .null), (.getfield 460, 3, 11, 72, 0, .null), (.aload_n 0, 1, 0, 0, 0, .null)]), (112, [(.istore_n 3, 1, 0, 0, 0, .null), (.aload_n 0, 1, 0, 0, 0, .null), (.getfield 409, 3, 11, 59, 0, .null)]), (120, [(.aload_n 0, 1, 0, 0, 0, .null), (.getfield 460, 3, 11, 72, 0, .null), (.iconst 1, 1, 0, 0, 0, (.int (1 : Int32)))]), (128, [(.iload_n 3, 1, 0, 0, 0, .null), (.bipush 102, 2, 0, 0, 0, (.int (102 : Int32))), (.isub, 1, 0, 0, 0, .null), (.aload_n 0, 1, 0, 0, 0, .null), (.getfield 514, 3, 11, 52, 0, .null), (.iconst 2, 1, 0, 0, 0, (.int (2 : Int32))), (.isub, 1, 0, 0, 0, .null)]), (141, [(.aload_n 0, 1, 0, 0, 0, .null), (.iconst 5, 1, 0, 0, 0, (.int (5 : Int32)))]), (149, [(.aload_n 0, 1, 0, 0, 0, .null), (.getfield 409, 3, 11, 59, 0, .null)]), (156, [(.aload_n 0, 1, 0, 0, 0, .null), (.getfield 85, 3, 11, 51, 4, .null), (.iload_n 3, 1, 0, 0, 0, .null), (.bipush 102, 2, 0, 0, 0, (.int (102 : Int32))), (.isub, 1, 0, 0, 0, .null), (.aload_n 0, 1, 0, 0, 0, .null), (.getfield 85, 3, 11, 51, 4, .null), (.iload_n 3, 1, 0, 0, 0, .null), (.bipush 102, 2, 0, 0, 0, (.int (102 : Int32))), (.isub, 1, 0, 0, 0, .null), (.baload, 1, 101, 0, 0, .null)]), (180, [(.iconst 0, 1, 0, 0, 0, (.int (0 : Int32)))]), (176, [(.iconst 1, 1, 0, 0, 0, (.int (1 : Int32)))]), (181, [(.bastore, 1, 101, 0, 0, .null)]), (182, [(.iinc 2 1, 3, 0, 0, 0, (.int (1 : Int32)))]), (188, [(.aload_n 0, 1, 0, 0, 0, .null), (.iconst 1, 1, 0, 0, 0, (.int (1 : Int32))), (.putfield 469, 3, 11, 75, 0, .null)]), (294, [(.aload_n 0, 1, 0, 0, 0, .null), (.aload_n 0, 1, 0, 0, 0, .null), (.iconst 1, 1, 0, 0, 0, (.int (1 : Int32)))]), (310, [(.iconst 0, 1, 0, 0, 0, (.int (0 : Int32)))]), (303, [(.aload_n 0, 1, 0, 0, 0, .null)]), (311, [(.putfield 739, 3, 11, 87, 0, .null)]), (513, [(.aload_n 0, 1, 0, 0, 0, .null), (.iconst 1, 1, 0, 0, 0, (.int (1 : Int32)))]), (521, [(.aload_n 0, 1, 0, 0, 0, .null), (.aload_n 0, 1, 0, 0, 0, .null)]), (526, [(.iconst 1, 1, 0, 0, 0, (.int (1 : Int32))), (.iand, 1, 0, 0, 0, .null)]), (537, [(.lconst 0, 1, 0, 0, 0, (.long (0 : Int64)))]), (531, [(.ldc2_w 742, 3, 0, 0, 0, (.long (35 : Int64)))]), (542, [(.aload_n 0, 1, 0, 0, 0, .null)]), (547, [(.aload_n 0, 1, 0, 0, 0, .null), (.iconst 3, 1, 0, 0, 0, (.int (3 : Int32)))]), (555, [(.aload_n 0, 1, 0, 0, 0, .null), (.getfield 91, 3, 11, 55, 4, .null), (.aload_n 0, 1, 0, 0, 0, .null), (.getfield 418, 3, 11, 56, 0, .null), (.iconst 3, 1, 0, 0, 0, (.int (3 : Int32))), (.isub, 1, 0, 0, 0, .null), (.iaload, 1, 0, 0, 0, .null), (.istore_n 2, 1, 0, 0, 0, .null)]), (567, [(.aload_n 0, 1, 0, 0, 0, .null), (.getfield 91, 3, 11, 55, 4, .null), (.aload_n 0, 1, 0, 0, 0, .null), (.getfield 418, 3, 11, 56, 0, .null), (.iconst 3, 1, 0, 0, 0, (.int (3 : Int32))), (.isub, 1, 0, 0, 0, .null), (.aload_n 0, 1, 0, 0, 0, .null), (.getfield 91, 3, 11, 55, 4, .null), (.aload_n 0, 1, 0, 0, 0, .null), (.getfield 418, 3, 11, 56, 0, .null), (.iconst 2, 1, 0, 0, 0, (.int (2 : Int32))), (.isub, 1, 0, 0, 0, .null), (.iaload, 1, 0, 0, 0, .null), (.iastore, 1, 0, 0, 0, .null)]), (589, [(.aload_n 0, 1, 0, 0, 0, .null), (.getfield 91, 3, 11, 55, 4, .null), (.aload_n 0, 1, 0, 0, 0, .null), (.getfield 418, 3, 11, 56, 0, .null), (.iconst 2, 1, 0, 0, 0, (.int (2 : Int32))), (.isub, 1, 0, 0, 0, .null), (.aload_n 0, 1, 0, 0, 0, .null), (.getfield 91, 3, 11, 55, 4, .null), (.aload_n 0, 1, 0, 0, 0, .null), (.getfield 418, 3, 11, 56, 0, .null), (.iconst 1, 1, 0, 0, 0, (.int (1 : Int32))), (.isub, 1, 0, 0, 0, .null), (.iaload, 1, 0, 0, 0, .null), (.iastore, 1, 0, 0, 0, .null)]), (611, [(.aload_n 0, 1, 0, 0, 0, .null), (.getfield 91, 3, 11, 55, 4, .null), (.aload_n 0, 1, 0, 0, 0, .null), (.getfield 418, 3, 11, 56, 0, .null), (.iconst 1, 1, 0, 0, 0, (.int (1 : Int32))), (.isub, 1, 0, 0, 0, .null), (.iload_n 2, 1, 0, 0, 0, .null), (.iastore, 1, 0, 0, 0, .null)]), (624, [(.aload_n 0, 1, 0, 0, 0, .null), (.aload_n 0, 1, 0, 0, 0, .null), (.iconst 1, 1, 0, 0, 0, (.int (1 : Int32)))]), (640, [(.iconst 0, 1, 0, 0, 0, (.int (0 : Int32)))]), (633, [(.aload_n 0, 1, 0, 0, 0, .null)]), (641, [(.putfield 747, 3, 11, 88, 0, .null)]), (315, [(.aload_n 0, 1, 0, 0, 0, .null), (.iconst 2, 1, 0, 0, 0, (.int (2 : Int32)))]), (323, [(.aload_n 0, 1, 0, 0, 0, .null), (.aload_n 0, 1, 0, 0, 0, .null), (.getfield 466, 3, 11, 74, 0, .null), (.aload_n 0, 1, 0, 0, 0, .null)]), (335, [(.istore_n 2, 1, 0, 0, 0, .null), (.aload_n 0, 1, 0, 0, 0, .null), (.aload_n 0, 1, 0, 0, 0, .null), (.getfield 463, 3, 11, 73, 0, .null), (.aload_n 0, 1, 0, 0, 0, .null)]), (348, [(.istore_n 3, 1, 0, 0, 0, .null), (.aload_n 0, 1, 0, 0, 0, .null), (.getfield 409, 3, 11, 59, 0, .null)]), (356, [(.iload_n 1, 1, 0, 0, 0, .null), (.sipush 135, 3, 0, 0, 0, (.int (135 : Int32)))]), (367, [(.iconst 0, 1, 0, 0, 0, (.int (0 : Int32)))]), (363, [(.iconst 1, 1, 0, 0, 0, (.int (1 : Int32)))]), (368, [(.istore 4, 2, 0, 0, 0, .null), (.aload_n 0, 1, 0, 0, 0, .null), (.aload_n 0, 1, 0, 0, 0, .null), (.getfield 70, 3, 11, 46, 4, .null), (.iload_n 3, 1, 0, 0, 0, .null), (.iaload, 1, 0, 0, 0, .null), (.aload_n 0, 1, 0, 0, 0, .null), (.getfield 70, 3, 11, 46, 4, .null), (.iload_n 2, 1, 0, 0, 0, .null), (.iaload, 1, 0, 0, 0, .null), (.isub, 1, 0, 0, 0, .null), (.aload_n 0, 1, 0, 0, 0, .null), (.getfield 73, 3, 11, 47, 4, .null), (.iload_n 3, 1, 0, 0, 0, .null), (.iaload, 1, 0, 0, 0, .null), (.aload_n 0, 1, 0, 0, 0, .null), (.getfield 73, 3, 11, 47, 4, .null), (.iload_n 2, 1, 0, 0, 0, .null), (.iaload, 1, 0, 0, 0, .null), (.isub, 1, 0, 0, 0, .null)]), (400, [(.aload_n 0, 1, 0, 0, 0, .null), (.iload 4, 2, 0, 0, 0, .null)]), (414, [(.aload_n 0, 1, 0, 0, 0, .null), (.getfield 533, 3, 11, 105, 0, .null)]), (406, [(.aload_n 0, 1, 0, 0, 0, .null), (.getfield 536, 3, 11, 106, 0, .null), (.ineg, 1, 0, 0, 0, .null)]), (418, [(.putfield 445, 3, 11, 67, 0, .null)]), (421, [(.aload_n 0, 1, 0, 0, 0, .null), (.iload 4, 2, 0, 0, 0, .null)]), (434, [(.aload_n 0, 1, 0, 0, 0, .null), (.getfield 536, 3, 11, 106, 0, .null)]), (427, [(.aload_n 0, 1, 0, 0, 0, .null), (.getfield 533, 3, 11, 105, 0, .null)]), (438, [(.putfield 448, 3, 11, 68, 0, .null)]), (441, [(.aload_n 0, 1, 0, 0, 0, .null), (.aload_n 0, 1, 0, 0, 0, .null), (.getfield 76, 3, 11, 48, 4, .null), (.iload_n 3, 1, 0, 0, 0, .null), (.iaload, 1, 0, 0, 0, .null), (.aload_n 0, 1, 0, 0, 0, .null), (.getfield 76, 3, 11, 48, 4, .null), (.iload_n 2, 1, 0, 0, 0, .null), (.iaload, 1, 0, 0, 0, .null), (.isub, 1, 0, 0, 0, .null), (.aload_n 0, 1, 0, 0, 0, .null), (.getfield 79, 3, 11, 49, 4, .null), (.iload_n 3, 1, 0, 0, 0, .null), (.iaload, 1, 0, 0, 0, .null), (.aload_n 0, 1, 0, 0, 0, .null), (.getfield 79, 3, 11, 49, 4, .null), (.iload_n 2, 1, 0, 0, 0, .null), (.iaload, 1, 0, 0, 0, .null), (.isub, 1, 0, 0, 0, .null)]), (471, [(.aload_n 0, 1, 0, 0, 0, .null), (.iload 4, 2, 0, 0, 0, .null)]), (485, [(.aload_n 0, 1, 0, 0, 0, .null), (.getfield 533, 3, 11, 105, 0, .null)]), (477, [(.aload_n 0, 1, 0, 0, 0, .null), (.getfield 536, 3, 11, 106, 0, .null), (.ineg, 1, 0, 0, 0, .null)]), (489, [(.putfield 439, 3, 11, 65, 0, .null)]), (492, [(.aload_n 0, 1, 0, 0, 0, .null), (.iload 4, 2, 0, 0, 0, .null)]), (505, [(.aload_n 0, 1, 0, 0, 0, .null), (.getfield 536, 3, 11, 106, 0, .null)]), (498, [(.aload_n 0, 1, 0, 0, 0, .null), (.getfield 533, 3, 11, 105, 0, .null)]), (509, [(.putfield 442, 3, 11, 66, 0, .null)]), (645, [(.aload_n 0, 1, 0, 0, 0, .null), (.iload_n 1, 1, 0, 0, 0, .null)]), (194, [(.aload_n 0, 1, 0, 0, 0, .null), (.iconst 2, 1, 0, 0, 0, (.int (2 : Int32)))]), (202, [(.aload_n 0, 1, 0, 0, 0, .null)]), (206, [(.istore_n 2, 1, 0, 0, 0, .null), (.aload_n 0, 1, 0, 0, 0, .null)]), (211, [(.istore_n 3, 1, 0, 0, 0, .null), (.aload_n 0, 1, 0, 0, 0, .null), (.getfield 706, 3, 11, 53, 0, .null)]), (223, [(.aload_n 0, 1, 0, 0, 0, .null), (.getfield 88, 3, 11, 54, 4, .null), (.aload_n 0, 1, 0, 0, 0, .null), (.getfield 706, 3, 11, 53, 0, .null), (.iconst 1, 1, 0, 0, 0, (.int (1 : Int32))), (.isub, 1, 0, 0, 0, .null), (.iaload, 1, 0, 0, 0, .null), (.iconst 1, 1, 0, 0, 0, (.int (1 : Int32))), (.iadd, 1, 0, 0, 0, .null)]), (219, [(.iconst 0, 1, 0, 0, 0, (.int (0 : Int32)))]), (236, [(.istore 4, 2, 0, 0, 0, .null), (.iload_n 3, 1, 0, 0, 0, .null), (.iload_n 2, 1, 0, 0, 0, .null)]), (243, [(.iload_n 3, 1, 0, 0, 0, .null)]), (247, [(.iload_n 2, 1, 0, 0, 0, .null), (.iload 4, 2, 0, 0, 0, .null)]), (253, [(.aload_n 0, 1, 0, 0, 0, .null), (.iconst 5, 1, 0, 0, 0, (.int (5 : Int32)))]), (259, [(.iload_n 3, 1, 0, 0, 0, .null), (.istore 5, 2, 0, 0, 0, .null)]), (262, [(.iload 5, 2, 0, 0, 0, .null), (.iload_n 2, 1, 0, 0, 0, .null)]), (268, [(.aload_n 0, 1, 0, 0, 0, .null), (.getfield 85, 3, 11, 51, 4, .null), (.iload 5, 2, 0, 0, 0, .null), (.iload_n 1, 1, 0, 0, 0, .null), (.sipush 129, 3, 0, 0, 0, (.int (129 : Int32)))]), (285, [(.iconst 0, 1, 0, 0, 0, (.int (0 : Int32)))]), (281, [(.iconst 1, 1, 0, 0, 0, (.int (1 : Int32)))]), (286, [(.bastore, 1, 101, 0, 0, .null)]), (287, [(.iinc 5 1, 3, 0, 0, 0, (.int (1 : Int32)))])], [(1, .tableswitch 644 128 141 #[71, 193, 193, 644, 644, 293, 314, 314, 512, 541, 546, 644, 644, 623], 71), (77, .invokevirtual 576, 3), (193, .return_, 1), (97, .ifCond .ne 91, 3), (90, .if_icmp .ge 98, 3), (106, .invokevirtual 579, 3), (109, .invokevirtual 582, 3), (138, .if_icmp .lt 11, 3), (125, .if_icmp .ne 16, 3), (117, .ifCond .ne 32, 3), (143, .invokevirtual 421, 3), (146, .goto 36, 3), (177, .goto 4, 3), (173, .ifCond .ne 7, 3), (153, .ifCond .ne 29, 3), (185, .goto (-100), 3), (80, .ifCond .eq 113, 3), (297, .invokevirtual 576, 3), (304, .invokevirtual 579, 3), (307, .goto 4, 3), (300, .ifCond .eq 10, 3), (314, .return_, 1), (515, .invokevirtual 576, 3), (541, .return_, 1), (523, .invokevirtual 579, 3), (534, .goto 4, 3), (528, .ifCond .eq 9, 3), (538, .invokevirtual 564, 3), (518, .ifCond .eq 23, 3), (543, .invokevirtual 744, 3), (546, .return_, 1), (549, .invokevirtual 576, 3), (623, .return_, 1), (552, .ifCond .eq 71, 3), (627, .invokevirtual 576, 3), (634, .invokevirtual 579, 3), (637, .goto 4, 3), (630, .ifCond .eq 10, 3), (644, .return_, 1), (317, .invokevirtual 576, 3), (512, .return_, 1), (329, .invokevirtual 579, 3), (332, .invokevirtual 582, 3), (342, .invokevirtual 579, 3), (345, .invokevirtual 582, 3), (364, .goto 4, 3), (360, .if_icmp .ne 7, 3), (397, .invokevirtual 586, 3), (411, .goto 7, 3), (403, .ifCond .eq 11, 3), (431, .goto 7, 3), (424, .ifCond .eq 10, 3), (468, .invokevirtual 586, 3), (482, .goto 7, 3), (474, .ifCond .eq 11, 3), (502, .goto 7, 3), (495, .ifCond .eq 10, 3), (353, .ifCond .ne 159, 3), (320, .ifCond .eq 192, 3), (647, .invokevirtual 650, 3), (650, .return_, 1), (196, .invokevirtual 576, 3), (293, .return_, 1), (203, .invokevirtual 579, 3), (208, .invokevirtual 579, 3), (220, .goto 16, 3), (216, .ifCond .ne 7, 3), (250, .if_icmp .lt 9, 3), (244, .ifCond .lt 9, 3), (240, .if_icmp .gt 19, 3), (255, .invokevirtual 421, 3), (258, .return_, 1), (282, .goto 4, 3), (278, .if_icmp .ne 7, 3), (290, .goto (-28), 3), (265, .if_icmp .gt 28, 3), (199, .ifCond .eq 94, 3)])
set_option maxRecDepth 100000 in
theorem m_Mo_more : hx_mok M_Mo_more = true := by decide +kernel
theorem pd_Mo_more : (parseMethodDescriptor M_Mo_more.2.1.desc).map (fun q => q.parameters.length) = some 1 := by decide +kernel
theorem y_Mo_more : hx_okV M_Mo_more := ⟨⟨lw_g (lw_at lw_m10 217 rfl) rfl, lw_g (lw_at lw_m10 216 rfl) rfl, qs179, lw_g (lw_at lw_m1 12 rfl) rfl, rfl, by decide, by decide, by decide⟩, rfl, by decide, plainFor_of_name (by decide)⟩
noncomputable def f_Mo_more (x1 : Int32) (h : hH) : Option (Unit × hH) :=
  bE (P := Unit) (X := (Unit × hH)) (
    bE (P := Unit) (X := (Unit ⊕ (Unit × hH))) (
      bE (P := Unit) (X := (Unit ⊕ (Unit ⊕ (Unit × hH)))) (
        if x1 = (128 : Int32) then (
          bS (f_Mo_has (rdI h 192 75) h) fun a4 h1 =>
          if a4 = 0 then (
            some (.inr (.inr (.inr ((), h1))))
          ) else (
            bP (A := hH) (
              wh (A := (Int32 × hH)) (B := hH) (fun p5 =>
                  if (¬ ((rdI p5.2 192 75) ≤ p5.1) ∧ (rdI p5.2 192 59) = 0) then (
                    bS (f_Mo_pop p5.2) fun a12 h2 =>
                    bS (f_Mo_pointOf (rdI p5.2 192 72) a12 h2) fun a13 h3 =>
                    bP (A := hH) (
                      cO (
                        if (rdI h3 192 59) = 0 then (
                          if ((rdI h3 192 72) = (1 : Int32) ∧ (a13 - (102 : Int32)) < ((rdI h3 192 52) - (2 : Int32))) then (
                            some false
                          ) else (
                            some true
                          )
                        ) else (
                          some false
                        )
                      ) (
                        bS (f_Mo_fail (5 : Int32) h3) fun _ h4 =>
                        some h4
                      ) (
                        if (rdI h3 192 59) = 0 then (
                          gd (vp_in (a13 - (102 : Int32)) 102) <|
                          lz (A := Int32) (if (rdI h3 217 (Int32.toNatClampNeg (a13 - (102 : Int32)))) = 0 then (1 : Int32) else (0 : Int32)) fun p28 =>
                          gd (vp_in (a13 - (102 : Int32)) 102) <|
                          lz (wrI h3 217 (Int32.toNatClampNeg (a13 - (102 : Int32))) (p28 &&& 1)) fun h5 =>
                          some h5
                        ) else (
                          some h3
                        )
                      )
                    ) fun p14 =>
                    lz (A := Int32) (p5.1 + (1 : Int32)) fun v32 =>
                    some (.inl (v32, p14))
                  ) else (
                    some (.inr p5.2)
                  )
              ) ((0 : Int32), h1)
            ) fun p6 =>
            lz (wrI p6 192 75 (1 : Int32)) fun h6 =>
            some (.inr (.inr (.inr ((), h6))))
          )
        ) else (
          if x1 = (129 : Int32) ∨ x1 = (130 : Int32) then (
            some (.inr (.inr (.inl ())))
          ) else (
            if x1 = (133 : Int32) then (
              bS (f_Mo_has (1 : Int32) h) fun a36 h7 =>
              bP (A := (Int32 × hH)) (
                if a36 = 0 then (
                  some ((0 : Int32), h7)
                ) else (
                  bS (f_Mo_pop h7) fun a38 h8 =>
                  some (a38, h8)
                )
              ) fun p37 =>
              lz (wrI p37.2 192 87 p37.1) fun h9 =>
              some (.inr (.inr (.inr ((), h9))))
            ) else (
              if x1 = (134 : Int32) ∨ x1 = (135 : Int32) then (
                some (.inl ())
              ) else (
                if x1 = (136 : Int32) then (
                  bS (f_Mo_has (1 : Int32) h) fun a42 h10 =>
                  if a42 = 0 then (
                    some (.inr (.inr (.inr ((), h10))))
                  ) else (
                    bS (f_Mo_pop h10) fun a43 h11 =>
                    lz (A := Int64) (if (a43 &&& (1 : Int32)) = 0 then (0 : Int64) else (35 : Int64)) fun p44 =>
                    bS (f_Mo_push p44 h11) fun _ h12 =>
                    some (.inr (.inr (.inr ((), h12))))
                  )
                ) else (
                  if x1 = (137 : Int32) then (
                    bS (f_Mo_defineOwn h) fun _ h13 =>
                    some (.inr (.inr (.inr ((), h13))))
                  ) else (
                    if x1 = (138 : Int32) then (
                      bS (f_Mo_has (3 : Int32) h) fun a49 h14 =>
                      if a49 = 0 then (
                        some (.inr (.inr (.inr ((), h14))))
                      ) else (
                        gd (vp_in ((rdI h14 192 56) - (3 : Int32)) 256) <|
                        lz (A := Int32) (rdI h14 219 (Int32.toNatClampNeg ((rdI h14 192 56) - (3 : Int32)))) fun v50 =>
                        gd (vp_in ((rdI h14 192 56) - (2 : Int32)) 256 ∧ vp_in ((rdI h14 192 56) - (3 : Int32)) 256) <|
                        lz (wrI h14 219 (Int32.toNatClampNeg ((rdI h14 192 56) - (3 : Int32))) (rdI h14 219 (Int32.toNatClampNeg ((rdI h14 192 56) - (2 : Int32))))) fun h15 =>
                        gd (vp_in ((rdI h15 192 56) - (1 : Int32)) 256 ∧ vp_in ((rdI h15 192 56) - (2 : Int32)) 256) <|
                        lz (wrI h15 219 (Int32.toNatClampNeg ((rdI h15 192 56) - (2 : Int32))) (rdI h15 219 (Int32.toNatClampNeg ((rdI h15 192 56) - (1 : Int32))))) fun h16 =>
                        gd (vp_in ((rdI h16 192 56) - (1 : Int32)) 256) <|
                        lz (wrI h16 219 (Int32.toNatClampNeg ((rdI h16 192 56) - (1 : Int32))) v50) fun h17 =>
                        some (.inr (.inr (.inr ((), h17))))
                      )
                    ) else (
                      if x1 = (141 : Int32) then (
                        bS (f_Mo_has (1 : Int32) h) fun a57 h18 =>
                        bP (A := (Int32 × hH)) (
                          if a57 = 0 then (
                            some ((0 : Int32), h18)
                          ) else (
                            bS (f_Mo_pop h18) fun a59 h19 =>
                            some (a59, h19)
                          )
                        ) fun p58 =>
                        lz (wrI p58.2 192 88 p58.1) fun h20 =>
                        some (.inr (.inr (.inr ((), h20))))
                      ) else (
                        some (.inr (.inl ()))
                      )
                    )
                  )
                )
              )
            )
          )
        )
      ) fun p3 =>
      bS (f_Mo_has (2 : Int32) h) fun a62 h21 =>
      if a62 = 0 then (
        some (.inr (.inr ((), h21)))
      ) else (
        bS (f_Mo_pop h21) fun a63 h22 =>
        bS (f_Mo_pointOf (rdI h21 192 74) a63 h22) fun a64 h23 =>
        bS (f_Mo_pop h23) fun a65 h24 =>
        bS (f_Mo_pointOf (rdI h23 192 73) a65 h24) fun a66 h25 =>
        if (rdI h25 192 59) = 0 then (
          lz (A := Int32) (if x1 = (135 : Int32) then (1 : Int32) else (0 : Int32)) fun p67 =>
          gd (vp_in a66 204 ∧ vp_in a64 204) <|
          bS (f_Mo_direction ((rdI h25 212 (Int32.toNatClampNeg a66)) - (rdI h25 212 (Int32.toNatClampNeg a64))) ((rdI h25 213 (Int32.toNatClampNeg a66)) - (rdI h25 213 (Int32.toNatClampNeg a64))) h25) fun _ h26 =>
          lz (A := Int32) (if p67 = 0 then (rdI h26 192 105) else (-(rdI h26 192 106))) fun p70 =>
          lz (wrI h26 192 67 p70) fun h27 =>
          lz (A := Int32) (if p67 = 0 then (rdI h27 192 106) else (rdI h27 192 105)) fun p72 =>
          lz (wrI h27 192 68 p72) fun h28 =>
          gd (vp_in a66 204 ∧ vp_in a64 204) <|
          bS (f_Mo_direction ((rdI h28 214 (Int32.toNatClampNeg a66)) - (rdI h28 214 (Int32.toNatClampNeg a64))) ((rdI h28 215 (Int32.toNatClampNeg a66)) - (rdI h28 215 (Int32.toNatClampNeg a64))) h28) fun _ h29 =>
          lz (A := Int32) (if p67 = 0 then (rdI h29 192 105) else (-(rdI h29 192 106))) fun p75 =>
          lz (wrI h29 192 65 p75) fun h30 =>
          lz (A := Int32) (if p67 = 0 then (rdI h30 192 106) else (rdI h30 192 105)) fun p77 =>
          lz (wrI h30 192 66 p77) fun h31 =>
          some (.inr (.inr ((), h31)))
        ) else (
          some (.inr (.inr ((), h25)))
        )
      )
    ) fun p2 =>
    bS (f_Mo_unknown x1 h) fun _ h32 =>
    some (.inr ((), h32))
  ) fun p1 =>
  bS (f_Mo_has (2 : Int32) h) fun a81 h33 =>
  if a81 = 0 then (
    some ((), h33)
  ) else (
    bS (f_Mo_pop h33) fun a82 h34 =>
    bS (f_Mo_pop h34) fun a83 h35 =>
    bP (A := Int32) (
      if (rdI h35 192 53) = 0 then (
        some (0 : Int32)
      ) else (
        gd (vp_in ((rdI h35 192 53) - (1 : Int32)) 20) <|
        some ((rdI h35 218 (Int32.toNatClampNeg ((rdI h35 192 53) - (1 : Int32)))) + (1 : Int32))
      )
    ) fun p84 =>
    cO (
      if a82 < a83 then (
        some false
      ) else (
        if (a83 < 0 ∨ ¬ (a82 < p84)) then (
          some true
        ) else (
          some false
        )
      )
    ) (
      bS (f_Mo_fail (5 : Int32) h35) fun _ h36 =>
      some ((), h36)
    ) (
      bP (A := hH) (
        wh (A := (Int32 × hH)) (B := hH) (fun p99 =>
            if a82 < p99.1 then (
              some (.inr p99.2)
            ) else (
              lz (A := Int32) (if x1 = (129 : Int32) then (1 : Int32) else (0 : Int32)) fun p101 =>
              gd (vp_in p99.1 102) <|
              lz (wrI p99.2 217 (Int32.toNatClampNeg p99.1) (p101 &&& 1)) fun h37 =>
              lz (A := Int32) (p99.1 + (1 : Int32)) fun v104 =>
              some (.inl (v104, h37))
            )
        ) (a83, h35)
      ) fun p100 =>
      some ((), p100)
    )
  )
set_option maxRecDepth 20000 in
theorem k_Mo_more (x1 : Int32) (h : hH) : hx_kS S0 M_Mo_more 6 NT [(.ref 192), (.int x1)] h (f_Mo_more x1 h) cvU := by
  have hm := m_Mo_more
  show hx_P S0 M_Mo_more 6 0 [(0, (.ref 192)), (1, (.int x1))] [] NT h (f_Mo_more x1 h) (hx_Rc cvU NT)
  unfold f_Mo_more
  refine hp_E 194 (fun (p1 : Unit) => [(0, (.ref 192)), (1, (.int x1))]) (fun (p1 : Unit) => []) (fun (p1 : Unit) => h) ?_ (fun p1 => ?_)
  · refine hp_E 645 (fun (p2 : Unit) => [(0, (.ref 192)), (1, (.int x1))]) (fun (p2 : Unit) => []) (fun (p2 : Unit) => h) ?_ (fun p2 => ?_)
    · refine hp_E 315 (fun (p3 : Unit) => [(0, (.ref 192)), (1, (.int x1))]) (fun (p3 : Unit) => []) (fun (p3 : Unit) => h) ?_ (fun p3 => ?_)
      · refine hp_b hm (at1 0 rfl) (L' := [(0, (.ref 192)), (1, (.int x1))]) (st' := [(.int x1)]) rfl (by exact trivial) (pc' := 1) rfl ?_
        refine hp_sw hm 0 rfl (cs := [128]) (off := 71) (by decide) (tgt := 72) rfl (sw1 _ _) ?_ (fun c34 => ?_)
        · refine hp_cVS (M2 := M_Mo_has) hm (at1 1 rfl) (as := [(.int (rdI h 192 75))]) (rest := []) (z := 192) rfl (by exact og_192) (pc' := 77) rfl 1 rfl (lw_g (lw_at lw_m10 20 rfl) rfl) y_Mo_has rfl (d2 := 2) ⟨le_b rfl, pd_Mo_has, le_b rfl⟩ (le_b rfl) og_192 (k_Mo_has (rdI h 192 75) h) (fun a4 h1 => ?_)
          refine hp_if_eq hm at0 rfl (by exact trivial) (pc' := 80) rfl 16 rfl (tgt := 193) rfl (fun c33 => ?_) (fun c33 => ?_)
          · exact hp_vr hm 2 rfl rfl (fun _ e => e)
          · refine hp_b hm (at1 2 rfl) (L' := [(2, (.int (0 : Int32))), (0, (.ref 192)), (1, (.int x1))]) (st' := []) rfl (by exact trivial) (pc' := 85) rfl ?_
            refine hp_J 188 (fun (p6 : hH) => [(0, (.ref 192))]) (fun (p6 : hH) => []) (fun (p6 : hH) => p6) ?_ (fun p6 => ?_)
            · refine hp_s [1, 0] rfl (L' := [(0, (.ref 192)), (2, (.int (0 : Int32)))]) ?_
              refine hp_wh (fun (p5 : (Int32 × hH)) => [(0, (.ref 192)), (2, (.int p5.1))]) [] (fun (p5 : (Int32 × hH)) => p5.2) (fun p5 => ?_) ((0 : Int32), h1)
              refine hp_cI (L0 := [(0, (.ref 192)), (2, (.int p5.1))]) (s0 := []) 100 188 ?_ (fun c11 => ?_) (fun c11 => ?_)
              · refine hp_nand ?_
                refine hp_ic_ge hm (at1 3 rfl) rfl (by exact og_192) (pc' := 90) rfl 4 rfl (tgt := 188) rfl (fun c8 => ?_) (fun c8 => ?_)
                · exact hp_l0 (fun _ e => e)
                · refine hp_dec ?_
                  refine hp_if_ne hm (at1 4 rfl) rfl (by exact og_192) (pc' := 97) rfl 3 rfl (tgt := 188) rfl (fun c7 => ?_) (fun c7 => ?_)
                  · exact hp_l0 (fun _ e => e)
                  · exact hp_l0 (fun _ e => e)
              · refine hp_cVS (M2 := M_Mo_pop) hm (at1 5 rfl) (as := []) (rest := [(.int (rdI p5.2 192 72)), (.ref 192)]) (z := 192) rfl (by exact og_192) (pc' := 106) rfl 5 rfl (lw_g (lw_at lw_m10 24 rfl) rfl) y_Mo_pop rfl (d2 := 1) ⟨le_b rfl, pd_Mo_pop, le_b rfl⟩ (le_b rfl) og_192 (k_Mo_pop p5.2) (fun a12 h2 => ?_)
                refine hp_cVS (M2 := M_Mo_pointOf) hm at0 (as := [(.int (rdI p5.2 192 72)), (.int a12)]) (rest := []) (z := 192) rfl (by exact trivial) (pc' := 109) rfl 6 rfl (lw_g (lw_at lw_m10 28 rfl) rfl) y_Mo_pointOf rfl (d2 := 2) ⟨le_b rfl, pd_Mo_pointOf, le_b rfl⟩ (le_b rfl) og_192 (k_Mo_pointOf (rdI p5.2 192 72) a12 h2) (fun a13 h3 => ?_)
                refine hp_b hm (at1 6 rfl) (L' := [(3, (.int a13)), (0, (.ref 192)), (2, (.int p5.1))]) (st' := [(.int (rdI h3 192 59))]) rfl (by exact og_192) (pc' := 117) rfl ?_
                refine hp_J 182 (fun (p14 : hH) => [(0, (.ref 192)), (2, (.int p5.1))]) (fun (p14 : hH) => []) (fun (p14 : hH) => p14) ?_ (fun p14 => ?_)
                · refine hp_cO (L0 := [(3, (.int a13)), (0, (.ref 192)), (2, (.int p5.1))]) (s0 := []) 141 149 ?_ ?_ ?_
                  · refine hp_if_ne hm at0 rfl (by exact trivial) (pc' := 117) rfl 9 rfl (tgt := 149) rfl (fun c20 => ?_) (fun c20 => ?_)
                    · exact hp_l0 (fun _ e => e)
                    · refine hp_cI (L0 := [(3, (.int a13)), (0, (.ref 192)), (2, (.int p5.1))]) (s0 := []) 149 141 ?_ (fun c19 => ?_) (fun c19 => ?_)
                      · refine hp_and ?_
                        refine hp_ic_ne hm (at1 7 rfl) rfl (by exact og_192) (pc' := 125) rfl 8 rfl (tgt := 141) rfl (fun c18 => ?_) (fun c18 => ?_)
                        · exact hp_l0 (fun _ e => e)
                        · refine hp_dec ?_
                          refine hp_ic_lt hm (at1 8 rfl) rfl (by exact og_192) (pc' := 138) rfl 7 rfl (tgt := 149) rfl (fun c17 => ?_) (fun c17 => ?_)
                          · exact hp_l0 (fun _ e => e)
                          · exact hp_l0 (fun _ e => e)
                      · exact hp_l0 (fun _ e => e)
                      · exact hp_l0 (fun _ e => e)
                  · refine hp_cVS (M2 := M_Mo_fail) hm (at1 9 rfl) (as := [(.int (5 : Int32))]) (rest := []) (z := 192) rfl (by exact trivial) (pc' := 143) rfl 10 rfl (lw_g (lw_at lw_m10 4 rfl) rfl) y_Mo_fail rfl (d2 := 1) ⟨le_b rfl, pd_Mo_fail, le_b rfl⟩ (le_b rfl) og_192 (k_Mo_fail (5 : Int32) h3) (fun _ h4 => ?_)
                    refine hp_goto hm 11 rfl (tgt := 182) rfl ?_
                    exact hp_lf [1, 2] rfl (fun _ e => e)
                  · refine hp_if_ne hm (at1 10 rfl) rfl (by exact og_192) (pc' := 153) rfl 14 rfl (tgt := 182) rfl (fun c31 => ?_) (fun c31 => ?_)
                    · exact hp_lf [1, 2] rfl (fun _ e => e)
                    · refine hp_G hm (at1 11 rfl) (L' := [(3, (.int a13)), (0, (.ref 192)), (2, (.int p5.1))]) (st' := [(.int (rdI h3 217 (Int32.toNatClampNeg (a13 - (102 : Int32))))), (.int (a13 - (102 : Int32))), (.ref 217)]) rfl (fun hP => (by exact ⟨⟨og_192, og_192⟩, ⟨og_217, hP⟩⟩)) (pc' := 173) rfl (fun q27 => ?_)
                      refine hp_JZ 181 (fun (p28 : Int32) => [(0, (.ref 192)), (2, (.int p5.1))]) (fun (p28 : Int32) => [(.int p28), (.int (a13 - (102 : Int32))), (.ref 217)]) (fun (p28 : Int32) => h3) ?_ (fun p28 => ?_)
                      · refine hp_sv0 ?_
                        refine hp_if_ne hm at0 rfl (by exact trivial) (pc' := 173) rfl 13 rfl (tgt := 180) rfl (fun c29 => ?_) (fun c29 => ?_)
                        · refine hp_b hm (at1 12 rfl) (L' := [(3, (.int a13)), (0, (.ref 192)), (2, (.int p5.1))]) (st' := [(.int (0 : Int32)), (.int (a13 - (102 : Int32))), (.ref 217)]) rfl (by exact trivial) (pc' := 181) rfl ?_
                          exact hp_lf [1, 2] rfl (fun _ e => e)
                        · refine hp_b hm (at1 13 rfl) (L' := [(3, (.int a13)), (0, (.ref 192)), (2, (.int p5.1))]) (st' := [(.int (1 : Int32)), (.int (a13 - (102 : Int32))), (.ref 217)]) rfl (by exact trivial) (pc' := 177) rfl ?_
                          refine hp_goto hm 12 rfl (tgt := 181) rfl ?_
                          exact hp_lf [1, 2] rfl (fun _ e => e)
                      · refine hp_GW hm (at1 14 rfl) (L' := [(0, (.ref 192)), (2, (.int p5.1))]) rfl (fun hP => (by exact ⟨og_217, hP⟩)) (pc' := 182) rfl (fun q30 h5 => ?_)
                        exact hp_lf [0, 1] rfl (fun _ e => e)
                · refine hp_z hm (at1 15 rfl) (fun (v32 : Int32) => [(2, (.int v32)), (0, (.ref 192))]) (fun (v32 : Int32) => []) rfl (by exact trivial) (pc' := 185) rfl (fun v32 => ?_)
                  refine hp_goto hm 15 rfl (tgt := 85) rfl ?_
                  exact hp_lf [1, 0] rfl (fun _ e => e)
              · exact hp_lf [0] rfl (fun _ e => e)
            · refine hp_w hm (at1 16 rfl) (L' := [(0, (.ref 192))]) rfl (by exact og_192) (pc' := 193) rfl (fun h6 => ?_)
              exact hp_vr hm 2 rfl rfl (fun _ e => e)
        · refine hp_sw hm 0 rfl (cs := [129, 130]) (off := 193) (by decide) (tgt := 194) rfl (sw2 _ _ _) ?_ (fun c35 => ?_)
          · exact hp_lf [0, 1] rfl (fun _ e => e)
          · refine hp_sw hm 0 rfl (cs := [133]) (off := 293) (by decide) (tgt := 294) rfl (sw1 _ _) ?_ (fun c40 => ?_)
            · refine hp_cVS (M2 := M_Mo_has) hm (at1 17 rfl) (as := [(.int (1 : Int32))]) (rest := [(.ref 192)]) (z := 192) rfl (by exact trivial) (pc' := 297) rfl 17 rfl (lw_g (lw_at lw_m10 20 rfl) rfl) y_Mo_has rfl (d2 := 2) ⟨le_b rfl, pd_Mo_has, le_b rfl⟩ (le_b rfl) og_192 (k_Mo_has (1 : Int32) h) (fun a36 h7 => ?_)
              refine hp_J 311 (fun (p37 : (Int32 × hH)) => []) (fun (p37 : (Int32 × hH)) => [(.int p37.1), (.ref 192)]) (fun (p37 : (Int32 × hH)) => p37.2) ?_ (fun p37 => ?_)
              · refine hp_if_eq hm at0 rfl (by exact trivial) (pc' := 300) rfl 20 rfl (tgt := 310) rfl (fun c39 => ?_) (fun c39 => ?_)
                · refine hp_b hm (at1 18 rfl) (L' := [(0, (.ref 192)), (1, (.int x1))]) (st' := [(.int (0 : Int32)), (.ref 192)]) rfl (by exact trivial) (pc' := 311) rfl ?_
                  exact hp_lf [] rfl (fun _ e => e)
                · refine hp_cVS (M2 := M_Mo_pop) hm (at1 19 rfl) (as := []) (rest := [(.ref 192)]) (z := 192) rfl (by exact trivial) (pc' := 304) rfl 18 rfl (lw_g (lw_at lw_m10 24 rfl) rfl) y_Mo_pop rfl (d2 := 1) ⟨le_b rfl, pd_Mo_pop, le_b rfl⟩ (le_b rfl) og_192 (k_Mo_pop h7) (fun a38 h8 => ?_)
                  refine hp_goto hm 19 rfl (tgt := 311) rfl ?_
                  exact hp_lf [] rfl (fun _ e => e)
              · refine hp_w hm (at1 20 rfl) (L' := []) rfl (by exact og_192) (pc' := 314) rfl (fun h9 => ?_)
                exact hp_vr hm 21 rfl rfl (fun _ e => e)
            · refine hp_sw hm 0 rfl (cs := [134, 135]) (off := 314) (by decide) (tgt := 315) rfl (sw2 _ _ _) ?_ (fun c41 => ?_)
              · exact hp_lf [0, 1] rfl (fun _ e => e)
              · refine hp_sw hm 0 rfl (cs := [136]) (off := 512) (by decide) (tgt := 513) rfl (sw1 _ _) ?_ (fun c47 => ?_)
                · refine hp_cVS (M2 := M_Mo_has) hm (at1 21 rfl) (as := [(.int (1 : Int32))]) (rest := []) (z := 192) rfl (by exact trivial) (pc' := 515) rfl 22 rfl (lw_g (lw_at lw_m10 20 rfl) rfl) y_Mo_has rfl (d2 := 2) ⟨le_b rfl, pd_Mo_has, le_b rfl⟩ (le_b rfl) og_192 (k_Mo_has (1 : Int32) h) (fun a42 h10 => ?_)
                  refine hp_if_eq hm at0 rfl (by exact trivial) (pc' := 518) rfl 28 rfl (tgt := 541) rfl (fun c46 => ?_) (fun c46 => ?_)
                  · exact hp_vr hm 23 rfl rfl (fun _ e => e)
                  · refine hp_cVS (M2 := M_Mo_pop) hm (at1 22 rfl) (as := []) (rest := [(.ref 192)]) (z := 192) rfl (by exact trivial) (pc' := 523) rfl 24 rfl (lw_g (lw_at lw_m10 24 rfl) rfl) y_Mo_pop rfl (d2 := 1) ⟨le_b rfl, pd_Mo_pop, le_b rfl⟩ (le_b rfl) og_192 (k_Mo_pop h10) (fun a43 h11 => ?_)
                    refine hp_JZ 538 (fun (p44 : Int64) => []) (fun (p44 : Int64) => [(.long p44), (.ref 192)]) (fun (p44 : Int64) => h11) ?_ (fun p44 => ?_)
                    · refine hp_sv0 ?_
                      refine hp_if_eq hm (at1 23 rfl) rfl (by exact trivial) (pc' := 528) rfl 26 rfl (tgt := 537) rfl (fun c45 => ?_) (fun c45 => ?_)
                      · refine hp_b hm (at1 24 rfl) (L' := [(0, (.ref 192)), (1, (.int x1))]) (st' := [(.long (0 : Int64)), (.ref 192)]) rfl (by exact trivial) (pc' := 538) rfl ?_
                        exact hp_lf [] rfl (fun _ e => e)
                      · refine hp_b hm (at1 25 rfl) (L' := [(0, (.ref 192)), (1, (.int x1))]) (st' := [(.long (35 : Int64)), (.ref 192)]) rfl (by exact trivial) (pc' := 534) rfl ?_
                        refine hp_goto hm 25 rfl (tgt := 538) rfl ?_
                        exact hp_lf [] rfl (fun _ e => e)
                    · refine hp_cVS (M2 := M_Mo_push) hm at0 (as := [(.long p44)]) (rest := []) (z := 192) rfl (by exact trivial) (pc' := 538) rfl 27 rfl (lw_g (lw_at lw_m10 86 rfl) rfl) y_Mo_push rfl (d2 := 2) ⟨le_b rfl, pd_Mo_push, le_b rfl⟩ (le_b rfl) og_192 (k_Mo_push p44 h11) (fun _ h12 => ?_)
                      exact hp_vr hm 23 rfl rfl (fun _ e => e)
                · refine hp_sw hm 0 rfl (cs := [137]) (off := 541) (by decide) (tgt := 542) rfl (sw1 _ _) ?_ (fun c48 => ?_)
                  · refine hp_cVS (M2 := M_Mo_defineOwn) hm (at1 26 rfl) (as := []) (rest := []) (z := 192) rfl (by exact trivial) (pc' := 543) rfl 29 rfl (lw_g (lw_at lw_m10 219 rfl) rfl) y_Mo_defineOwn rfl (d2 := 5) ⟨le_b rfl, pd_Mo_defineOwn, le_b rfl⟩ (le_b rfl) og_192 (k_Mo_defineOwn h) (fun _ h13 => ?_)
                    exact hp_vr hm 30 rfl rfl (fun _ e => e)
                  · refine hp_sw hm 0 rfl (cs := [138]) (off := 546) (by decide) (tgt := 547) rfl (sw1 _ _) ?_ (fun c56 => ?_)
                    · refine hp_cVS (M2 := M_Mo_has) hm (at1 27 rfl) (as := [(.int (3 : Int32))]) (rest := []) (z := 192) rfl (by exact trivial) (pc' := 549) rfl 31 rfl (lw_g (lw_at lw_m10 20 rfl) rfl) y_Mo_has rfl (d2 := 2) ⟨le_b rfl, pd_Mo_has, le_b rfl⟩ (le_b rfl) og_192 (k_Mo_has (3 : Int32) h) (fun a49 h14 => ?_)
                      refine hp_if_eq hm at0 rfl (by exact trivial) (pc' := 552) rfl 33 rfl (tgt := 623) rfl (fun c55 => ?_) (fun c55 => ?_)
                      · exact hp_vr hm 32 rfl rfl (fun _ e => e)
                      · refine hp_GZ hm (at1 28 rfl) (fun (v50 : Int32) => [(2, (.int v50)), (0, (.ref 192)), (1, (.int x1))]) (fun (v50 : Int32) => []) rfl (fun hP => (by exact ⟨⟨og_192, og_192⟩, ⟨og_219, hP⟩⟩)) (pc' := 567) rfl (fun q51 v50 => ?_)
                        refine hp_GW hm (at1 29 rfl) (L' := [(2, (.int v50)), (0, (.ref 192)), (1, (.int x1))]) rfl (fun hP => (by exact ⟨⟨⟨⟨⟨og_192, og_192⟩, og_192⟩, og_192⟩, ⟨og_219, hP.1⟩⟩, ⟨og_219, hP.2⟩⟩)) (pc' := 589) rfl (fun q52 h15 => ?_)
                        refine hp_GW hm (at1 30 rfl) (L' := [(2, (.int v50)), (0, (.ref 192)), (1, (.int x1))]) rfl (fun hP => (by exact ⟨⟨⟨⟨⟨og_192, og_192⟩, og_192⟩, og_192⟩, ⟨og_219, hP.1⟩⟩, ⟨og_219, hP.2⟩⟩)) (pc' := 611) rfl (fun q53 h16 => ?_)
                        refine hp_GW hm (at1 31 rfl) (L' := [(2, (.int v50)), (0, (.ref 192)), (1, (.int x1))]) rfl (fun hP => (by exact ⟨⟨og_192, og_192⟩, ⟨og_219, hP⟩⟩)) (pc' := 623) rfl (fun q54 h17 => ?_)
                        exact hp_vr hm 32 rfl rfl (fun _ e => e)
                    · refine hp_sw hm 0 rfl (cs := [141]) (off := 623) (by decide) (tgt := 624) rfl (sw1 _ _) ?_ (fun c61 => ?_)
                      · refine hp_cVS (M2 := M_Mo_has) hm (at1 32 rfl) (as := [(.int (1 : Int32))]) (rest := [(.ref 192)]) (z := 192) rfl (by exact trivial) (pc' := 627) rfl 34 rfl (lw_g (lw_at lw_m10 20 rfl) rfl) y_Mo_has rfl (d2 := 2) ⟨le_b rfl, pd_Mo_has, le_b rfl⟩ (le_b rfl) og_192 (k_Mo_has (1 : Int32) h) (fun a57 h18 => ?_)
                        refine hp_J 641 (fun (p58 : (Int32 × hH)) => []) (fun (p58 : (Int32 × hH)) => [(.int p58.1), (.ref 192)]) (fun (p58 : (Int32 × hH)) => p58.2) ?_ (fun p58 => ?_)
                        · refine hp_if_eq hm at0 rfl (by exact trivial) (pc' := 630) rfl 37 rfl (tgt := 640) rfl (fun c60 => ?_) (fun c60 => ?_)
                          · refine hp_b hm (at1 33 rfl) (L' := [(0, (.ref 192)), (1, (.int x1))]) (st' := [(.int (0 : Int32)), (.ref 192)]) rfl (by exact trivial) (pc' := 641) rfl ?_
                            exact hp_lf [] rfl (fun _ e => e)
                          · refine hp_cVS (M2 := M_Mo_pop) hm (at1 34 rfl) (as := []) (rest := [(.ref 192)]) (z := 192) rfl (by exact trivial) (pc' := 634) rfl 35 rfl (lw_g (lw_at lw_m10 24 rfl) rfl) y_Mo_pop rfl (d2 := 1) ⟨le_b rfl, pd_Mo_pop, le_b rfl⟩ (le_b rfl) og_192 (k_Mo_pop h18) (fun a59 h19 => ?_)
                            refine hp_goto hm 36 rfl (tgt := 641) rfl ?_
                            exact hp_lf [] rfl (fun _ e => e)
                        · refine hp_w hm (at1 35 rfl) (L' := []) rfl (by exact og_192) (pc' := 644) rfl (fun h20 => ?_)
                          exact hp_vr hm 38 rfl rfl (fun _ e => e)
                      · refine hp_sd2 hm 0 rfl (css := [[128], [129, 130], [133], [134, 135], [136], [137], [138], [141]]) (by decide) (by decide) (List.forall_mem_cons.mpr ⟨c34, (List.forall_mem_cons.mpr ⟨c35, (List.forall_mem_cons.mpr ⟨c40, (List.forall_mem_cons.mpr ⟨c41, (List.forall_mem_cons.mpr ⟨c47, (List.forall_mem_cons.mpr ⟨c48, (List.forall_mem_cons.mpr ⟨c56, (List.forall_mem_cons.mpr ⟨c61, (fun _ h => absurd h List.not_mem_nil)⟩)⟩)⟩)⟩)⟩)⟩)⟩)⟩) (tgt := 645) rfl ?_
                        exact hp_lf [0, 1] rfl (fun _ e => e)
      · refine hp_cVS (M2 := M_Mo_has) hm (at1 36 rfl) (as := [(.int (2 : Int32))]) (rest := []) (z := 192) rfl (by exact trivial) (pc' := 317) rfl 39 rfl (lw_g (lw_at lw_m10 20 rfl) rfl) y_Mo_has rfl (d2 := 2) ⟨le_b rfl, pd_Mo_has, le_b rfl⟩ (le_b rfl) og_192 (k_Mo_has (2 : Int32) h) (fun a62 h21 => ?_)
        refine hp_if_eq hm at0 rfl (by exact trivial) (pc' := 320) rfl 58 rfl (tgt := 512) rfl (fun c80 => ?_) (fun c80 => ?_)
        · exact hp_vr hm 40 rfl rfl (fun _ e => e)
        · refine hp_cVS (M2 := M_Mo_pop) hm (at1 37 rfl) (as := []) (rest := [(.int (rdI h21 192 74)), (.ref 192)]) (z := 192) rfl (by exact og_192) (pc' := 329) rfl 41 rfl (lw_g (lw_at lw_m10 24 rfl) rfl) y_Mo_pop rfl (d2 := 1) ⟨le_b rfl, pd_Mo_pop, le_b rfl⟩ (le_b rfl) og_192 (k_Mo_pop h21) (fun a63 h22 => ?_)
          refine hp_cVS (M2 := M_Mo_pointOf) hm at0 (as := [(.int (rdI h21 192 74)), (.int a63)]) (rest := []) (z := 192) rfl (by exact trivial) (pc' := 332) rfl 42 rfl (lw_g (lw_at lw_m10 28 rfl) rfl) y_Mo_pointOf rfl (d2 := 2) ⟨le_b rfl, pd_Mo_pointOf, le_b rfl⟩ (le_b rfl) og_192 (k_Mo_pointOf (rdI h21 192 74) a63 h22) (fun a64 h23 => ?_)
          refine hp_b hm (at1 38 rfl) (L' := [(2, (.int a64)), (0, (.ref 192)), (1, (.int x1))]) (st' := [(.ref 192), (.int (rdI h23 192 73)), (.ref 192)]) rfl (by exact og_192) (pc' := 342) rfl ?_
          refine hp_cVS (M2 := M_Mo_pop) hm at0 (as := []) (rest := [(.int (rdI h23 192 73)), (.ref 192)]) (z := 192) rfl (by exact trivial) (pc' := 342) rfl 43 rfl (lw_g (lw_at lw_m10 24 rfl) rfl) y_Mo_pop rfl (d2 := 1) ⟨le_b rfl, pd_Mo_pop, le_b rfl⟩ (le_b rfl) og_192 (k_Mo_pop h23) (fun a65 h24 => ?_)
          refine hp_cVS (M2 := M_Mo_pointOf) hm at0 (as := [(.int (rdI h23 192 73)), (.int a65)]) (rest := []) (z := 192) rfl (by exact trivial) (pc' := 345) rfl 44 rfl (lw_g (lw_at lw_m10 28 rfl) rfl) y_Mo_pointOf rfl (d2 := 2) ⟨le_b rfl, pd_Mo_pointOf, le_b rfl⟩ (le_b rfl) og_192 (k_Mo_pointOf (rdI h23 192 73) a65 h24) (fun a66 h25 => ?_)
          refine hp_b hm (at1 39 rfl) (L' := [(3, (.int a66)), (2, (.int a64)), (0, (.ref 192)), (1, (.int x1))]) (st' := [(.int (rdI h25 192 59))]) rfl (by exact og_192) (pc' := 353) rfl ?_
          refine hp_if_ne hm at0 rfl (by exact trivial) (pc' := 353) rfl 57 rfl (tgt := 512) rfl (fun c79 => ?_) (fun c79 => ?_)
          · exact hp_vr hm 40 rfl rfl (fun _ e => e)
          · refine hp_JZ 368 (fun (p67 : Int32) => [(0, (.ref 192)), (2, (.int a64)), (3, (.int a66))]) (fun (p67 : Int32) => [(.int p67)]) (fun (p67 : Int32) => h25) ?_ (fun p67 => ?_)
            · refine hp_sv0 ?_
              refine hp_ic_ne hm (at1 40 rfl) rfl (by exact trivial) (pc' := 360) rfl 46 rfl (tgt := 367) rfl (fun c68 => ?_) (fun c68 => ?_)
              · refine hp_b hm (at1 41 rfl) (L' := [(3, (.int a66)), (2, (.int a64)), (0, (.ref 192)), (1, (.int x1))]) (st' := [(.int (0 : Int32))]) rfl (by exact trivial) (pc' := 368) rfl ?_
                exact hp_lf [2, 1, 0] rfl (fun _ e => e)
              · refine hp_b hm (at1 42 rfl) (L' := [(3, (.int a66)), (2, (.int a64)), (0, (.ref 192)), (1, (.int x1))]) (st' := [(.int (1 : Int32))]) rfl (by exact trivial) (pc' := 364) rfl ?_
                refine hp_goto hm 45 rfl (tgt := 368) rfl ?_
                exact hp_lf [2, 1, 0] rfl (fun _ e => e)
            · refine hp_G hm (at1 43 rfl) (L' := [(4, (.int p67)), (0, (.ref 192)), (2, (.int a64)), (3, (.int a66))]) (st' := [(.int ((rdI h25 213 (Int32.toNatClampNeg a66)) - (rdI h25 213 (Int32.toNatClampNeg a64)))), (.int ((rdI h25 212 (Int32.toNatClampNeg a66)) - (rdI h25 212 (Int32.toNatClampNeg a64)))), (.ref 192)]) rfl (fun hP => (by exact ⟨⟨⟨⟨⟨⟨⟨og_192, ⟨og_212, hP.1⟩⟩, og_192⟩, ⟨og_212, hP.2⟩⟩, og_192⟩, ⟨og_213, hP.1⟩⟩, og_192⟩, ⟨og_213, hP.2⟩⟩)) (pc' := 397) rfl (fun q69 => ?_)
              refine hp_cVS (M2 := M_Mo_direction) hm at0 (as := [(.int ((rdI h25 212 (Int32.toNatClampNeg a66)) - (rdI h25 212 (Int32.toNatClampNeg a64)))), (.int ((rdI h25 213 (Int32.toNatClampNeg a66)) - (rdI h25 213 (Int32.toNatClampNeg a64))))]) (rest := []) (z := 192) rfl (by exact trivial) (pc' := 397) rfl 47 rfl (lw_g (lw_at lw_m10 98 rfl) rfl) y_Mo_direction rfl (d2 := 3) ⟨le_b rfl, pd_Mo_direction, le_b rfl⟩ (le_b rfl) og_192 (k_Mo_direction ((rdI h25 212 (Int32.toNatClampNeg a66)) - (rdI h25 212 (Int32.toNatClampNeg a64))) ((rdI h25 213 (Int32.toNatClampNeg a66)) - (rdI h25 213 (Int32.toNatClampNeg a64))) h25) (fun _ h26 => ?_)
              refine hp_JZ 418 (fun (p70 : Int32) => [(0, (.ref 192)), (2, (.int a64)), (3, (.int a66)), (4, (.int p67))]) (fun (p70 : Int32) => [(.int p70), (.ref 192)]) (fun (p70 : Int32) => h26) ?_ (fun p70 => ?_)
              · refine hp_sv0 ?_
                refine hp_if_eq hm (at1 44 rfl) rfl (by exact trivial) (pc' := 403) rfl 49 rfl (tgt := 414) rfl (fun c71 => ?_) (fun c71 => ?_)
                · refine hp_b hm (at1 45 rfl) (L' := [(4, (.int p67)), (0, (.ref 192)), (2, (.int a64)), (3, (.int a66))]) (st' := [(.int (rdI h26 192 105)), (.ref 192)]) rfl (by exact og_192) (pc' := 418) rfl ?_
                  exact hp_lf [1, 2, 3, 0] rfl (fun _ e => e)
                · refine hp_b hm (at1 46 rfl) (L' := [(4, (.int p67)), (0, (.ref 192)), (2, (.int a64)), (3, (.int a66))]) (st' := [(.int (-(rdI h26 192 106))), (.ref 192)]) rfl (by exact og_192) (pc' := 411) rfl ?_
                  refine hp_goto hm 48 rfl (tgt := 418) rfl ?_
                  exact hp_lf [1, 2, 3, 0] rfl (fun _ e => e)
              · refine hp_w hm (at1 47 rfl) (L' := [(0, (.ref 192)), (2, (.int a64)), (3, (.int a66)), (4, (.int p67))]) rfl (by exact og_192) (pc' := 421) rfl (fun h27 => ?_)
                refine hp_JZ 438 (fun (p72 : Int32) => [(0, (.ref 192)), (2, (.int a64)), (3, (.int a66)), (4, (.int p67))]) (fun (p72 : Int32) => [(.int p72), (.ref 192)]) (fun (p72 : Int32) => h27) ?_ (fun p72 => ?_)
                · refine hp_sv0 ?_
                  refine hp_if_eq hm (at1 48 rfl) rfl (by exact trivial) (pc' := 424) rfl 51 rfl (tgt := 434) rfl (fun c73 => ?_) (fun c73 => ?_)
                  · refine hp_b hm (at1 49 rfl) (L' := [(0, (.ref 192)), (2, (.int a64)), (3, (.int a66)), (4, (.int p67))]) (st' := [(.int (rdI h27 192 106)), (.ref 192)]) rfl (by exact og_192) (pc' := 438) rfl ?_
                    exact hp_lf [0, 1, 2, 3] rfl (fun _ e => e)
                  · refine hp_b hm (at1 50 rfl) (L' := [(0, (.ref 192)), (2, (.int a64)), (3, (.int a66)), (4, (.int p67))]) (st' := [(.int (rdI h27 192 105)), (.ref 192)]) rfl (by exact og_192) (pc' := 431) rfl ?_
                    refine hp_goto hm 50 rfl (tgt := 438) rfl ?_
                    exact hp_lf [0, 1, 2, 3] rfl (fun _ e => e)
                · refine hp_w hm (at1 51 rfl) (L' := [(0, (.ref 192)), (2, (.int a64)), (3, (.int a66)), (4, (.int p67))]) rfl (by exact og_192) (pc' := 441) rfl (fun h28 => ?_)
                  refine hp_G hm (at1 52 rfl) (L' := [(0, (.ref 192)), (2, (.int a64)), (3, (.int a66)), (4, (.int p67))]) (st' := [(.int ((rdI h28 215 (Int32.toNatClampNeg a66)) - (rdI h28 215 (Int32.toNatClampNeg a64)))), (.int ((rdI h28 214 (Int32.toNatClampNeg a66)) - (rdI h28 214 (Int32.toNatClampNeg a64)))), (.ref 192)]) rfl (fun hP => (by exact ⟨⟨⟨⟨⟨⟨⟨og_192, ⟨og_214, hP.1⟩⟩, og_192⟩, ⟨og_214, hP.2⟩⟩, og_192⟩, ⟨og_215, hP.1⟩⟩, og_192⟩, ⟨og_215, hP.2⟩⟩)) (pc' := 468) rfl (fun q74 => ?_)
                  refine hp_cVS (M2 := M_Mo_direction) hm at0 (as := [(.int ((rdI h28 214 (Int32.toNatClampNeg a66)) - (rdI h28 214 (Int32.toNatClampNeg a64)))), (.int ((rdI h28 215 (Int32.toNatClampNeg a66)) - (rdI h28 215 (Int32.toNatClampNeg a64))))]) (rest := []) (z := 192) rfl (by exact trivial) (pc' := 468) rfl 52 rfl (lw_g (lw_at lw_m10 98 rfl) rfl) y_Mo_direction rfl (d2 := 3) ⟨le_b rfl, pd_Mo_direction, le_b rfl⟩ (le_b rfl) og_192 (k_Mo_direction ((rdI h28 214 (Int32.toNatClampNeg a66)) - (rdI h28 214 (Int32.toNatClampNeg a64))) ((rdI h28 215 (Int32.toNatClampNeg a66)) - (rdI h28 215 (Int32.toNatClampNeg a64))) h28) (fun _ h29 => ?_)
                  refine hp_JZ 489 (fun (p75 : Int32) => [(0, (.ref 192)), (4, (.int p67))]) (fun (p75 : Int32) => [(.int p75), (.ref 192)]) (fun (p75 : Int32) => h29) ?_ (fun p75 => ?_)
                  · refine hp_sv0 ?_
                    refine hp_if_eq hm (at1 53 rfl) rfl (by exact trivial) (pc' := 474) rfl 54 rfl (tgt := 485) rfl (fun c76 => ?_) (fun c76 => ?_)
                    · refine hp_b hm (at1 54 rfl) (L' := [(0, (.ref 192)), (2, (.int a64)), (3, (.int a66)), (4, (.int p67))]) (st' := [(.int (rdI h29 192 105)), (.ref 192)]) rfl (by exact og_192) (pc' := 489) rfl ?_
                      exact hp_lf [0, 3] rfl (fun _ e => e)
                    · refine hp_b hm (at1 55 rfl) (L' := [(0, (.ref 192)), (2, (.int a64)), (3, (.int a66)), (4, (.int p67))]) (st' := [(.int (-(rdI h29 192 106))), (.ref 192)]) rfl (by exact og_192) (pc' := 482) rfl ?_
                      refine hp_goto hm 53 rfl (tgt := 489) rfl ?_
                      exact hp_lf [0, 3] rfl (fun _ e => e)
                  · refine hp_w hm (at1 56 rfl) (L' := [(0, (.ref 192)), (4, (.int p67))]) rfl (by exact og_192) (pc' := 492) rfl (fun h30 => ?_)
                    refine hp_JZ 509 (fun (p77 : Int32) => []) (fun (p77 : Int32) => [(.int p77), (.ref 192)]) (fun (p77 : Int32) => h30) ?_ (fun p77 => ?_)
                    · refine hp_sv0 ?_
                      refine hp_if_eq hm (at1 57 rfl) rfl (by exact trivial) (pc' := 495) rfl 56 rfl (tgt := 505) rfl (fun c78 => ?_) (fun c78 => ?_)
                      · refine hp_b hm (at1 58 rfl) (L' := [(0, (.ref 192)), (4, (.int p67))]) (st' := [(.int (rdI h30 192 106)), (.ref 192)]) rfl (by exact og_192) (pc' := 509) rfl ?_
                        exact hp_lf [] rfl (fun _ e => e)
                      · refine hp_b hm (at1 59 rfl) (L' := [(0, (.ref 192)), (4, (.int p67))]) (st' := [(.int (rdI h30 192 105)), (.ref 192)]) rfl (by exact og_192) (pc' := 502) rfl ?_
                        refine hp_goto hm 55 rfl (tgt := 509) rfl ?_
                        exact hp_lf [] rfl (fun _ e => e)
                    · refine hp_w hm (at1 60 rfl) (L' := []) rfl (by exact og_192) (pc' := 512) rfl (fun h31 => ?_)
                      exact hp_vr hm 40 rfl rfl (fun _ e => e)
    · refine hp_cVS (M2 := M_Mo_unknown) hm (at1 61 rfl) (as := [(.int x1)]) (rest := []) (z := 192) rfl (by exact trivial) (pc' := 647) rfl 59 rfl (lw_g (lw_at lw_m10 152 rfl) rfl) y_Mo_unknown rfl (d2 := 3) ⟨le_b rfl, pd_Mo_unknown, le_b rfl⟩ (le_b rfl) og_192 (k_Mo_unknown x1 h) (fun _ h32 => ?_)
      exact hp_vr hm 60 rfl rfl (fun _ e => e)
  · refine hp_cVS (M2 := M_Mo_has) hm (at1 62 rfl) (as := [(.int (2 : Int32))]) (rest := []) (z := 192) rfl (by exact trivial) (pc' := 196) rfl 61 rfl (lw_g (lw_at lw_m10 20 rfl) rfl) y_Mo_has rfl (d2 := 2) ⟨le_b rfl, pd_Mo_has, le_b rfl⟩ (le_b rfl) og_192 (k_Mo_has (2 : Int32) h) (fun a81 h33 => ?_)
    refine hp_if_eq hm at0 rfl (by exact trivial) (pc' := 199) rfl 76 rfl (tgt := 293) rfl (fun c106 => ?_) (fun c106 => ?_)
    · exact hp_vr hm 62 rfl rfl (fun _ e => e)
    · refine hp_cVS (M2 := M_Mo_pop) hm (at1 63 rfl) (as := []) (rest := []) (z := 192) rfl (by exact trivial) (pc' := 203) rfl 63 rfl (lw_g (lw_at lw_m10 24 rfl) rfl) y_Mo_pop rfl (d2 := 1) ⟨le_b rfl, pd_Mo_pop, le_b rfl⟩ (le_b rfl) og_192 (k_Mo_pop h33) (fun a82 h34 => ?_)
      refine hp_b hm (at1 64 rfl) (L' := [(2, (.int a82)), (0, (.ref 192)), (1, (.int x1))]) (st' := [(.ref 192)]) rfl (by exact trivial) (pc' := 208) rfl ?_
      refine hp_cVS (M2 := M_Mo_pop) hm at0 (as := []) (rest := []) (z := 192) rfl (by exact trivial) (pc' := 208) rfl 64 rfl (lw_g (lw_at lw_m10 24 rfl) rfl) y_Mo_pop rfl (d2 := 1) ⟨le_b rfl, pd_Mo_pop, le_b rfl⟩ (le_b rfl) og_192 (k_Mo_pop h34) (fun a83 h35 => ?_)
      refine hp_b hm (at1 65 rfl) (L' := [(3, (.int a83)), (2, (.int a82)), (0, (.ref 192)), (1, (.int x1))]) (st' := [(.int (rdI h35 192 53))]) rfl (by exact og_192) (pc' := 216) rfl ?_
      refine hp_J 236 (fun (p84 : Int32) => [(0, (.ref 192)), (1, (.int x1)), (2, (.int a82)), (3, (.int a83))]) (fun (p84 : Int32) => [(.int p84)]) (fun (p84 : Int32) => h35) ?_ (fun p84 => ?_)
      · refine hp_if_ne hm at0 rfl (by exact trivial) (pc' := 216) rfl 66 rfl (tgt := 223) rfl (fun c86 => ?_) (fun c86 => ?_)
        · refine hp_G hm (at1 66 rfl) (L' := [(3, (.int a83)), (2, (.int a82)), (0, (.ref 192)), (1, (.int x1))]) (st' := [(.int ((rdI h35 218 (Int32.toNatClampNeg ((rdI h35 192 53) - (1 : Int32)))) + (1 : Int32)))]) rfl (fun hP => (by exact ⟨⟨og_192, og_192⟩, ⟨og_218, hP⟩⟩)) (pc' := 236) rfl (fun q85 => ?_)
          exact hp_lf [2, 3, 1, 0] rfl (fun _ e => e)
        · refine hp_b hm (at1 67 rfl) (L' := [(3, (.int a83)), (2, (.int a82)), (0, (.ref 192)), (1, (.int x1))]) (st' := [(.int (0 : Int32))]) rfl (by exact trivial) (pc' := 220) rfl ?_
          refine hp_goto hm 65 rfl (tgt := 236) rfl ?_
          exact hp_lf [2, 3, 1, 0] rfl (fun _ e => e)
      · refine hp_b hm (at1 68 rfl) (L' := [(4, (.int p84)), (0, (.ref 192)), (1, (.int x1)), (2, (.int a82)), (3, (.int a83))]) (st' := [(.int a82), (.int a83)]) rfl (by exact trivial) (pc' := 240) rfl ?_
        refine hp_cO (L0 := [(4, (.int p84)), (0, (.ref 192)), (1, (.int x1)), (2, (.int a82)), (3, (.int a83))]) (s0 := []) 253 259 ?_ ?_ ?_
        · refine hp_ic_gt hm at0 rfl (by exact trivial) (pc' := 240) rfl 69 rfl (tgt := 259) rfl (fun c92 => ?_) (fun c92 => ?_)
          · exact hp_l0 (fun _ e => e)
          · refine hp_cI (L0 := [(4, (.int p84)), (0, (.ref 192)), (1, (.int x1)), (2, (.int a82)), (3, (.int a83))]) (s0 := []) 253 259 ?_ (fun c91 => ?_) (fun c91 => ?_)
            · refine hp_or ?_
              refine hp_if_lt hm (at1 69 rfl) rfl (by exact trivial) (pc' := 244) rfl 68 rfl (tgt := 253) rfl (fun c88 => ?_) (fun c88 => ?_)
              · exact hp_l0 (fun _ e => e)
              · refine hp_decn ?_
                refine hp_ic_lt hm (at1 70 rfl) rfl (by exact trivial) (pc' := 250) rfl 67 rfl (tgt := 259) rfl (fun c87 => ?_) (fun c87 => ?_)
                · exact hp_l0 (fun _ e => e)
                · exact hp_l0 (fun _ e => e)
            · exact hp_l0 (fun _ e => e)
            · exact hp_l0 (fun _ e => e)
        · refine hp_cVS (M2 := M_Mo_fail) hm (at1 71 rfl) (as := [(.int (5 : Int32))]) (rest := []) (z := 192) rfl (by exact trivial) (pc' := 255) rfl 70 rfl (lw_g (lw_at lw_m10 4 rfl) rfl) y_Mo_fail rfl (d2 := 1) ⟨le_b rfl, pd_Mo_fail, le_b rfl⟩ (le_b rfl) og_192 (k_Mo_fail (5 : Int32) h35) (fun _ h36 => ?_)
          exact hp_vr hm 71 rfl rfl (fun _ e => e)
        · refine hp_b hm (at1 72 rfl) (L' := [(5, (.int a83)), (4, (.int p84)), (0, (.ref 192)), (1, (.int x1)), (2, (.int a82)), (3, (.int a83))]) (st' := []) rfl (by exact trivial) (pc' := 262) rfl ?_
          refine hp_J 293 (fun (p100 : hH) => []) (fun (p100 : hH) => []) (fun (p100 : hH) => p100) ?_ (fun p100 => ?_)
          · refine hp_s [2, 3, 4, 0] rfl (L' := [(0, (.ref 192)), (1, (.int x1)), (2, (.int a82)), (5, (.int a83))]) ?_
            refine hp_wh (fun (p99 : (Int32 × hH)) => [(0, (.ref 192)), (1, (.int x1)), (2, (.int a82)), (5, (.int p99.1))]) [] (fun (p99 : (Int32 × hH)) => p99.2) (fun p99 => ?_) (a83, h35)
            refine hp_ic_gt hm (at1 73 rfl) rfl (by exact trivial) (pc' := 265) rfl 75 rfl (tgt := 293) rfl (fun c105 => ?_) (fun c105 => ?_)
            · exact hp_lf [] rfl (fun _ e => e)
            · refine hp_JZ 286 (fun (p101 : Int32) => [(0, (.ref 192)), (1, (.int x1)), (2, (.int a82)), (5, (.int p99.1))]) (fun (p101 : Int32) => [(.int p101), (.int p99.1), (.ref 217)]) (fun (p101 : Int32) => p99.2) ?_ (fun p101 => ?_)
              · refine hp_sv0 ?_
                refine hp_ic_ne hm (at1 74 rfl) rfl (by exact og_192) (pc' := 278) rfl 73 rfl (tgt := 285) rfl (fun c102 => ?_) (fun c102 => ?_)
                · refine hp_b hm (at1 75 rfl) (L' := [(0, (.ref 192)), (1, (.int x1)), (2, (.int a82)), (5, (.int p99.1))]) (st' := [(.int (0 : Int32)), (.int p99.1), (.ref 217)]) rfl (by exact trivial) (pc' := 286) rfl ?_
                  exact hp_lf [0, 1, 2, 3] rfl (fun _ e => e)
                · refine hp_b hm (at1 76 rfl) (L' := [(0, (.ref 192)), (1, (.int x1)), (2, (.int a82)), (5, (.int p99.1))]) (st' := [(.int (1 : Int32)), (.int p99.1), (.ref 217)]) rfl (by exact trivial) (pc' := 282) rfl ?_
                  refine hp_goto hm 72 rfl (tgt := 286) rfl ?_
                  exact hp_lf [0, 1, 2, 3] rfl (fun _ e => e)
              · refine hp_GW hm (at1 77 rfl) (L' := [(0, (.ref 192)), (1, (.int x1)), (2, (.int a82)), (5, (.int p99.1))]) rfl (fun hP => (by exact ⟨og_217, hP⟩)) (pc' := 287) rfl (fun q103 h37 => ?_)
                refine hp_z hm (at1 78 rfl) (fun (v104 : Int32) => [(5, (.int v104)), (0, (.ref 192)), (1, (.int x1)), (2, (.int a82))]) (fun (v104 : Int32) => []) rfl (by exact trivial) (pc' := 290) rfl (fun v104 => ?_)
                refine hp_goto hm 74 rfl (tgt := 262) rfl ?_
                exact hp_lf [1, 2, 3, 0] rfl (fun _ e => e)
          · exact hp_vr hm 62 rfl rfl (fun _ e => e)
/-! HintHouseModel.high(I)V -/
def M_Mo_high : hM := (11, ⟨"HintHouseModel", "high", "(I)V"⟩, prog_13_method_94_code, 6, (Option.none : Option Jvm.ClassFile.FieldType), [], [(0, [(.iload_n 1, 1, 0, 0, 0, .null)]), (434, [(.aload_n 0, 1, 0, 0, 0, .null), (.iconst 1, 1, 0, 0, 0, (.int (1 : Int32)))]), (440, [(.aload_n 0, 1, 0, 0, 0, .null), (.bipush 16, 2, 0, 0, 0, (.int (16 : Int32))), (.iconst 1, 1, 0, 0, 0, (.int (1 : Int32)))]), (448, [(.aload_n 0, 1, 0, 0, 0, .null), (.bipush 32, 2, 0, 0, 0, (.int (32 : Int32))), (.iconst 1, 1, 0, 0, 0, (.int (1 : Int32)))]), (456, [(.aload_n 0, 1, 0, 0, 0, .null), (.iconst 0, 1, 0, 0, 0, (.int (0 : Int32))), (.iconst 0, 1, 0, 0, 0, (.int (0 : Int32)))]), (463, [(.aload_n 0, 1, 0, 0, 0, .null), (.bipush 16, 2, 0, 0, 0, (.int (16 : Int32))), (.iconst 0, 1, 0, 0, 0, (.int (0 : Int32)))]), (471, [(.aload_n 0, 1, 0, 0, 0, .null), (.bipush 32, 2, 0, 0, 0, (.int (32 : Int32))), (.iconst 0, 1, 0, 0, 0, (.int (0 : Int32)))]), (533, [(.aload_n 0, 1, 0, 0, 0, .null), (.bipush 122, 2, 0, 0, 0, (.int (122 : Int32))), (.putfield 476, 3, 11, 76, 0, .null)]), (540, [(.aload_n 0, 1, 0, 0, 0, .null), (.bipush 124, 2, 0, 0, 0, (.int (124 : Int32))), (.bipush 64, 2, 0, 0, 0, (.int (64 : Int32))), (.iconst 0, 1, 0, 0, 0, (.int (0 : Int32))), (.bipush 63, 2, 0, 0, 0, (.int (63 : Int32)))]), (552, [(.aload_n 0, 1, 0, 0, 0, .null), (.bipush 125, 2, 0, 0, 0, (.int (125 : Int32))), (.bipush 64, 2, 0, 0, 0, (.int (64 : Int32))), (.iconst 0, 1, 0, 0, 0, (.int (0 : Int32))), (.iconst 0, 1, 0, 0, 0, (.int (0 : Int32)))]), (563, [(.aload_n 0, 1, 0, 0, 0, .null), (.iload_n 1, 1, 0, 0, 0, .null)]), (485, [(.aload_n 0, 1, 0, 0, 0, .null), (.iconst 2, 1, 0, 0, 0, (.int (2 : Int32)))]), (493, [(.aload_n 0, 1, 0, 0, 0, .null)]), (497, [(.istore_n 2, 1, 0, 0, 0, .null), (.aload_n 0, 1, 0, 0, 0, .null)]), (502, [(.istore_n 3, 1, 0, 0, 0, .null), (.iload_n 2, 1, 0, 0, 0, .null)]), (511, [(.iconst 0, 1, 0, 0, 0, (.int (0 : Int32)))]), (507, [(.iconst 1, 1, 0, 0, 0, (.int (1 : Int32)))]), (512, [(.iload_n 1, 1, 0, 0, 0, .null), (.bipush 120, 2, 0, 0, 0, (.int (120 : Int32)))]), (522, [(.iconst 0, 1, 0, 0, 0, (.int (0 : Int32)))]), (518, [(.iconst 1, 1, 0, 0, 0, (.int (1 : Int32)))]), (526, [(.aload_n 0, 1, 0, 0, 0, .null), (.iload_n 3, 1, 0, 0, 0, .null), (.i2l, 1, 0, 0, 0, .null)]), (479, [(.aload_n 0, 1, 0, 0, 0, .null), (.iload_n 1, 1, 0, 0, 0, .null)]), (427, [(.aload_n 0, 1, 0, 0, 0, .null), (.iconst 1, 1, 0, 0, 0, (.int (1 : Int32)))]), (432, [(.istore_n 2, 1, 0, 0, 0, .null)]), (405, [(.aload_n 0, 1, 0, 0, 0, .null), (.iconst 1, 1, 0, 0, 0, (.int (1 : Int32)))]), (413, [(.aload_n 0, 1, 0, 0, 0, .null), (.aload_n 0, 1, 0, 0, 0, .null), (.aload_n 0, 1, 0, 0, 0, .null)]), (419, [(.i2l, 1, 0, 0, 0, .null)]), (339, [(.aload_n 0, 1, 0, 0, 0, .null), (.iconst 1, 1, 0, 0, 0, (.int (1 : Int32)))]), (347, [(.aload_n 0, 1, 0, 0, 0, .null)]), (351, [(.i2l, 1, 0, 0, 0, .null), (.lstore_n 2, 1, 0, 0, 0, .null)]), (353, [(.aload_n 0, 1, 0, 0, 0, .null), (.iload_n 1, 1, 0, 0, 0, .null), (.bipush 100, 2, 0, 0, 0, (.int (100 : Int32)))]), (367, [(.iload_n 1, 1, 0, 0, 0, .null), (.bipush 101, 2, 0, 0, 0, (.int (101 : Int32)))]), (378, [(.iload_n 1, 1, 0, 0, 0, .null), (.bipush 102, 2, 0, 0, 0, (.int (102 : Int32)))]), (392, [(.lload_n 2, 1, 0, 0, 0, .null), (.ldc2_w 731, 3, 0, 0, 0, (.long (63 : Int64))), (.ladd, 1, 0, 0, 0, .null), (.ldc2_w 204, 3, 0, 0, 0, (.long (-64 : Int64))), (.land, 1, 0, 0, 0, .null)]), (384, [(.lload_n 2, 1, 0, 0, 0, .null), (.ldc2_w 204, 3, 0, 0, 0, (.long (-64 : Int64))), (.land, 1, 0, 0, 0, .null)]), (373, [(.lload_n 2, 1, 0, 0, 0, .null), (.lneg, 1, 0, 0, 0, .null)]), (360, [(.lload_n 2, 1, 0, 0, 0, .null)]), (196, [(.aload_n 0, 1, 0, 0, 0, .null), (.iconst 2, 1, 0, 0, 0, (.int (2 : Int32)))]), (204, [(.aload_n 0, 1, 0, 0, 0, .null)]), (208, [(.i2l, 1, 0, 0, 0, .null), (.lstore_n 2, 1, 0, 0, 0, .null)]), (210, [(.aload_n 0, 1, 0, 0, 0, .null)]), (214, [(.i2l, 1, 0, 0, 0, .null), (.lstore 4, 2, 0, 0, 0, .null)]), (217, [(.iload_n 1, 1, 0, 0, 0, .null), (.bipush 98, 2, 0, 0, 0, (.int (98 : Int32)))]), (223, [(.lload_n 2, 1, 0, 0, 0, .null), (.lconst 0, 1, 0, 0, 0, (.long (0 : Int64))), (.lcmp, 1, 0, 0, 0, .null)]), (229, [(.aload_n 0, 1, 0, 0, 0, .null), (.bipush 7, 2, 0, 0, 0, (.int (7 : Int32)))]), (236, [(.aload_n 0, 1, 0, 0, 0, .null), (.iload_n 1, 1, 0, 0, 0, .null), (.bipush 96, 2, 0, 0, 0, (.int (96 : Int32)))]), (250, [(.iload_n 1, 1, 0, 0, 0, .null), (.bipush 97, 2, 0, 0, 0, (.int (97 : Int32)))]), (263, [(.iload_n 1, 1, 0, 0, 0, .null), (.bipush 98, 2, 0, 0, 0, (.int (98 : Int32)))]), (280, [(.iload_n 1, 1, 0, 0, 0, .null), (.bipush 99, 2, 0, 0, 0, (.int (99 : Int32)))]), (299, [(.iload_n 1, 1, 0, 0, 0, .null), (.sipush 139, 3, 0, 0, 0, (.int (139 : Int32)))]), (322, [(.lload 4, 2, 0, 0, 0, .null), (.lload_n 2, 1, 0, 0, 0, .null), (.lcmp, 1, 0, 0, 0, .null)]), (334, [(.lload_n 2, 1, 0, 0, 0, .null)]), (329, [(.lload 4, 2, 0, 0, 0, .null)]), (306, [(.lload 4, 2, 0, 0, 0, .null), (.lload_n 2, 1, 0, 0, 0, .null), (.lcmp, 1, 0, 0, 0, .null)]), (318, [(.lload_n 2, 1, 0, 0, 0, .null)]), (313, [(.lload 4, 2, 0, 0, 0, .null)]), (286, [(.lload 4, 2, 0, 0, 0, .null), (.lload_n 2, 1, 0, 0, 0, .null), (.lmul, 1, 0, 0, 0, .null), (.ldc2_w 338, 3, 0, 0, 0, (.long (64 : Int64)))]), (269, [(.lload 4, 2, 0, 0, 0, .null), (.ldc2_w 338, 3, 0, 0, 0, (.long (64 : Int64))), (.lmul, 1, 0, 0, 0, .null), (.lload_n 2, 1, 0, 0, 0, .null), (.ldiv, 1, 0, 0, 0, .null)]), (256, [(.lload 4, 2, 0, 0, 0, .null), (.lload_n 2, 1, 0, 0, 0, .null), (.lsub, 1, 0, 0, 0, .null)]), (243, [(.lload 4, 2, 0, 0, 0, .null), (.lload_n 2, 1, 0, 0, 0, .null), (.ladd, 1, 0, 0, 0, .null)])], [(1, .tableswitch 562 96 140 #[195, 195, 195, 195, 338, 338, 338, 338, 404, 404, 404, 404, 426, 426, 426, 426, 433, 439, 447, 455, 462, 470, 478, 478, 484, 484, 532, 562, 539, 551, 562, 562, 562, 562, 562, 562, 562, 562, 562, 562, 562, 562, 562, 195, 195], 195), (436, .invokevirtual 674, 3), (439, .return_, 1), (444, .invokevirtual 696, 3), (447, .return_, 1), (452, .invokevirtual 696, 3), (455, .return_, 1), (459, .invokevirtual 696, 3), (462, .return_, 1), (467, .invokevirtual 696, 3), (470, .return_, 1), (475, .invokevirtual 696, 3), (478, .return_, 1), (539, .return_, 1), (548, .invokevirtual 472, 3), (551, .return_, 1), (559, .invokevirtual 472, 3), (562, .return_, 1), (565, .invokevirtual 736, 3), (568, .return_, 1), (487, .invokevirtual 576, 3), (532, .return_, 1), (494, .invokevirtual 579, 3), (499, .invokevirtual 579, 3), (508, .goto 4, 3), (504, .ifCond .eq 7, 3), (519, .goto 4, 3), (515, .if_icmp .ne 7, 3), (529, .invokevirtual 602, 3), (523, .if_icmp .ne 9, 3), (490, .ifCond .eq 42, 3), (481, .invokevirtual 733, 3), (484, .return_, 1), (429, .invokevirtual 576, 3), (433, .return_, 1), (407, .invokevirtual 576, 3), (426, .return_, 1), (416, .invokevirtual 579, 3), (420, .invokevirtual 647, 3), (423, .invokevirtual 564, 3), (410, .ifCond .eq 16, 3), (341, .invokevirtual 576, 3), (404, .return_, 1), (348, .invokevirtual 579, 3), (389, .goto 12, 3), (381, .if_icmp .ne 11, 3), (375, .goto 26, 3), (370, .if_icmp .ne 8, 3), (361, .invokestatic 198, 3), (364, .goto 37, 3), (357, .if_icmp .ne 10, 3), (401, .invokevirtual 564, 3), (344, .ifCond .eq 60, 3), (198, .invokevirtual 576, 3), (338, .return_, 1), (205, .invokevirtual 579, 3), (211, .invokevirtual 579, 3), (226, .ifCond .ne 10, 3), (220, .if_icmp .ne 16, 3), (232, .invokevirtual 421, 3), (235, .return_, 1), (331, .goto 4, 3), (326, .ifCond .ge 8, 3), (319, .goto 16, 3), (315, .goto 20, 3), (310, .ifCond .le 8, 3), (303, .if_icmp .ne 19, 3), (293, .invokestatic 517, 3), (296, .goto 39, 3), (283, .if_icmp .ne 16, 3), (277, .goto 58, 3), (266, .if_icmp .ne 14, 3), (260, .goto 75, 3), (253, .if_icmp .ne 10, 3), (247, .goto 88, 3), (240, .if_icmp .ne 10, 3), (335, .invokevirtual 564, 3), (201, .ifCond .eq 137, 3)])
set_option maxRecDepth 100000 in
theorem m_Mo_high : hx_mok M_Mo_high = true := by decide +kernel
theorem pd_Mo_high : (parseMethodDescriptor M_Mo_high.2.1.desc).map (fun q => q.parameters.length) = some 1 := by decide +kernel
theorem y_Mo_high : hx_okV M_Mo_high := ⟨⟨lw_g (lw_at lw_m10 207 rfl) rfl, lw_g (lw_at lw_m10 206 rfl) rfl, qs177, lw_g (lw_at lw_m1 12 rfl) rfl, rfl, by decide, by decide, by decide⟩, rfl, by decide, plainFor_of_name (by decide)⟩
noncomputable def f_Mo_high (x1 : Int32) (h : hH) : Option (Unit × hH) :=
  bE (P := Unit) (X := (Unit × hH)) (
    bE (P := Unit) (X := (Unit ⊕ (Unit × hH))) (
      bE (P := Unit) (X := (Unit ⊕ (Unit ⊕ (Unit × hH)))) (
        bE (P := Unit) (X := (Unit ⊕ (Unit ⊕ (Unit ⊕ (Unit × hH))))) (
          bE (P := Unit) (X := (Unit ⊕ (Unit ⊕ (Unit ⊕ (Unit ⊕ (Unit × hH)))))) (
            bE (P := Unit) (X := (Unit ⊕ (Unit ⊕ (Unit ⊕ (Unit ⊕ (Unit ⊕ (Unit × hH))))))) (
              bE (P := Unit) (X := (Unit ⊕ (Unit ⊕ (Unit ⊕ (Unit ⊕ (Unit ⊕ (Unit ⊕ (Unit × hH)))))))) (
                if x1 = (96 : Int32) ∨ x1 = (97 : Int32) ∨ x1 = (98 : Int32) ∨ x1 = (99 : Int32) ∨ x1 = (139 : Int32) ∨ x1 = (140 : Int32) then (
                  some (.inr (.inr (.inr (.inr (.inr (.inr (.inl ())))))))
                ) else (
                  if x1 = (100 : Int32) ∨ x1 = (101 : Int32) ∨ x1 = (102 : Int32) ∨ x1 = (103 : Int32) then (
                    some (.inr (.inr (.inr (.inr (.inr (.inl ()))))))
                  ) else (
                    if x1 = (104 : Int32) ∨ x1 = (105 : Int32) ∨ x1 = (106 : Int32) ∨ x1 = (107 : Int32) then (
                      some (.inr (.inr (.inr (.inr (.inl ())))))
                    ) else (
                      if x1 = (108 : Int32) ∨ x1 = (109 : Int32) ∨ x1 = (110 : Int32) ∨ x1 = (111 : Int32) then (
                        some (.inr (.inr (.inr (.inl ()))))
                      ) else (
                        if x1 = (112 : Int32) then (
                          bS (f_Mo_setCvt (1 : Int32) h) fun _ h1 =>
                          some (.inr (.inr (.inr (.inr (.inr (.inr (.inr ((), h1))))))))
                        ) else (
                          if x1 = (113 : Int32) then (
                            bS (f_Mo_deltas (16 : Int32) (1 : Int32) h) fun _ h2 =>
                            some (.inr (.inr (.inr (.inr (.inr (.inr (.inr ((), h2))))))))
                          ) else (
                            if x1 = (114 : Int32) then (
                              bS (f_Mo_deltas (32 : Int32) (1 : Int32) h) fun _ h3 =>
                              some (.inr (.inr (.inr (.inr (.inr (.inr (.inr ((), h3))))))))
                            ) else (
                              if x1 = (115 : Int32) then (
                                bS (f_Mo_deltas (0 : Int32) (0 : Int32) h) fun _ h4 =>
                                some (.inr (.inr (.inr (.inr (.inr (.inr (.inr ((), h4))))))))
                              ) else (
                                if x1 = (116 : Int32) then (
                                  bS (f_Mo_deltas (16 : Int32) (0 : Int32) h) fun _ h5 =>
                                  some (.inr (.inr (.inr (.inr (.inr (.inr (.inr ((), h5))))))))
                                ) else (
                                  if x1 = (117 : Int32) then (
                                    bS (f_Mo_deltas (32 : Int32) (0 : Int32) h) fun _ h6 =>
                                    some (.inr (.inr (.inr (.inr (.inr (.inr (.inr ((), h6))))))))
                                  ) else (
                                    if x1 = (118 : Int32) ∨ x1 = (119 : Int32) then (
                                      some (.inr (.inr (.inl ())))
                                    ) else (
                                      if x1 = (120 : Int32) ∨ x1 = (121 : Int32) then (
                                        some (.inr (.inl ()))
                                      ) else (
                                        if x1 = (122 : Int32) then (
                                          lz (wrI h 192 76 (122 : Int32)) fun h7 =>
                                          some (.inr (.inr (.inr (.inr (.inr (.inr (.inr ((), h7))))))))
                                        ) else (
                                          if x1 = (124 : Int32) then (
                                            bS (f_Mo_setRounding (124 : Int32) (64 : Int32) (0 : Int32) (63 : Int32) h) fun _ h8 =>
                                            some (.inr (.inr (.inr (.inr (.inr (.inr (.inr ((), h8))))))))
                                          ) else (
                                            if x1 = (125 : Int32) then (
                                              bS (f_Mo_setRounding (125 : Int32) (64 : Int32) (0 : Int32) (0 : Int32) h) fun _ h9 =>
                                              some (.inr (.inr (.inr (.inr (.inr (.inr (.inr ((), h9))))))))
                                            ) else (
                                              some (.inl ())
                                            )
                                          )
                                        )
                                      )
                                    )
                                  )
                                )
                              )
                            )
                          )
                        )
                      )
                    )
                  )
                )
              ) fun p7 =>
              bS (f_Mo_more x1 h) fun _ h10 =>
              some (.inr (.inr (.inr (.inr (.inr (.inr ((), h10)))))))
            ) fun p6 =>
            bS (f_Mo_has (2 : Int32) h) fun a23 h11 =>
            if a23 = 0 then (
              some (.inr (.inr (.inr (.inr (.inr ((), h11))))))
            ) else (
              bS (f_Mo_pop h11) fun a24 h12 =>
              bS (f_Mo_pop h12) fun a25 h13 =>
              lz (A := Int32) (if a24 = 0 then (0 : Int32) else (1 : Int32)) fun p26 =>
              lz (A := Int32) (if x1 = (120 : Int32) then (1 : Int32) else (0 : Int32)) fun p28 =>
              if p26 = p28 then (
                bS (f_Mo_jump (Int32.toInt64 a25) h13) fun _ h14 =>
                some (.inr (.inr (.inr (.inr (.inr ((), h14))))))
              ) else (
                some (.inr (.inr (.inr (.inr (.inr ((), h13))))))
              )
            )
          ) fun p5 =>
          bS (f_Mo_ownRounding x1 h) fun _ h15 =>
          some (.inr (.inr (.inr (.inr ((), h15)))))
        ) fun p4 =>
        bS (f_Mo_has (1 : Int32) h) fun a32 h16 =>
        some (.inr (.inr (.inr ((), h16))))
      ) fun p3 =>
      bS (f_Mo_has (1 : Int32) h) fun a33 h17 =>
      if a33 = 0 then (
        some (.inr (.inr ((), h17)))
      ) else (
        bS (f_Mo_pop h17) fun a34 h18 =>
        bP (f_Mo_rounded (Int32.toInt64 a34) h18) fun a35 =>
        bS (f_Mo_push a35 h18) fun _ h19 =>
        some (.inr (.inr ((), h19)))
      )
    ) fun p2 =>
    bS (f_Mo_has (1 : Int32) h) fun a37 h20 =>
    if a37 = 0 then (
      some (.inr ((), h20))
    ) else (
      bS (f_Mo_pop h20) fun a38 h21 =>
      lz (A := Int64) (Int32.toInt64 a38) fun v39 =>
      bP (A := Int64) (
        if x1 = (100 : Int32) then (
          bP (f_Mo_sizeOf v39) fun a43 =>
          some a43
        ) else (
          if x1 = (101 : Int32) then (
            some (-v39)
          ) else (
            if x1 = (102 : Int32) then (
              some (v39 &&& (-64 : Int64))
            ) else (
              some ((v39 + (63 : Int64)) &&& (-64 : Int64))
            )
          )
        )
      ) fun p40 =>
      bS (f_Mo_push p40 h21) fun _ h22 =>
      some (.inr ((), h22))
    )
  ) fun p1 =>
  bS (f_Mo_has (2 : Int32) h) fun a46 h23 =>
  if a46 = 0 then (
    some ((), h23)
  ) else (
    bS (f_Mo_pop h23) fun a47 h24 =>
    lz (A := Int64) (Int32.toInt64 a47) fun v48 =>
    bS (f_Mo_pop h24) fun a49 h25 =>
    lz (A := Int64) (Int32.toInt64 a49) fun v50 =>
    if (x1 = (98 : Int32) ∧ v48 = (0 : Int64)) then (
      bS (f_Mo_fail (7 : Int32) h25) fun _ h26 =>
      some ((), h26)
    ) else (
      bP (A := Int64) (
        if x1 = (96 : Int32) then (
          some (v50 + v48)
        ) else (
          if x1 = (97 : Int32) then (
            some (v50 - v48)
          ) else (
            if x1 = (98 : Int32) then (
              gd (¬ v48 = 0) <|
              some ((v50 * (64 : Int64)) / v48)
            ) else (
              if x1 = (99 : Int32) then (
                bP (f_Mo_over (v50 * v48) (64 : Int64)) fun a60 =>
                some a60
              ) else (
                if x1 = (139 : Int32) then (
                  if v50 ≤ v48 then (
                    some v48
                  ) else (
                    some v50
                  )
                ) else (
                  if v48 ≤ v50 then (
                    some v48
                  ) else (
                    some v50
                  )
                )
              )
            )
          )
        )
      ) fun p56 =>
      bS (f_Mo_push p56 h25) fun _ h27 =>
      some ((), h27)
    )
  )
set_option maxRecDepth 20000 in
theorem k_Mo_high (x1 : Int32) (h : hH) : hx_kS S0 M_Mo_high 7 NT [(.ref 192), (.int x1)] h (f_Mo_high x1 h) cvU := by
  have hm := m_Mo_high
  show hx_P S0 M_Mo_high 7 0 [(0, (.ref 192)), (1, (.int x1))] [] NT h (f_Mo_high x1 h) (hx_Rc cvU NT)
  unfold f_Mo_high
  refine hp_E 196 (fun (p1 : Unit) => [(0, (.ref 192)), (1, (.int x1))]) (fun (p1 : Unit) => []) (fun (p1 : Unit) => h) ?_ (fun p1 => ?_)
  · refine hp_E 339 (fun (p2 : Unit) => [(0, (.ref 192)), (1, (.int x1))]) (fun (p2 : Unit) => []) (fun (p2 : Unit) => h) ?_ (fun p2 => ?_)
    · refine hp_E 405 (fun (p3 : Unit) => [(0, (.ref 192))]) (fun (p3 : Unit) => []) (fun (p3 : Unit) => h) ?_ (fun p3 => ?_)
      · refine hp_E 427 (fun (p4 : Unit) => [(0, (.ref 192))]) (fun (p4 : Unit) => []) (fun (p4 : Unit) => h) ?_ (fun p4 => ?_)
        · refine hp_E 479 (fun (p5 : Unit) => [(0, (.ref 192)), (1, (.int x1))]) (fun (p5 : Unit) => []) (fun (p5 : Unit) => h) ?_ (fun p5 => ?_)
          · refine hp_E 485 (fun (p6 : Unit) => [(0, (.ref 192)), (1, (.int x1))]) (fun (p6 : Unit) => []) (fun (p6 : Unit) => h) ?_ (fun p6 => ?_)
            · refine hp_E 563 (fun (p7 : Unit) => [(0, (.ref 192)), (1, (.int x1))]) (fun (p7 : Unit) => []) (fun (p7 : Unit) => h) ?_ (fun p7 => ?_)
              · refine hp_b hm (at1 0 rfl) (L' := [(0, (.ref 192)), (1, (.int x1))]) (st' := [(.int x1)]) rfl (by exact trivial) (pc' := 1) rfl ?_
                refine hp_sw hm 0 rfl (cs := [96, 97, 98, 99, 139, 140]) (off := 195) (by decide) (tgt := 196) rfl (sw6 _ _ _ _ _ _ _) ?_ (fun c8 => ?_)
                · exact hp_lf [0, 1] rfl (fun _ e => e)
                · refine hp_sw hm 0 rfl (cs := [100, 101, 102, 103]) (off := 338) (by decide) (tgt := 339) rfl (sw4 _ _ _ _ _) ?_ (fun c9 => ?_)
                  · exact hp_lf [0, 1] rfl (fun _ e => e)
                  · refine hp_sw hm 0 rfl (cs := [104, 105, 106, 107]) (off := 404) (by decide) (tgt := 405) rfl (sw4 _ _ _ _ _) ?_ (fun c10 => ?_)
                    · exact hp_lf [0] rfl (fun _ e => e)
                    · refine hp_sw hm 0 rfl (cs := [108, 109, 110, 111]) (off := 426) (by decide) (tgt := 427) rfl (sw4 _ _ _ _ _) ?_ (fun c11 => ?_)
                      · exact hp_lf [0] rfl (fun _ e => e)
                      · refine hp_sw hm 0 rfl (cs := [112]) (off := 433) (by decide) (tgt := 434) rfl (sw1 _ _) ?_ (fun c12 => ?_)
                        · refine hp_cVS (M2 := M_Mo_setCvt) hm (at1 1 rfl) (as := [(.int (1 : Int32))]) (rest := []) (z := 192) rfl (by exact trivial) (pc' := 436) rfl 1 rfl (lw_g (lw_at lw_m10 187 rfl) rfl) y_Mo_setCvt rfl (d2 := 5) ⟨le_b rfl, pd_Mo_setCvt, le_b rfl⟩ (le_b rfl) og_192 (k_Mo_setCvt (1 : Int32) h) (fun _ h1 => ?_)
                          exact hp_vr hm 2 rfl rfl (fun _ e => e)
                        · refine hp_sw hm 0 rfl (cs := [113]) (off := 439) (by decide) (tgt := 440) rfl (sw1 _ _) ?_ (fun c13 => ?_)
                          · refine hp_cVS (M2 := M_Mo_deltas) hm (at1 2 rfl) (as := [(.int (16 : Int32)), (.int (1 : Int32))]) (rest := []) (z := 192) rfl (by exact trivial) (pc' := 444) rfl 3 rfl (lw_g (lw_at lw_m10 199 rfl) rfl) y_Mo_deltas rfl (d2 := 6) ⟨le_b rfl, pd_Mo_deltas, le_b rfl⟩ (le_b rfl) og_192 (k_Mo_deltas (16 : Int32) (1 : Int32) h) (fun _ h2 => ?_)
                            exact hp_vr hm 4 rfl rfl (fun _ e => e)
                          · refine hp_sw hm 0 rfl (cs := [114]) (off := 447) (by decide) (tgt := 448) rfl (sw1 _ _) ?_ (fun c14 => ?_)
                            · refine hp_cVS (M2 := M_Mo_deltas) hm (at1 3 rfl) (as := [(.int (32 : Int32)), (.int (1 : Int32))]) (rest := []) (z := 192) rfl (by exact trivial) (pc' := 452) rfl 5 rfl (lw_g (lw_at lw_m10 199 rfl) rfl) y_Mo_deltas rfl (d2 := 6) ⟨le_b rfl, pd_Mo_deltas, le_b rfl⟩ (le_b rfl) og_192 (k_Mo_deltas (32 : Int32) (1 : Int32) h) (fun _ h3 => ?_)
                              exact hp_vr hm 6 rfl rfl (fun _ e => e)
                            · refine hp_sw hm 0 rfl (cs := [115]) (off := 455) (by decide) (tgt := 456) rfl (sw1 _ _) ?_ (fun c15 => ?_)
                              · refine hp_cVS (M2 := M_Mo_deltas) hm (at1 4 rfl) (as := [(.int (0 : Int32)), (.int (0 : Int32))]) (rest := []) (z := 192) rfl (by exact trivial) (pc' := 459) rfl 7 rfl (lw_g (lw_at lw_m10 199 rfl) rfl) y_Mo_deltas rfl (d2 := 6) ⟨le_b rfl, pd_Mo_deltas, le_b rfl⟩ (le_b rfl) og_192 (k_Mo_deltas (0 : Int32) (0 : Int32) h) (fun _ h4 => ?_)
                                exact hp_vr hm 8 rfl rfl (fun _ e => e)
                              · refine hp_sw hm 0 rfl (cs := [116]) (off := 462) (by decide) (tgt := 463) rfl (sw1 _ _) ?_ (fun c16 => ?_)
                                · refine hp_cVS (M2 := M_Mo_deltas) hm (at1 5 rfl) (as := [(.int (16 : Int32)), (.int (0 : Int32))]) (rest := []) (z := 192) rfl (by exact trivial) (pc' := 467) rfl 9 rfl (lw_g (lw_at lw_m10 199 rfl) rfl) y_Mo_deltas rfl (d2 := 6) ⟨le_b rfl, pd_Mo_deltas, le_b rfl⟩ (le_b rfl) og_192 (k_Mo_deltas (16 : Int32) (0 : Int32) h) (fun _ h5 => ?_)
                                  exact hp_vr hm 10 rfl rfl (fun _ e => e)
                                · refine hp_sw hm 0 rfl (cs := [117]) (off := 470) (by decide) (tgt := 471) rfl (sw1 _ _) ?_ (fun c17 => ?_)
                                  · refine hp_cVS (M2 := M_Mo_deltas) hm (at1 6 rfl) (as := [(.int (32 : Int32)), (.int (0 : Int32))]) (rest := []) (z := 192) rfl (by exact trivial) (pc' := 475) rfl 11 rfl (lw_g (lw_at lw_m10 199 rfl) rfl) y_Mo_deltas rfl (d2 := 6) ⟨le_b rfl, pd_Mo_deltas, le_b rfl⟩ (le_b rfl) og_192 (k_Mo_deltas (32 : Int32) (0 : Int32) h) (fun _ h6 => ?_)
                                    exact hp_vr hm 12 rfl rfl (fun _ e => e)
                                  · refine hp_sw hm 0 rfl (cs := [118, 119]) (off := 478) (by decide) (tgt := 479) rfl (sw2 _ _ _) ?_ (fun c18 => ?_)
                                    · exact hp_lf [0, 1] rfl (fun _ e => e)
                                    · refine hp_sw hm 0 rfl (cs := [120, 121]) (off := 484) (by decide) (tgt := 485) rfl (sw2 _ _ _) ?_ (fun c19 => ?_)
                                      · exact hp_lf [0, 1] rfl (fun _ e => e)
                                      · refine hp_sw hm 0 rfl (cs := [122]) (off := 532) (by decide) (tgt := 533) rfl (sw1 _ _) ?_ (fun c20 => ?_)
                                        · refine hp_w hm (at1 7 rfl) (L' := [(0, (.ref 192)), (1, (.int x1))]) rfl (by exact og_192) (pc' := 539) rfl (fun h7 => ?_)
                                          exact hp_vr hm 13 rfl rfl (fun _ e => e)
                                        · refine hp_sw hm 0 rfl (cs := [124]) (off := 539) (by decide) (tgt := 540) rfl (sw1 _ _) ?_ (fun c21 => ?_)
                                          · refine hp_cVS (M2 := M_Mo_setRounding) hm (at1 8 rfl) (as := [(.int (124 : Int32)), (.int (64 : Int32)), (.int (0 : Int32)), (.int (63 : Int32))]) (rest := []) (z := 192) rfl (by exact trivial) (pc' := 548) rfl 14 rfl (lw_g (lw_at lw_m10 0 rfl) rfl) y_Mo_setRounding rfl (d2 := 1) ⟨le_b rfl, pd_Mo_setRounding, le_b rfl⟩ (le_b rfl) og_192 (k_Mo_setRounding (124 : Int32) (64 : Int32) (0 : Int32) (63 : Int32) h) (fun _ h8 => ?_)
                                            exact hp_vr hm 15 rfl rfl (fun _ e => e)
                                          · refine hp_sw hm 0 rfl (cs := [125]) (off := 551) (by decide) (tgt := 552) rfl (sw1 _ _) ?_ (fun c22 => ?_)
                                            · refine hp_cVS (M2 := M_Mo_setRounding) hm (at1 9 rfl) (as := [(.int (125 : Int32)), (.int (64 : Int32)), (.int (0 : Int32)), (.int (0 : Int32))]) (rest := []) (z := 192) rfl (by exact trivial) (pc' := 559) rfl 16 rfl (lw_g (lw_at lw_m10 0 rfl) rfl) y_Mo_setRounding rfl (d2 := 1) ⟨le_b rfl, pd_Mo_setRounding, le_b rfl⟩ (le_b rfl) og_192 (k_Mo_setRounding (125 : Int32) (64 : Int32) (0 : Int32) (0 : Int32) h) (fun _ h9 => ?_)
                                              exact hp_vr hm 17 rfl rfl (fun _ e => e)
                                            · refine hp_sd2 hm 0 rfl (css := [[96, 97, 98, 99, 139, 140], [100, 101, 102, 103], [104, 105, 106, 107], [108, 109, 110, 111], [112], [113], [114], [115], [116], [117], [118, 119], [120, 121], [122], [124], [125]]) (by decide) (by decide) (List.forall_mem_cons.mpr ⟨c8, (List.forall_mem_cons.mpr ⟨c9, (List.forall_mem_cons.mpr ⟨c10, (List.forall_mem_cons.mpr ⟨c11, (List.forall_mem_cons.mpr ⟨c12, (List.forall_mem_cons.mpr ⟨c13, (List.forall_mem_cons.mpr ⟨c14, (List.forall_mem_cons.mpr ⟨c15, (List.forall_mem_cons.mpr ⟨c16, (List.forall_mem_cons.mpr ⟨c17, (List.forall_mem_cons.mpr ⟨c18, (List.forall_mem_cons.mpr ⟨c19, (List.forall_mem_cons.mpr ⟨c20, (List.forall_mem_cons.mpr ⟨c21, (List.forall_mem_cons.mpr ⟨c22, (fun _ h => absurd h List.not_mem_nil)⟩)⟩)⟩)⟩)⟩)⟩)⟩)⟩)⟩)⟩)⟩)⟩)⟩)⟩)⟩) (tgt := 563) rfl ?_
                                              exact hp_lf [0, 1] rfl (fun _ e => e)
              · refine hp_cVS (M2 := M_Mo_more) hm (at1 10 rfl) (as := [(.int x1)]) (rest := []) (z := 192) rfl (by exact trivial) (pc' := 565) rfl 18 rfl (lw_g (lw_at lw_m10 214 rfl) rfl) y_Mo_more rfl (d2 := 6) ⟨le_b rfl, pd_Mo_more, le_b rfl⟩ (le_b rfl) og_192 (k_Mo_more x1 h) (fun _ h10 => ?_)
                exact hp_vr hm 19 rfl rfl (fun _ e => e)
            · refine hp_cVS (M2 := M_Mo_has) hm (at1 11 rfl) (as := [(.int (2 : Int32))]) (rest := []) (z := 192) rfl (by exact trivial) (pc' := 487) rfl 20 rfl (lw_g (lw_at lw_m10 20 rfl) rfl) y_Mo_has rfl (d2 := 2) ⟨le_b rfl, pd_Mo_has, le_b rfl⟩ (le_b rfl) og_192 (k_Mo_has (2 : Int32) h) (fun a23 h11 => ?_)
              refine hp_if_eq hm at0 rfl (by exact trivial) (pc' := 490) rfl 30 rfl (tgt := 532) rfl (fun c31 => ?_) (fun c31 => ?_)
              · exact hp_vr hm 21 rfl rfl (fun _ e => e)
              · refine hp_cVS (M2 := M_Mo_pop) hm (at1 12 rfl) (as := []) (rest := []) (z := 192) rfl (by exact trivial) (pc' := 494) rfl 22 rfl (lw_g (lw_at lw_m10 24 rfl) rfl) y_Mo_pop rfl (d2 := 1) ⟨le_b rfl, pd_Mo_pop, le_b rfl⟩ (le_b rfl) og_192 (k_Mo_pop h11) (fun a24 h12 => ?_)
                refine hp_b hm (at1 13 rfl) (L' := [(2, (.int a24)), (0, (.ref 192)), (1, (.int x1))]) (st' := [(.ref 192)]) rfl (by exact trivial) (pc' := 499) rfl ?_
                refine hp_cVS (M2 := M_Mo_pop) hm at0 (as := []) (rest := []) (z := 192) rfl (by exact trivial) (pc' := 499) rfl 23 rfl (lw_g (lw_at lw_m10 24 rfl) rfl) y_Mo_pop rfl (d2 := 1) ⟨le_b rfl, pd_Mo_pop, le_b rfl⟩ (le_b rfl) og_192 (k_Mo_pop h12) (fun a25 h13 => ?_)
                refine hp_b hm (at1 14 rfl) (L' := [(3, (.int a25)), (2, (.int a24)), (0, (.ref 192)), (1, (.int x1))]) (st' := [(.int a24)]) rfl (by exact trivial) (pc' := 504) rfl ?_
                refine hp_JZ 512 (fun (p26 : Int32) => [(0, (.ref 192)), (1, (.int x1)), (3, (.int a25))]) (fun (p26 : Int32) => [(.int p26)]) (fun (p26 : Int32) => h13) ?_ (fun p26 => ?_)
                · refine hp_sv0 ?_
                  refine hp_if_eq hm at0 rfl (by exact trivial) (pc' := 504) rfl 25 rfl (tgt := 511) rfl (fun c27 => ?_) (fun c27 => ?_)
                  · refine hp_b hm (at1 15 rfl) (L' := [(3, (.int a25)), (2, (.int a24)), (0, (.ref 192)), (1, (.int x1))]) (st' := [(.int (0 : Int32))]) rfl (by exact trivial) (pc' := 512) rfl ?_
                    exact hp_lf [2, 3, 0] rfl (fun _ e => e)
                  · refine hp_b hm (at1 16 rfl) (L' := [(3, (.int a25)), (2, (.int a24)), (0, (.ref 192)), (1, (.int x1))]) (st' := [(.int (1 : Int32))]) rfl (by exact trivial) (pc' := 508) rfl ?_
                    refine hp_goto hm 24 rfl (tgt := 512) rfl ?_
                    exact hp_lf [2, 3, 0] rfl (fun _ e => e)
                · refine hp_JZ 523 (fun (p28 : Int32) => [(0, (.ref 192)), (3, (.int a25))]) (fun (p28 : Int32) => [(.int p28), (.int p26)]) (fun (p28 : Int32) => h13) ?_ (fun p28 => ?_)
                  · refine hp_sv0 ?_
                    refine hp_ic_ne hm (at1 17 rfl) rfl (by exact trivial) (pc' := 515) rfl 27 rfl (tgt := 522) rfl (fun c29 => ?_) (fun c29 => ?_)
                    · refine hp_b hm (at1 18 rfl) (L' := [(0, (.ref 192)), (1, (.int x1)), (3, (.int a25))]) (st' := [(.int (0 : Int32)), (.int p26)]) rfl (by exact trivial) (pc' := 523) rfl ?_
                      exact hp_lf [0, 2] rfl (fun _ e => e)
                    · refine hp_b hm (at1 19 rfl) (L' := [(0, (.ref 192)), (1, (.int x1)), (3, (.int a25))]) (st' := [(.int (1 : Int32)), (.int p26)]) rfl (by exact trivial) (pc' := 519) rfl ?_
                      refine hp_goto hm 26 rfl (tgt := 523) rfl ?_
                      exact hp_lf [0, 2] rfl (fun _ e => e)
                  · refine hp_ic_ne hm at0 rfl (by exact trivial) (pc' := 523) rfl 29 rfl (tgt := 532) rfl (fun c30 => ?_) (fun c30 => ?_)
                    · exact hp_vr hm 21 rfl rfl (fun _ e => e)
                    · refine hp_cVS (M2 := M_Mo_jump) hm (at1 20 rfl) (as := [(.long (Int32.toInt64 a25))]) (rest := []) (z := 192) rfl (by exact trivial) (pc' := 529) rfl 28 rfl (lw_g (lw_at lw_m10 124 rfl) rfl) y_Mo_jump rfl (d2 := 2) ⟨le_b rfl, pd_Mo_jump, le_b rfl⟩ (le_b rfl) og_192 (k_Mo_jump (Int32.toInt64 a25) h13) (fun _ h14 => ?_)
                      exact hp_vr hm 21 rfl rfl (fun _ e => e)
          · refine hp_cVS (M2 := M_Mo_ownRounding) hm (at1 21 rfl) (as := [(.int x1)]) (rest := []) (z := 192) rfl (by exact trivial) (pc' := 481) rfl 31 rfl (lw_g (lw_at lw_m10 210 rfl) rfl) y_Mo_ownRounding rfl (d2 := 3) ⟨le_b rfl, pd_Mo_ownRounding, le_b rfl⟩ (le_b rfl) og_192 (k_Mo_ownRounding x1 h) (fun _ h15 => ?_)
            exact hp_vr hm 32 rfl rfl (fun _ e => e)
        · refine hp_cVS (M2 := M_Mo_has) hm (at1 22 rfl) (as := [(.int (1 : Int32))]) (rest := []) (z := 192) rfl (by exact trivial) (pc' := 429) rfl 33 rfl (lw_g (lw_at lw_m10 20 rfl) rfl) y_Mo_has rfl (d2 := 2) ⟨le_b rfl, pd_Mo_has, le_b rfl⟩ (le_b rfl) og_192 (k_Mo_has (1 : Int32) h) (fun a32 h16 => ?_)
          refine hp_b hm (at1 23 rfl) (L' := [(2, (.int a32)), (0, (.ref 192))]) (st' := []) rfl (by exact trivial) (pc' := 433) rfl ?_
          exact hp_vr hm 34 rfl rfl (fun _ e => e)
      · refine hp_cVS (M2 := M_Mo_has) hm (at1 24 rfl) (as := [(.int (1 : Int32))]) (rest := []) (z := 192) rfl (by exact trivial) (pc' := 407) rfl 35 rfl (lw_g (lw_at lw_m10 20 rfl) rfl) y_Mo_has rfl (d2 := 2) ⟨le_b rfl, pd_Mo_has, le_b rfl⟩ (le_b rfl) og_192 (k_Mo_has (1 : Int32) h) (fun a33 h17 => ?_)
        refine hp_if_eq hm at0 rfl (by exact trivial) (pc' := 410) rfl 40 rfl (tgt := 426) rfl (fun c36 => ?_) (fun c36 => ?_)
        · exact hp_vr hm 36 rfl rfl (fun _ e => e)
        · refine hp_cVS (M2 := M_Mo_pop) hm (at1 25 rfl) (as := []) (rest := [(.ref 192), (.ref 192)]) (z := 192) rfl (by exact trivial) (pc' := 416) rfl 37 rfl (lw_g (lw_at lw_m10 24 rfl) rfl) y_Mo_pop rfl (d2 := 1) ⟨le_b rfl, pd_Mo_pop, le_b rfl⟩ (le_b rfl) og_192 (k_Mo_pop h17) (fun a34 h18 => ?_)
          refine hp_cVP (M2 := M_Mo_rounded) hm (at1 26 rfl) (as := [(.long (Int32.toInt64 a34))]) (rest := [(.ref 192)]) (z := 192) rfl (by exact trivial) (pc' := 420) rfl 38 rfl (lw_g (lw_at lw_m10 44 rfl) rfl) y_Mo_rounded rfl (d2 := 2) ⟨le_b rfl, pd_Mo_rounded, le_b rfl⟩ (le_b rfl) og_192 (k_Mo_rounded (Int32.toInt64 a34) h18) (fun a35 => ?_)
          refine hp_cVS (M2 := M_Mo_push) hm at0 (as := [(.long a35)]) (rest := []) (z := 192) rfl (by exact trivial) (pc' := 423) rfl 39 rfl (lw_g (lw_at lw_m10 86 rfl) rfl) y_Mo_push rfl (d2 := 2) ⟨le_b rfl, pd_Mo_push, le_b rfl⟩ (le_b rfl) og_192 (k_Mo_push a35 h18) (fun _ h19 => ?_)
          exact hp_vr hm 36 rfl rfl (fun _ e => e)
    · refine hp_cVS (M2 := M_Mo_has) hm (at1 27 rfl) (as := [(.int (1 : Int32))]) (rest := []) (z := 192) rfl (by exact trivial) (pc' := 341) rfl 41 rfl (lw_g (lw_at lw_m10 20 rfl) rfl) y_Mo_has rfl (d2 := 2) ⟨le_b rfl, pd_Mo_has, le_b rfl⟩ (le_b rfl) og_192 (k_Mo_has (1 : Int32) h) (fun a37 h20 => ?_)
      refine hp_if_eq hm at0 rfl (by exact trivial) (pc' := 344) rfl 52 rfl (tgt := 404) rfl (fun c45 => ?_) (fun c45 => ?_)
      · exact hp_vr hm 42 rfl rfl (fun _ e => e)
      · refine hp_cVS (M2 := M_Mo_pop) hm (at1 28 rfl) (as := []) (rest := []) (z := 192) rfl (by exact trivial) (pc' := 348) rfl 43 rfl (lw_g (lw_at lw_m10 24 rfl) rfl) y_Mo_pop rfl (d2 := 1) ⟨le_b rfl, pd_Mo_pop, le_b rfl⟩ (le_b rfl) og_192 (k_Mo_pop h20) (fun a38 h21 => ?_)
        refine hp_z hm (at1 29 rfl) (fun (v39 : Int64) => [(2, (.long v39)), (0, (.ref 192)), (1, (.int x1))]) (fun (v39 : Int64) => []) rfl (by exact trivial) (pc' := 353) rfl (fun v39 => ?_)
        refine hp_J 401 (fun (p40 : Int64) => []) (fun (p40 : Int64) => [(.long p40), (.ref 192)]) (fun (p40 : Int64) => h21) ?_ (fun p40 => ?_)
        · refine hp_ic_ne hm (at1 30 rfl) rfl (by exact trivial) (pc' := 357) rfl 50 rfl (tgt := 367) rfl (fun c44 => ?_) (fun c44 => ?_)
          · refine hp_ic_ne hm (at1 31 rfl) rfl (by exact trivial) (pc' := 370) rfl 47 rfl (tgt := 378) rfl (fun c42 => ?_) (fun c42 => ?_)
            · refine hp_ic_ne hm (at1 32 rfl) rfl (by exact trivial) (pc' := 381) rfl 45 rfl (tgt := 392) rfl (fun c41 => ?_) (fun c41 => ?_)
              · refine hp_b hm (at1 33 rfl) (L' := [(2, (.long v39)), (0, (.ref 192)), (1, (.int x1))]) (st' := [(.long ((v39 + (63 : Int64)) &&& (-64 : Int64))), (.ref 192)]) rfl (by exact trivial) (pc' := 401) rfl ?_
                exact hp_lf [] rfl (fun _ e => e)
              · refine hp_b hm (at1 34 rfl) (L' := [(2, (.long v39)), (0, (.ref 192)), (1, (.int x1))]) (st' := [(.long (v39 &&& (-64 : Int64))), (.ref 192)]) rfl (by exact trivial) (pc' := 389) rfl ?_
                refine hp_goto hm 44 rfl (tgt := 401) rfl ?_
                exact hp_lf [] rfl (fun _ e => e)
            · refine hp_b hm (at1 35 rfl) (L' := [(2, (.long v39)), (0, (.ref 192)), (1, (.int x1))]) (st' := [(.long (-v39)), (.ref 192)]) rfl (by exact trivial) (pc' := 375) rfl ?_
              refine hp_goto hm 46 rfl (tgt := 401) rfl ?_
              exact hp_lf [] rfl (fun _ e => e)
          · refine hp_cSP (M2 := M_Mo_sizeOf) hm (at1 36 rfl) (as := [(.long v39)]) (rest := [(.ref 192)]) rfl (by exact trivial) (pc' := 361) rfl 48 rfl (lw_g (lw_at lw_m9 223 rfl) rfl) y_Mo_sizeOf rfl (d2 := 1) ⟨le_b rfl, pd_Mo_sizeOf, le_b rfl⟩ (le_b rfl) (k_Mo_sizeOf v39 h21) (fun a43 => ?_)
            refine hp_goto hm 49 rfl (tgt := 401) rfl ?_
            exact hp_lf [] rfl (fun _ e => e)
        · refine hp_cVS (M2 := M_Mo_push) hm at0 (as := [(.long p40)]) (rest := []) (z := 192) rfl (by exact trivial) (pc' := 401) rfl 51 rfl (lw_g (lw_at lw_m10 86 rfl) rfl) y_Mo_push rfl (d2 := 2) ⟨le_b rfl, pd_Mo_push, le_b rfl⟩ (le_b rfl) og_192 (k_Mo_push p40 h21) (fun _ h22 => ?_)
          exact hp_vr hm 42 rfl rfl (fun _ e => e)
  · refine hp_cVS (M2 := M_Mo_has) hm (at1 37 rfl) (as := [(.int (2 : Int32))]) (rest := []) (z := 192) rfl (by exact trivial) (pc' := 198) rfl 53 rfl (lw_g (lw_at lw_m10 20 rfl) rfl) y_Mo_has rfl (d2 := 2) ⟨le_b rfl, pd_Mo_has, le_b rfl⟩ (le_b rfl) og_192 (k_Mo_has (2 : Int32) h) (fun a46 h23 => ?_)
    refine hp_if_eq hm at0 rfl (by exact trivial) (pc' := 201) rfl 77 rfl (tgt := 338) rfl (fun c66 => ?_) (fun c66 => ?_)
    · exact hp_vr hm 54 rfl rfl (fun _ e => e)
    · refine hp_cVS (M2 := M_Mo_pop) hm (at1 38 rfl) (as := []) (rest := []) (z := 192) rfl (by exact trivial) (pc' := 205) rfl 55 rfl (lw_g (lw_at lw_m10 24 rfl) rfl) y_Mo_pop rfl (d2 := 1) ⟨le_b rfl, pd_Mo_pop, le_b rfl⟩ (le_b rfl) og_192 (k_Mo_pop h23) (fun a47 h24 => ?_)
      refine hp_z hm (at1 39 rfl) (fun (v48 : Int64) => [(2, (.long v48)), (0, (.ref 192)), (1, (.int x1))]) (fun (v48 : Int64) => []) rfl (by exact trivial) (pc' := 210) rfl (fun v48 => ?_)
      refine hp_cVS (M2 := M_Mo_pop) hm (at1 40 rfl) (as := []) (rest := []) (z := 192) rfl (by exact trivial) (pc' := 211) rfl 56 rfl (lw_g (lw_at lw_m10 24 rfl) rfl) y_Mo_pop rfl (d2 := 1) ⟨le_b rfl, pd_Mo_pop, le_b rfl⟩ (le_b rfl) og_192 (k_Mo_pop h24) (fun a49 h25 => ?_)
      refine hp_z hm (at1 41 rfl) (fun (v50 : Int64) => [(4, (.long v50)), (2, (.long v48)), (0, (.ref 192)), (1, (.int x1))]) (fun (v50 : Int64) => []) rfl (by exact trivial) (pc' := 217) rfl (fun v50 => ?_)
      refine hp_cI (L0 := [(4, (.long v50)), (2, (.long v48)), (0, (.ref 192)), (1, (.int x1))]) (s0 := []) 229 236 ?_ (fun c55 => ?_) (fun c55 => ?_)
      · refine hp_and ?_
        refine hp_ic_ne hm (at1 42 rfl) rfl (by exact trivial) (pc' := 220) rfl 58 rfl (tgt := 236) rfl (fun c52 => ?_) (fun c52 => ?_)
        · exact hp_l0 (fun _ e => e)
        · refine hp_dec ?_
          refine hp_lc_ne hm (at1 43 rfl) rfl (by exact trivial) (pc' := 226) rfl 57 rfl (tgt := 236) rfl (fun c51 => ?_) (fun c51 => ?_)
          · exact hp_l0 (fun _ e => e)
          · exact hp_l0 (fun _ e => e)
      · refine hp_cVS (M2 := M_Mo_fail) hm (at1 44 rfl) (as := [(.int (7 : Int32))]) (rest := []) (z := 192) rfl (by exact trivial) (pc' := 232) rfl 59 rfl (lw_g (lw_at lw_m10 4 rfl) rfl) y_Mo_fail rfl (d2 := 1) ⟨le_b rfl, pd_Mo_fail, le_b rfl⟩ (le_b rfl) og_192 (k_Mo_fail (7 : Int32) h25) (fun _ h26 => ?_)
        exact hp_vr hm 60 rfl rfl (fun _ e => e)
      · refine hp_J 335 (fun (p56 : Int64) => []) (fun (p56 : Int64) => [(.long p56), (.ref 192)]) (fun (p56 : Int64) => h25) ?_ (fun p56 => ?_)
        · refine hp_ic_ne hm (at1 45 rfl) rfl (by exact trivial) (pc' := 240) rfl 75 rfl (tgt := 250) rfl (fun c65 => ?_) (fun c65 => ?_)
          · refine hp_ic_ne hm (at1 46 rfl) rfl (by exact trivial) (pc' := 253) rfl 73 rfl (tgt := 263) rfl (fun c64 => ?_) (fun c64 => ?_)
            · refine hp_ic_ne hm (at1 47 rfl) rfl (by exact trivial) (pc' := 266) rfl 71 rfl (tgt := 280) rfl (fun c63 => ?_) (fun c63 => ?_)
              · refine hp_ic_ne hm (at1 48 rfl) rfl (by exact trivial) (pc' := 283) rfl 69 rfl (tgt := 299) rfl (fun c61 => ?_) (fun c61 => ?_)
                · refine hp_ic_ne hm (at1 49 rfl) rfl (by exact trivial) (pc' := 303) rfl 66 rfl (tgt := 322) rfl (fun c59 => ?_) (fun c59 => ?_)
                  · refine hp_lc_ge hm (at1 50 rfl) rfl (by exact trivial) (pc' := 326) rfl 62 rfl (tgt := 334) rfl (fun c57 => ?_) (fun c57 => ?_)
                    · refine hp_b hm (at1 51 rfl) (L' := [(4, (.long v50)), (2, (.long v48)), (0, (.ref 192)), (1, (.int x1))]) (st' := [(.long v48), (.ref 192)]) rfl (by exact trivial) (pc' := 335) rfl ?_
                      exact hp_lf [] rfl (fun _ e => e)
                    · refine hp_b hm (at1 52 rfl) (L' := [(4, (.long v50)), (2, (.long v48)), (0, (.ref 192)), (1, (.int x1))]) (st' := [(.long v50), (.ref 192)]) rfl (by exact trivial) (pc' := 331) rfl ?_
                      refine hp_goto hm 61 rfl (tgt := 335) rfl ?_
                      exact hp_lf [] rfl (fun _ e => e)
                  · refine hp_lc_le hm (at1 53 rfl) rfl (by exact trivial) (pc' := 310) rfl 65 rfl (tgt := 318) rfl (fun c58 => ?_) (fun c58 => ?_)
                    · refine hp_b hm (at1 54 rfl) (L' := [(4, (.long v50)), (2, (.long v48)), (0, (.ref 192)), (1, (.int x1))]) (st' := [(.long v48), (.ref 192)]) rfl (by exact trivial) (pc' := 319) rfl ?_
                      refine hp_goto hm 63 rfl (tgt := 335) rfl ?_
                      exact hp_lf [] rfl (fun _ e => e)
                    · refine hp_b hm (at1 55 rfl) (L' := [(4, (.long v50)), (2, (.long v48)), (0, (.ref 192)), (1, (.int x1))]) (st' := [(.long v50), (.ref 192)]) rfl (by exact trivial) (pc' := 315) rfl ?_
                      refine hp_goto hm 64 rfl (tgt := 335) rfl ?_
                      exact hp_lf [] rfl (fun _ e => e)
                · refine hp_cSP (M2 := M_Mo_over) hm (at1 56 rfl) (as := [(.long (v50 * v48)), (.long (64 : Int64))]) (rest := [(.ref 192)]) rfl (by exact trivial) (pc' := 293) rfl 67 rfl (lw_g (lw_at lw_m9 217 rfl) rfl) y_Mo_over rfl (d2 := 3) ⟨le_b rfl, pd_Mo_over, le_b rfl⟩ (le_b rfl) (k_Mo_over (v50 * v48) (64 : Int64) h25) (fun a60 => ?_)
                  refine hp_goto hm 68 rfl (tgt := 335) rfl ?_
                  exact hp_lf [] rfl (fun _ e => e)
              · refine hp_G hm (at1 57 rfl) (L' := [(4, (.long v50)), (2, (.long v48)), (0, (.ref 192)), (1, (.int x1))]) (st' := [(.long ((v50 * (64 : Int64)) / v48)), (.ref 192)]) rfl (fun hP => (by exact hP)) (pc' := 277) rfl (fun q62 => ?_)
                refine hp_goto hm 70 rfl (tgt := 335) rfl ?_
                exact hp_lf [] rfl (fun _ e => e)
            · refine hp_b hm (at1 58 rfl) (L' := [(4, (.long v50)), (2, (.long v48)), (0, (.ref 192)), (1, (.int x1))]) (st' := [(.long (v50 - v48)), (.ref 192)]) rfl (by exact trivial) (pc' := 260) rfl ?_
              refine hp_goto hm 72 rfl (tgt := 335) rfl ?_
              exact hp_lf [] rfl (fun _ e => e)
          · refine hp_b hm (at1 59 rfl) (L' := [(4, (.long v50)), (2, (.long v48)), (0, (.ref 192)), (1, (.int x1))]) (st' := [(.long (v50 + v48)), (.ref 192)]) rfl (by exact trivial) (pc' := 247) rfl ?_
            refine hp_goto hm 74 rfl (tgt := 335) rfl ?_
            exact hp_lf [] rfl (fun _ e => e)
        · refine hp_cVS (M2 := M_Mo_push) hm at0 (as := [(.long p56)]) (rest := []) (z := 192) rfl (by exact trivial) (pc' := 335) rfl 76 rfl (lw_g (lw_at lw_m10 86 rfl) rfl) y_Mo_push rfl (d2 := 2) ⟨le_b rfl, pd_Mo_push, le_b rfl⟩ (le_b rfl) og_192 (k_Mo_push p56 h25) (fun _ h27 => ?_)
          exact hp_vr hm 54 rfl rfl (fun _ e => e)
/-! HintHouseModel.perform(I)V -/
def M_Mo_perform : hM := (11, ⟨"HintHouseModel", "perform", "(I)V"⟩, prog_13_method_65_code, 2, (Option.none : Option Jvm.ClassFile.FieldType), [], [(0, [(.iload_n 1, 1, 0, 0, 0, .null), (.sipush 192, 3, 0, 0, 0, (.int (192 : Int32)))]), (30, [(.iload_n 1, 1, 0, 0, 0, .null), (.sipush 176, 3, 0, 0, 0, (.int (176 : Int32)))]), (80, [(.iload_n 1, 1, 0, 0, 0, .null), (.bipush 48, 2, 0, 0, 0, (.int (48 : Int32)))]), (94, [(.iload_n 1, 1, 0, 0, 0, .null), (.bipush 96, 2, 0, 0, 0, (.int (96 : Int32)))]), (108, [(.aload_n 0, 1, 0, 0, 0, .null), (.iload_n 1, 1, 0, 0, 0, .null)]), (100, [(.aload_n 0, 1, 0, 0, 0, .null), (.iload_n 1, 1, 0, 0, 0, .null)]), (86, [(.aload_n 0, 1, 0, 0, 0, .null), (.iload_n 1, 1, 0, 0, 0, .null)]), (37, [(.aload_n 0, 1, 0, 0, 0, .null), (.iload_n 1, 1, 0, 0, 0, .null), (.sipush 184, 3, 0, 0, 0, (.int (184 : Int32)))]), (53, [(.iload_n 1, 1, 0, 0, 0, .null), (.sipush 175, 3, 0, 0, 0, (.int (175 : Int32))), (.isub, 1, 0, 0, 0, .null)]), (45, [(.iload_n 1, 1, 0, 0, 0, .null), (.sipush 183, 3, 0, 0, 0, (.int (183 : Int32))), (.isub, 1, 0, 0, 0, .null)]), (58, [(.iload_n 1, 1, 0, 0, 0, .null), (.sipush 184, 3, 0, 0, 0, (.int (184 : Int32)))]), (69, [(.iconst 0, 1, 0, 0, 0, (.int (0 : Int32)))]), (65, [(.iconst 1, 1, 0, 0, 0, (.int (1 : Int32)))]), (70, [(.aload_n 0, 1, 0, 0, 0, .null), (.getfield 496, 3, 11, 93, 0, .null)]), (7, [(.iload_n 1, 1, 0, 0, 0, .null), (.sipush 224, 3, 0, 0, 0, (.int (224 : Int32)))]), (22, [(.aload_n 0, 1, 0, 0, 0, .null), (.iload_n 1, 1, 0, 0, 0, .null)]), (14, [(.aload_n 0, 1, 0, 0, 0, .null), (.iload_n 1, 1, 0, 0, 0, .null)])], [(110, .invokevirtual 561, 3), (113, .return_, 1), (102, .invokevirtual 558, 3), (105, .goto 8, 3), (97, .if_icmp .ge 11, 3), (88, .invokevirtual 555, 3), (91, .goto 22, 3), (83, .if_icmp .ge 11, 3), (50, .goto 8, 3), (42, .if_icmp .lt 11, 3), (66, .goto 4, 3), (62, .if_icmp .lt 7, 3), (74, .invokevirtual 551, 3), (77, .goto 36, 3), (34, .if_icmp .lt 46, 3), (24, .invokevirtual 548, 3), (27, .goto 86, 3), (16, .invokevirtual 545, 3), (19, .goto 94, 3), (11, .if_icmp .ge 11, 3), (4, .if_icmp .lt 26, 3)])
set_option maxRecDepth 100000 in
theorem m_Mo_perform : hx_mok M_Mo_perform = true := by decide +kernel
theorem pd_Mo_perform : (parseMethodDescriptor M_Mo_perform.2.1.desc).map (fun q => q.parameters.length) = some 1 := by decide +kernel
theorem y_Mo_perform : hx_okV M_Mo_perform := ⟨⟨lw_g (lw_at lw_m10 15 rfl) rfl, lw_g (lw_at lw_m10 14 rfl) rfl, qs134, lw_g (lw_at lw_m1 12 rfl) rfl, rfl, by decide, by decide, by decide⟩, rfl, by decide, plainFor_of_name (by decide)⟩
noncomputable def f_Mo_perform (x1 : Int32) (h : hH) : Option (Unit × hH) :=
  if x1 < (192 : Int32) then (
    if x1 < (176 : Int32) then (
      if (48 : Int32) ≤ x1 then (
        if (96 : Int32) ≤ x1 then (
          bS (f_Mo_high x1 h) fun _ h1 =>
          some ((), h1)
        ) else (
          bS (f_Mo_middle x1 h) fun _ h2 =>
          some ((), h2)
        )
      ) else (
        bS (f_Mo_low x1 h) fun _ h3 =>
        some ((), h3)
      )
    ) else (
      lz (A := Int32) (if x1 < (184 : Int32) then (x1 - (175 : Int32)) else (x1 - (183 : Int32))) fun p3 =>
      lz (A := Int32) (if x1 < (184 : Int32) then (0 : Int32) else (1 : Int32)) fun p5 =>
      bS (f_Mo_pushBytes p3 p5 (rdI h 192 93) h) fun _ h4 =>
      some ((), h4)
    )
  ) else (
    if (224 : Int32) ≤ x1 then (
      bS (f_Mo_indirect x1 h) fun _ h5 =>
      some ((), h5)
    ) else (
      bS (f_Mo_relative x1 h) fun _ h6 =>
      some ((), h6)
    )
  )
set_option maxRecDepth 20000 in
theorem k_Mo_perform (x1 : Int32) (h : hH) : hx_kS S0 M_Mo_perform 9 NT [(.ref 192), (.int x1)] h (f_Mo_perform x1 h) cvU := by
  have hm := m_Mo_perform
  show hx_P S0 M_Mo_perform 9 0 [(0, (.ref 192)), (1, (.int x1))] [] NT h (f_Mo_perform x1 h) (hx_Rc cvU NT)
  unfold f_Mo_perform
  refine hp_ic_lt hm (at1 0 rfl) rfl (by exact trivial) (pc' := 4) rfl 20 rfl (tgt := 30) rfl (fun c9 => ?_) (fun c9 => ?_)
  · refine hp_ic_lt hm (at1 1 rfl) rfl (by exact trivial) (pc' := 34) rfl 14 rfl (tgt := 80) rfl (fun c7 => ?_) (fun c7 => ?_)
    · refine hp_ic_ge hm (at1 2 rfl) rfl (by exact trivial) (pc' := 83) rfl 7 rfl (tgt := 94) rfl (fun c2 => ?_) (fun c2 => ?_)
      · refine hp_ic_ge hm (at1 3 rfl) rfl (by exact trivial) (pc' := 97) rfl 4 rfl (tgt := 108) rfl (fun c1 => ?_) (fun c1 => ?_)
        · refine hp_cVS (M2 := M_Mo_high) hm (at1 4 rfl) (as := [(.int x1)]) (rest := []) (z := 192) rfl (by exact trivial) (pc' := 110) rfl 0 rfl (lw_g (lw_at lw_m10 204 rfl) rfl) y_Mo_high rfl (d2 := 7) ⟨le_b rfl, pd_Mo_high, le_b rfl⟩ (le_b rfl) og_192 (k_Mo_high x1 h) (fun _ h1 => ?_)
          exact hp_vr hm 1 rfl rfl (fun _ e => e)
        · refine hp_cVS (M2 := M_Mo_middle) hm (at1 5 rfl) (as := [(.int x1)]) (rest := []) (z := 192) rfl (by exact trivial) (pc' := 102) rfl 2 rfl (lw_g (lw_at lw_m10 156 rfl) rfl) y_Mo_middle rfl (d2 := 8) ⟨le_b rfl, pd_Mo_middle, le_b rfl⟩ (le_b rfl) og_192 (k_Mo_middle x1 h) (fun _ h2 => ?_)
          refine hp_goto hm 3 rfl (tgt := 113) rfl ?_
          exact hp_vr hm 1 rfl rfl (fun _ e => e)
      · refine hp_cVS (M2 := M_Mo_low) hm (at1 6 rfl) (as := [(.int x1)]) (rest := []) (z := 192) rfl (by exact trivial) (pc' := 88) rfl 5 rfl (lw_g (lw_at lw_m10 90 rfl) rfl) y_Mo_low rfl (d2 := 7) ⟨le_b rfl, pd_Mo_low, le_b rfl⟩ (le_b rfl) og_192 (k_Mo_low x1 h) (fun _ h3 => ?_)
        refine hp_goto hm 6 rfl (tgt := 113) rfl ?_
        exact hp_vr hm 1 rfl rfl (fun _ e => e)
    · refine hp_JZ 58 (fun (p3 : Int32) => [(0, (.ref 192)), (1, (.int x1))]) (fun (p3 : Int32) => [(.int p3), (.ref 192)]) (fun (p3 : Int32) => h) ?_ (fun p3 => ?_)
      · refine hp_sv0 ?_
        refine hp_ic_lt hm (at1 7 rfl) rfl (by exact trivial) (pc' := 42) rfl 9 rfl (tgt := 53) rfl (fun c4 => ?_) (fun c4 => ?_)
        · refine hp_b hm (at1 8 rfl) (L' := [(0, (.ref 192)), (1, (.int x1))]) (st' := [(.int (x1 - (175 : Int32))), (.ref 192)]) rfl (by exact trivial) (pc' := 58) rfl ?_
          exact hp_lf [0, 1] rfl (fun _ e => e)
        · refine hp_b hm (at1 9 rfl) (L' := [(0, (.ref 192)), (1, (.int x1))]) (st' := [(.int (x1 - (183 : Int32))), (.ref 192)]) rfl (by exact trivial) (pc' := 50) rfl ?_
          refine hp_goto hm 8 rfl (tgt := 58) rfl ?_
          exact hp_lf [0, 1] rfl (fun _ e => e)
      · refine hp_JZ 70 (fun (p5 : Int32) => [(0, (.ref 192))]) (fun (p5 : Int32) => [(.int p5), (.int p3), (.ref 192)]) (fun (p5 : Int32) => h) ?_ (fun p5 => ?_)
        · refine hp_sv0 ?_
          refine hp_ic_lt hm (at1 10 rfl) rfl (by exact trivial) (pc' := 62) rfl 11 rfl (tgt := 69) rfl (fun c6 => ?_) (fun c6 => ?_)
          · refine hp_b hm (at1 11 rfl) (L' := [(0, (.ref 192)), (1, (.int x1))]) (st' := [(.int (0 : Int32)), (.int p3), (.ref 192)]) rfl (by exact trivial) (pc' := 70) rfl ?_
            exact hp_lf [0] rfl (fun _ e => e)
          · refine hp_b hm (at1 12 rfl) (L' := [(0, (.ref 192)), (1, (.int x1))]) (st' := [(.int (1 : Int32)), (.int p3), (.ref 192)]) rfl (by exact trivial) (pc' := 66) rfl ?_
            refine hp_goto hm 10 rfl (tgt := 70) rfl ?_
            exact hp_lf [0] rfl (fun _ e => e)
        · refine hp_cVS (M2 := M_Mo_pushBytes) hm (at1 13 rfl) (as := [(.int p3), (.int p5), (.int (rdI h 192 93))]) (rest := []) (z := 192) rfl (by exact og_192) (pc' := 74) rfl 12 rfl (lw_g (lw_at lw_m10 82 rfl) rfl) y_Mo_pushBytes rfl (d2 := 4) ⟨le_b rfl, pd_Mo_pushBytes, le_b rfl⟩ (le_b rfl) og_192 (k_Mo_pushBytes p3 p5 (rdI h 192 93) h) (fun _ h4 => ?_)
          refine hp_goto hm 13 rfl (tgt := 113) rfl ?_
          exact hp_vr hm 1 rfl rfl (fun _ e => e)
  · refine hp_ic_ge hm (at1 14 rfl) rfl (by exact trivial) (pc' := 11) rfl 19 rfl (tgt := 22) rfl (fun c8 => ?_) (fun c8 => ?_)
    · refine hp_cVS (M2 := M_Mo_indirect) hm (at1 15 rfl) (as := [(.int x1)]) (rest := []) (z := 192) rfl (by exact trivial) (pc' := 24) rfl 15 rfl (lw_g (lw_at lw_m10 74 rfl) rfl) y_Mo_indirect rfl (d2 := 7) ⟨le_b rfl, pd_Mo_indirect, le_b rfl⟩ (le_b rfl) og_192 (k_Mo_indirect x1 h) (fun _ h5 => ?_)
      refine hp_goto hm 16 rfl (tgt := 113) rfl ?_
      exact hp_vr hm 1 rfl rfl (fun _ e => e)
    · refine hp_cVS (M2 := M_Mo_relative) hm (at1 16 rfl) (as := [(.int x1)]) (rest := []) (z := 192) rfl (by exact trivial) (pc' := 16) rfl 17 rfl (lw_g (lw_at lw_m10 16 rfl) rfl) y_Mo_relative rfl (d2 := 7) ⟨le_b rfl, pd_Mo_relative, le_b rfl⟩ (le_b rfl) og_192 (k_Mo_relative x1 h) (fun _ h6 => ?_)
      refine hp_goto hm 18 rfl (tgt := 113) rfl ?_
      exact hp_vr hm 1 rfl rfl (fun _ e => e)
/-! HintHouseModel.runProgram(I)V -/
def M_Mo_runProgram : hM := (11, ⟨"HintHouseModel", "runProgram", "(I)V"⟩, prog_13_method_48_code, 3, (Option.none : Option Jvm.ClassFile.FieldType), [], [(0, [(.aload_n 0, 1, 0, 0, 0, .null), (.iload_n 1, 1, 0, 0, 0, .null), (.putfield 493, 3, 11, 91, 0, .null)]), (5, [(.aload_n 0, 1, 0, 0, 0, .null), (.iload_n 1, 1, 0, 0, 0, .null), (.putfield 427, 3, 11, 92, 0, .null)]), (10, [(.aload_n 0, 1, 0, 0, 0, .null), (.iconst 0, 1, 0, 0, 0, (.int (0 : Int32))), (.putfield 496, 3, 11, 93, 0, .null)]), (15, [(.aload_n 0, 1, 0, 0, 0, .null), (.iconst 0, 1, 0, 0, 0, (.int (0 : Int32))), (.putfield 418, 3, 11, 56, 0, .null)]), (20, [(.aload_n 0, 1, 0, 0, 0, .null), (.iconst 0, 1, 0, 0, 0, (.int (0 : Int32))), (.putfield 499, 3, 11, 99, 0, .null)]), (25, [(.aload_n 0, 1, 0, 0, 0, .null), (.iconst 0, 1, 0, 0, 0, (.int (0 : Int32))), (.putfield 412, 3, 11, 61, 0, .null)]), (30, [(.aload_n 0, 1, 0, 0, 0, .null)]), (34, [(.aload_n 0, 1, 0, 0, 0, .null), (.getfield 409, 3, 11, 59, 0, .null)]), (41, [(.aload_n 0, 1, 0, 0, 0, .null), (.getfield 496, 3, 11, 93, 0, .null), (.aload_n 0, 1, 0, 0, 0, .null), (.getfield 97, 3, 11, 90, 4, .null), (.aload_n 0, 1, 0, 0, 0, .null), (.getfield 427, 3, 11, 92, 0, .null), (.iaload, 1, 0, 0, 0, .null)]), (70, [(.aload_n 0, 1, 0, 0, 0, .null), (.aload_n 0, 1, 0, 0, 0, .null), (.getfield 496, 3, 11, 93, 0, .null), (.putfield 412, 3, 11, 61, 0, .null)]), (78, [(.aload_n 0, 1, 0, 0, 0, .null), (.getfield 505, 3, 11, 58, 0, .null), (.sipush 20000, 3, 0, 0, 0, (.int (20000 : Int32)))]), (95, [(.aload_n 0, 1, 0, 0, 0, .null), (.dup, 1, 0, 0, 0, .null), (.getfield 505, 3, 11, 58, 0, .null), (.iconst 1, 1, 0, 0, 0, (.int (1 : Int32))), (.iadd, 1, 0, 0, 0, .null), (.putfield 505, 3, 11, 58, 0, .null)]), (105, [(.aload_n 0, 1, 0, 0, 0, .null), (.aload_n 0, 1, 0, 0, 0, .null), (.getfield 496, 3, 11, 93, 0, .null)]), (113, [(.istore_n 2, 1, 0, 0, 0, .null), (.aload_n 0, 1, 0, 0, 0, .null), (.dup, 1, 0, 0, 0, .null), (.getfield 496, 3, 11, 93, 0, .null), (.iconst 1, 1, 0, 0, 0, (.int (1 : Int32))), (.iadd, 1, 0, 0, 0, .null), (.putfield 496, 3, 11, 93, 0, .null)]), (124, [(.aload_n 0, 1, 0, 0, 0, .null), (.iload_n 2, 1, 0, 0, 0, .null)]), (88, [(.aload_n 0, 1, 0, 0, 0, .null), (.bipush 10, 2, 0, 0, 0, (.int (10 : Int32)))]), (57, [(.aload_n 0, 1, 0, 0, 0, .null), (.getfield 499, 3, 11, 99, 0, .null)]), (64, [(.aload_n 0, 1, 0, 0, 0, .null), (.iconst 4, 1, 0, 0, 0, (.int (4 : Int32)))])], [(31, .invokevirtual 502, 3), (110, .invokevirtual 430, 3), (126, .invokevirtual 508, 3), (129, .goto (-95), 3), (91, .invokevirtual 421, 3), (94, .return_, 1), (85, .if_icmp .ne 10, 3), (69, .return_, 1), (66, .invokevirtual 421, 3), (61, .ifCond .le 8, 3), (54, .if_icmp .lt 16, 3), (38, .ifCond .ne 94, 3), (132, .return_, 1)])
set_option maxRecDepth 100000 in
theorem m_Mo_runProgram : hx_mok M_Mo_runProgram = true := by decide +kernel
theorem pd_Mo_runProgram : (parseMethodDescriptor M_Mo_runProgram.2.1.desc).map (fun q => q.parameters.length) = some 1 := by decide +kernel
theorem y_Mo_runProgram : hx_okV M_Mo_runProgram := ⟨⟨lw_g (lw_at lw_m9 235 rfl) rfl, lw_g (lw_at lw_m9 234 rfl) rfl, qs129, lw_g (lw_at lw_m1 12 rfl) rfl, rfl, by decide, by decide, by decide⟩, rfl, by decide, plainFor_of_name (by decide)⟩
noncomputable def f_Mo_runProgram (x1 : Int32) (h : hH) : Option (Unit × hH) :=
  lz (wrI h 192 91 x1) fun h1 =>
  lz (wrI h1 192 92 x1) fun h2 =>
  lz (wrI h2 192 93 (0 : Int32)) fun h3 =>
  lz (wrI h3 192 56 (0 : Int32)) fun h4 =>
  lz (wrI h4 192 99 (0 : Int32)) fun h5 =>
  lz (wrI h5 192 61 (0 : Int32)) fun h6 =>
  bS (f_Mo_settings h6) fun _ h7 =>
  bE (P := hH) (X := (Unit × hH)) (
    wh (A := hH) (B := (hH ⊕ (Unit × hH))) (fun p1 =>
        if (rdI p1 192 59) = 0 then (
          gd (vp_in (rdI p1 192 92) 3) <|
          if (rdI p1 192 93) < (rdI p1 221 (Int32.toNatClampNeg (rdI p1 192 92))) then (
            lz (wrI p1 192 61 (rdI p1 192 93)) fun h8 =>
            if (rdI h8 192 58) = (20000 : Int32) then (
              bS (f_Mo_fail (10 : Int32) h8) fun _ h12 =>
              some (.inr (.inr ((), h12)))
            ) else (
              lz (wrI h8 192 58 ((rdI h8 192 58) + (1 : Int32))) fun h9 =>
              bP (f_Mo_codeByte (rdI h9 192 93) h9) fun a4 =>
              lz (wrI h9 192 93 ((rdI h9 192 93) + (1 : Int32))) fun h10 =>
              bS (f_Mo_perform a4 h10) fun _ h11 =>
              some (.inl h11)
            )
          ) else (
            if (rdI p1 192 99) ≤ 0 then (
              some (.inr (.inr ((), p1)))
            ) else (
              bS (f_Mo_fail (4 : Int32) p1) fun _ h13 =>
              some (.inr (.inr ((), h13)))
            )
          )
        ) else (
          some (.inr (.inl p1))
        )
    ) h7
  ) fun p2 =>
  some ((), p2)
set_option maxRecDepth 20000 in
theorem k_Mo_runProgram (x1 : Int32) (h : hH) : hx_kS S0 M_Mo_runProgram 10 NT [(.ref 192), (.int x1)] h (f_Mo_runProgram x1 h) cvU := by
  have hm := m_Mo_runProgram
  show hx_P S0 M_Mo_runProgram 10 0 [(0, (.ref 192)), (1, (.int x1))] [] NT h (f_Mo_runProgram x1 h) (hx_Rc cvU NT)
  unfold f_Mo_runProgram
  refine hp_w hm (at1 0 rfl) (L' := [(0, (.ref 192)), (1, (.int x1))]) rfl (by exact og_192) (pc' := 5) rfl (fun h1 => ?_)
  refine hp_w hm (at1 1 rfl) (L' := [(0, (.ref 192)), (1, (.int x1))]) rfl (by exact og_192) (pc' := 10) rfl (fun h2 => ?_)
  refine hp_w hm (at1 2 rfl) (L' := [(0, (.ref 192)), (1, (.int x1))]) rfl (by exact og_192) (pc' := 15) rfl (fun h3 => ?_)
  refine hp_w hm (at1 3 rfl) (L' := [(0, (.ref 192)), (1, (.int x1))]) rfl (by exact og_192) (pc' := 20) rfl (fun h4 => ?_)
  refine hp_w hm (at1 4 rfl) (L' := [(0, (.ref 192)), (1, (.int x1))]) rfl (by exact og_192) (pc' := 25) rfl (fun h5 => ?_)
  refine hp_w hm (at1 5 rfl) (L' := [(0, (.ref 192)), (1, (.int x1))]) rfl (by exact og_192) (pc' := 30) rfl (fun h6 => ?_)
  refine hp_cVS (M2 := M_Mo_settings) hm (at1 6 rfl) (as := []) (rest := []) (z := 192) rfl (by exact trivial) (pc' := 31) rfl 0 rfl (lw_g (lw_at lw_m9 236 rfl) rfl) y_Mo_settings rfl (d2 := 2) ⟨le_b rfl, pd_Mo_settings, le_b rfl⟩ (le_b rfl) og_192 (k_Mo_settings h6) (fun _ h7 => ?_)
  refine hp_E 132 (fun (p2 : hH) => []) (fun (p2 : hH) => []) (fun (p2 : hH) => p2) ?_ (fun p2 => ?_)
  · refine hp_s [0] rfl (L' := [(0, (.ref 192))]) ?_
    refine hp_wh (fun (p1 : hH) => [(0, (.ref 192))]) [] (fun (p1 : hH) => p1) (fun p1 => ?_) h7
    refine hp_if_ne hm (at1 7 rfl) rfl (by exact og_192) (pc' := 38) rfl 11 rfl (tgt := 132) rfl (fun c8 => ?_) (fun c8 => ?_)
    · exact hp_lf [] rfl (fun _ e => e)
    · refine hp_G hm (at1 8 rfl) (L' := [(0, (.ref 192))]) (st' := [(.int (rdI p1 221 (Int32.toNatClampNeg (rdI p1 192 92)))), (.int (rdI p1 192 93))]) rfl (fun hP => (by exact ⟨⟨⟨og_192, og_192⟩, og_192⟩, ⟨og_221, hP⟩⟩)) (pc' := 54) rfl (fun q3 => ?_)
      refine hp_ic_lt hm at0 rfl (by exact trivial) (pc' := 54) rfl 10 rfl (tgt := 70) rfl (fun c7 => ?_) (fun c7 => ?_)
      · refine hp_w hm (at1 9 rfl) (L' := [(0, (.ref 192))]) rfl (by exact ⟨og_192, og_192⟩) (pc' := 78) rfl (fun h8 => ?_)
        refine hp_ic_ne hm (at1 10 rfl) rfl (by exact og_192) (pc' := 85) rfl 6 rfl (tgt := 95) rfl (fun c5 => ?_) (fun c5 => ?_)
        · refine hp_w hm (at1 11 rfl) (L' := [(0, (.ref 192))]) rfl (by exact ⟨og_192, og_192⟩) (pc' := 105) rfl (fun h9 => ?_)
          refine hp_cVP (M2 := M_Mo_codeByte) hm (at1 12 rfl) (as := [(.int (rdI h9 192 93))]) (rest := []) (z := 192) rfl (by exact og_192) (pc' := 110) rfl 1 rfl (lw_g (lw_at lw_m10 8 rfl) rfl) y_Mo_codeByte rfl (d2 := 2) ⟨le_b rfl, pd_Mo_codeByte, le_b rfl⟩ (le_b rfl) og_192 (k_Mo_codeByte (rdI h9 192 93) h9) (fun a4 => ?_)
          refine hp_w hm (at1 13 rfl) (L' := [(2, (.int a4)), (0, (.ref 192))]) rfl (by exact ⟨og_192, og_192⟩) (pc' := 124) rfl (fun h10 => ?_)
          refine hp_cVS (M2 := M_Mo_perform) hm (at1 14 rfl) (as := [(.int a4)]) (rest := []) (z := 192) rfl (by exact trivial) (pc' := 126) rfl 2 rfl (lw_g (lw_at lw_m10 12 rfl) rfl) y_Mo_perform rfl (d2 := 9) ⟨le_b rfl, pd_Mo_perform, le_b rfl⟩ (le_b rfl) og_192 (k_Mo_perform a4 h10) (fun _ h11 => ?_)
          refine hp_goto hm 3 rfl (tgt := 34) rfl ?_
          exact hp_lf [1] rfl (fun _ e => e)
        · refine hp_cVS (M2 := M_Mo_fail) hm (at1 15 rfl) (as := [(.int (10 : Int32))]) (rest := []) (z := 192) rfl (by exact trivial) (pc' := 91) rfl 4 rfl (lw_g (lw_at lw_m10 4 rfl) rfl) y_Mo_fail rfl (d2 := 1) ⟨le_b rfl, pd_Mo_fail, le_b rfl⟩ (le_b rfl) og_192 (k_Mo_fail (10 : Int32) h8) (fun _ h12 => ?_)
          exact hp_vr hm 5 rfl rfl (fun _ e => e)
      · refine hp_if_le hm (at1 16 rfl) rfl (by exact og_192) (pc' := 61) rfl 9 rfl (tgt := 69) rfl (fun c6 => ?_) (fun c6 => ?_)
        · exact hp_vr hm 7 rfl rfl (fun _ e => e)
        · refine hp_cVS (M2 := M_Mo_fail) hm (at1 17 rfl) (as := [(.int (4 : Int32))]) (rest := []) (z := 192) rfl (by exact trivial) (pc' := 66) rfl 8 rfl (lw_g (lw_at lw_m10 4 rfl) rfl) y_Mo_fail rfl (d2 := 1) ⟨le_b rfl, pd_Mo_fail, le_b rfl⟩ (le_b rfl) og_192 (k_Mo_fail (4 : Int32) p1) (fun _ h13 => ?_)
          exact hp_vr hm 7 rfl rfl (fun _ e => e)
  · exact hp_vr hm 12 rfl rfl (fun _ e => e)
/-! HintHouseModel.failedNow()I -/
def M_Mo_failedNow : hM := (11, ⟨"HintHouseModel", "failedNow", "()I"⟩, prog_13_method_99_code, 1, (Option.some Jvm.ClassFile.FieldType.int), [], [(0, [(.aload_n 0, 1, 0, 0, 0, .null), (.dup, 1, 0, 0, 0, .null), (.getfield 750, 3, 11, 110, 0, .null), (.iconst 1, 1, 0, 0, 0, (.int (1 : Int32))), (.iadd, 1, 0, 0, 0, .null), (.putfield 750, 3, 11, 110, 0, .null)]), (10, [(.aload_n 0, 1, 0, 0, 0, .null), (.aload_n 0, 1, 0, 0, 0, .null), (.getfield 409, 3, 11, 59, 0, .null), (.putfield 753, 3, 11, 111, 0, .null)]), (18, [(.aload_n 0, 1, 0, 0, 0, .null), (.aload_n 0, 1, 0, 0, 0, .null), (.getfield 415, 3, 11, 60, 0, .null), (.putfield 127, 3, 11, 112, 0, .null)]), (26, [(.aload_n 0, 1, 0, 0, 0, .null), (.aload_n 0, 1, 0, 0, 0, .null), (.getfield 505, 3, 11, 58, 0, .null), (.putfield 756, 3, 11, 109, 0, .null)]), (34, [(.bipush (-100), 2, 0, 0, 0, (.int (-100 : Int32))), (.aload_n 0, 1, 0, 0, 0, .null), (.getfield 409, 3, 11, 59, 0, .null), (.isub, 1, 0, 0, 0, .null)])], [(41, .ireturn, 1)])
set_option maxRecDepth 100000 in
theorem m_Mo_failedNow : hx_mok M_Mo_failedNow = true := by decide +kernel
theorem pd_Mo_failedNow : (parseMethodDescriptor M_Mo_failedNow.2.1.desc).map (fun q => q.parameters.length) = some 0 := by decide +kernel
theorem y_Mo_failedNow : hx_okV M_Mo_failedNow := ⟨⟨lw_g (lw_at lw_m10 227 rfl) rfl, lw_g (lw_at lw_m10 226 rfl) rfl, qs181, lw_g (lw_at lw_m1 12 rfl) rfl, rfl, by decide, by decide, by decide⟩, rfl, by decide, plainFor_of_name (by decide)⟩
noncomputable def f_Mo_failedNow (h : hH) : Option (Int32 × hH) :=
  lz (wrI h 192 110 ((rdI h 192 110) + (1 : Int32))) fun h1 =>
  lz (wrI h1 192 111 (rdI h1 192 59)) fun h2 =>
  lz (wrI h2 192 112 (rdI h2 192 60)) fun h3 =>
  lz (wrI h3 192 109 (rdI h3 192 58)) fun h4 =>
  some (((-100 : Int32) - (rdI h4 192 59)), h4)
set_option maxRecDepth 20000 in
theorem k_Mo_failedNow (h : hH) : hx_kS S0 M_Mo_failedNow 1 NT [(.ref 192)] h (f_Mo_failedNow h) cvI := by
  have hm := m_Mo_failedNow
  show hx_P S0 M_Mo_failedNow 1 0 [(0, (.ref 192))] [] NT h (f_Mo_failedNow h) (hx_Rc cvI NT)
  unfold f_Mo_failedNow
  refine hp_w hm (at1 0 rfl) (L' := [(0, (.ref 192))]) rfl (by exact ⟨og_192, og_192⟩) (pc' := 10) rfl (fun h1 => ?_)
  refine hp_w hm (at1 1 rfl) (L' := [(0, (.ref 192))]) rfl (by exact ⟨og_192, og_192⟩) (pc' := 18) rfl (fun h2 => ?_)
  refine hp_w hm (at1 2 rfl) (L' := [(0, (.ref 192))]) rfl (by exact ⟨og_192, og_192⟩) (pc' := 26) rfl (fun h3 => ?_)
  refine hp_w hm (at1 3 rfl) (L' := [(0, (.ref 192))]) rfl (by exact ⟨og_192, og_192⟩) (pc' := 34) rfl (fun h4 => ?_)
  exact hp_ir hm (at1 4 rfl) rfl (by exact og_192) (pc' := 41) rfl 0 rfl rfl (vp_nar_int _) (fun _ e => e)
