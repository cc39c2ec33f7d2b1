/-! LAYER 2b: methods (printed by gen/dec.py): Mo_low Mo_follow Mo_followAll Mo_likeReference Mo_inBetween Mo_loops Mo_toDistance Mo_toCvt Mo_setCvt Mo_one Mo_deltas -/
/-! HintHouseModel.low(I)V -/
def M_Mo_low : hM := (11, ⟨"HintHouseModel", "low", "(I)V"⟩, prog_13_method_69_code, 5, (Option.none : Option Jvm.ClassFile.FieldType), [], [(0, [(.iload_n 1, 1, 0, 0, 0, .null)]), (446, [(.aload_n 0, 1, 0, 0, 0, .null), (.aload_n 0, 1, 0, 0, 0, .null), (.getfield 439, 3, 11, 65, 0, .null), (.i2l, 1, 0, 0, 0, .null)]), (455, [(.aload_n 0, 1, 0, 0, 0, .null), (.aload_n 0, 1, 0, 0, 0, .null), (.getfield 442, 3, 11, 66, 0, .null), (.i2l, 1, 0, 0, 0, .null)]), (465, [(.aload_n 0, 1, 0, 0, 0, .null), (.aload_n 0, 1, 0, 0, 0, .null), (.getfield 433, 3, 11, 63, 0, .null), (.i2l, 1, 0, 0, 0, .null)]), (474, [(.aload_n 0, 1, 0, 0, 0, .null), (.aload_n 0, 1, 0, 0, 0, .null), (.getfield 436, 3, 11, 64, 0, .null), (.i2l, 1, 0, 0, 0, .null)]), (484, [(.aload_n 0, 1, 0, 0, 0, .null), (.aload_n 0, 1, 0, 0, 0, .null), (.getfield 439, 3, 11, 65, 0, .null), (.putfield 433, 3, 11, 63, 0, .null)]), (492, [(.aload_n 0, 1, 0, 0, 0, .null), (.aload_n 0, 1, 0, 0, 0, .null), (.getfield 442, 3, 11, 66, 0, .null), (.putfield 436, 3, 11, 64, 0, .null)]), (501, [(.aload_n 0, 1, 0, 0, 0, .null), (.aload_n 0, 1, 0, 0, 0, .null), (.iconst 1, 1, 0, 0, 0, (.int (1 : Int32)))]), (517, [(.iconst 0, 1, 0, 0, 0, (.int (0 : Int32)))]), (510, [(.aload_n 0, 1, 0, 0, 0, .null)]), (518, [(.putfield 451, 3, 11, 69, 0, .null)]), (522, [(.aload_n 0, 1, 0, 0, 0, .null), (.aload_n 0, 1, 0, 0, 0, .null), (.iconst 1, 1, 0, 0, 0, (.int (1 : Int32)))]), (538, [(.iconst 0, 1, 0, 0, 0, (.int (0 : Int32)))]), (531, [(.aload_n 0, 1, 0, 0, 0, .null)]), (539, [(.putfield 454, 3, 11, 70, 0, .null)]), (543, [(.aload_n 0, 1, 0, 0, 0, .null), (.aload_n 0, 1, 0, 0, 0, .null), (.iconst 1, 1, 0, 0, 0, (.int (1 : Int32)))]), (559, [(.iconst 0, 1, 0, 0, 0, (.int (0 : Int32)))]), (552, [(.aload_n 0, 1, 0, 0, 0, .null)]), (560, [(.putfield 457, 3, 11, 71, 0, .null)]), (570, [(.aload_n 0, 1, 0, 0, 0, .null), (.iconst 1, 1, 0, 0, 0, (.int (1 : Int32)))]), (578, [(.aload_n 0, 1, 0, 0, 0, .null)]), (582, [(.istore_n 2, 1, 0, 0, 0, .null), (.iload_n 2, 1, 0, 0, 0, .null), (.i2l, 1, 0, 0, 0, .null), (.lconst 1, 1, 0, 0, 0, (.long (1 : Int64))), (.ldc2_w 593, 3, 0, 0, 0, (.long (65535 : Int64)))]), (595, [(.aload_n 0, 1, 0, 0, 0, .null), (.bipush 11, 2, 0, 0, 0, (.int (11 : Int32)))]), (601, [(.aload_n 0, 1, 0, 0, 0, .null), (.iload_n 2, 1, 0, 0, 0, .null), (.putfield 469, 3, 11, 75, 0, .null)]), (607, [(.aload_n 0, 1, 0, 0, 0, .null), (.bipush 24, 2, 0, 0, 0, (.int (24 : Int32))), (.bipush 64, 2, 0, 0, 0, (.int (64 : Int32))), (.iconst 0, 1, 0, 0, 0, (.int (0 : Int32))), (.bipush 32, 2, 0, 0, 0, (.int (32 : Int32)))]), (619, [(.aload_n 0, 1, 0, 0, 0, .null), (.bipush 25, 2, 0, 0, 0, (.int (25 : Int32))), (.bipush 64, 2, 0, 0, 0, (.int (64 : Int32))), (.bipush 32, 2, 0, 0, 0, (.int (32 : Int32))), (.bipush 32, 2, 0, 0, 0, (.int (32 : Int32)))]), (632, [(.aload_n 0, 1, 0, 0, 0, .null), (.aload_n 0, 1, 0, 0, 0, .null), (.iconst 1, 1, 0, 0, 0, (.int (1 : Int32)))]), (648, [(.iconst 0, 1, 0, 0, 0, (.int (0 : Int32)))]), (641, [(.aload_n 0, 1, 0, 0, 0, .null)]), (649, [(.putfield 595, 3, 11, 83, 0, .null)]), (653, [(.aload_n 0, 1, 0, 0, 0, .null), (.aload_n 0, 1, 0, 0, 0, .null), (.getfield 496, 3, 11, 93, 0, .null), (.bipush 89, 2, 0, 0, 0, (.int (89 : Int32))), (.bipush 89, 2, 0, 0, 0, (.int (89 : Int32))), (.iconst 1, 1, 0, 0, 0, (.int (1 : Int32)))]), (666, [(.istore_n 2, 1, 0, 0, 0, .null), (.aload_n 0, 1, 0, 0, 0, .null), (.iload_n 2, 1, 0, 0, 0, .null), (.putfield 496, 3, 11, 93, 0, .null)]), (673, [(.aload_n 0, 1, 0, 0, 0, .null), (.iconst 1, 1, 0, 0, 0, (.int (1 : Int32)))]), (681, [(.aload_n 0, 1, 0, 0, 0, .null), (.aload_n 0, 1, 0, 0, 0, .null)]), (686, [(.i2l, 1, 0, 0, 0, .null)]), (691, [(.aload_n 0, 1, 0, 0, 0, .null), (.aload_n 0, 1, 0, 0, 0, .null), (.iconst 1, 1, 0, 0, 0, (.int (1 : Int32)))]), (707, [(.iconst 0, 1, 0, 0, 0, (.int (0 : Int32)))]), (700, [(.aload_n 0, 1, 0, 0, 0, .null)]), (708, [(.putfield 605, 3, 11, 80, 0, .null)]), (712, [(.aload_n 0, 1, 0, 0, 0, .null), (.aload_n 0, 1, 0, 0, 0, .null), (.iconst 1, 1, 0, 0, 0, (.int (1 : Int32)))]), (728, [(.iconst 0, 1, 0, 0, 0, (.int (0 : Int32)))]), (721, [(.aload_n 0, 1, 0, 0, 0, .null)]), (729, [(.putfield 608, 3, 11, 82, 0, .null)]), (733, [(.aload_n 0, 1, 0, 0, 0, .null), (.aload_n 0, 1, 0, 0, 0, .null), (.iconst 1, 1, 0, 0, 0, (.int (1 : Int32)))]), (754, [(.iconst 0, 1, 0, 0, 0, (.int (0 : Int32)))]), (742, [(.aload_n 0, 1, 0, 0, 0, .null), (.aload_n 0, 1, 0, 0, 0, .null)]), (747, [(.i2l, 1, 0, 0, 0, .null)]), (755, [(.putfield 615, 3, 11, 81, 0, .null)]), (564, [(.aload_n 0, 1, 0, 0, 0, .null), (.iload_n 1, 1, 0, 0, 0, .null)]), (759, [(.aload_n 0, 1, 0, 0, 0, .null), (.iload_n 1, 1, 0, 0, 0, .null)]), (385, [(.aload_n 0, 1, 0, 0, 0, .null), (.iconst 2, 1, 0, 0, 0, (.int (2 : Int32)))]), (393, [(.aload_n 0, 1, 0, 0, 0, .null)]), (397, [(.i2s, 1, 0, 0, 0, .null), (.istore_n 2, 1, 0, 0, 0, .null)]), (399, [(.aload_n 0, 1, 0, 0, 0, .null)]), (403, [(.i2s, 1, 0, 0, 0, .null), (.istore_n 3, 1, 0, 0, 0, .null)]), (405, [(.aload_n 0, 1, 0, 0, 0, .null), (.iload_n 3, 1, 0, 0, 0, .null), (.iload_n 2, 1, 0, 0, 0, .null)]), (411, [(.aload_n 0, 1, 0, 0, 0, .null), (.aload_n 0, 1, 0, 0, 0, .null), (.getfield 533, 3, 11, 105, 0, .null), (.aload_n 0, 1, 0, 0, 0, .null), (.getfield 536, 3, 11, 106, 0, .null), (.iload_n 1, 1, 0, 0, 0, .null), (.bipush 11, 2, 0, 0, 0, (.int (11 : Int32)))]), (430, [(.iconst 0, 1, 0, 0, 0, (.int (0 : Int32)))]), (426, [(.iconst 1, 1, 0, 0, 0, (.int (1 : Int32)))]), (431, [(.iload_n 1, 1, 0, 0, 0, .null), (.bipush 10, 2, 0, 0, 0, (.int (10 : Int32)))]), (441, [(.iconst 0, 1, 0, 0, 0, (.int (0 : Int32)))]), (437, [(.iconst 1, 1, 0, 0, 0, (.int (1 : Int32)))]), (235, [(.aload_n 0, 1, 0, 0, 0, .null), (.iconst 2, 1, 0, 0, 0, (.int (2 : Int32)))]), (243, [(.aload_n 0, 1, 0, 0, 0, .null), (.aload_n 0, 1, 0, 0, 0, .null), (.getfield 466, 3, 11, 74, 0, .null), (.aload_n 0, 1, 0, 0, 0, .null)]), (255, [(.istore_n 2, 1, 0, 0, 0, .null), (.aload_n 0, 1, 0, 0, 0, .null), (.aload_n 0, 1, 0, 0, 0, .null), (.getfield 463, 3, 11, 73, 0, .null), (.aload_n 0, 1, 0, 0, 0, .null)]), (268, [(.istore_n 3, 1, 0, 0, 0, .null), (.aload_n 0, 1, 0, 0, 0, .null), (.getfield 409, 3, 11, 59, 0, .null)]), (276, [(.aload_n 0, 1, 0, 0, 0, .null), (.aload_n 0, 1, 0, 0, 0, .null), (.getfield 76, 3, 11, 48, 4, .null), (.iload_n 3, 1, 0, 0, 0, .null), (.iaload, 1, 0, 0, 0, .null), (.aload_n 0, 1, 0, 0, 0, .null), (.getfield 76, 3, 11, 48, 4, .null), (.iload_n 2, 1, 0, 0, 0, .null), (.iaload, 1, 0, 0, 0, .null), (.isub, 1, 0, 0, 0, .null), (.aload_n 0, 1, 0, 0, 0, .null), (.getfield 79, 3, 11, 49, 4, .null), (.iload_n 3, 1, 0, 0, 0, .null), (.iaload, 1, 0, 0, 0, .null), (.aload_n 0, 1, 0, 0, 0, .null), (.getfield 79, 3, 11, 49, 4, .null), (.iload_n 2, 1, 0, 0, 0, .null), (.iaload, 1, 0, 0, 0, .null), (.isub, 1, 0, 0, 0, .null)]), (306, [(.iload_n 1, 1, 0, 0, 0, .null), (.bipush 7, 2, 0, 0, 0, (.int (7 : Int32)))]), (318, [(.iconst 1, 1, 0, 0, 0, (.int (1 : Int32)))]), (312, [(.iload_n 1, 1, 0, 0, 0, .null), (.bipush 9, 2, 0, 0, 0, (.int (9 : Int32)))]), (322, [(.iconst 0, 1, 0, 0, 0, (.int (0 : Int32)))]), (323, [(.istore 4, 2, 0, 0, 0, .null), (.aload_n 0, 1, 0, 0, 0, .null), (.iload 4, 2, 0, 0, 0, .null)]), (339, [(.aload_n 0, 1, 0, 0, 0, .null), (.getfield 533, 3, 11, 105, 0, .null)]), (331, [(.aload_n 0, 1, 0, 0, 0, .null), (.getfield 536, 3, 11, 106, 0, .null), (.ineg, 1, 0, 0, 0, .null)]), (343, [(.iload 4, 2, 0, 0, 0, .null)]), (355, [(.aload_n 0, 1, 0, 0, 0, .null), (.getfield 536, 3, 11, 106, 0, .null)]), (348, [(.aload_n 0, 1, 0, 0, 0, .null), (.getfield 533, 3, 11, 105, 0, .null)]), (359, [(.iload_n 1, 1, 0, 0, 0, .null), (.bipush 7, 2, 0, 0, 0, (.int (7 : Int32)))]), (369, [(.iconst 0, 1, 0, 0, 0, (.int (0 : Int32)))]), (365, [(.iconst 1, 1, 0, 0, 0, (.int (1 : Int32)))]), (370, [(.iload_n 1, 1, 0, 0, 0, .null), (.bipush 8, 2, 0, 0, 0, (.int (8 : Int32)))]), (380, [(.iconst 0, 1, 0, 0, 0, (.int (0 : Int32)))]), (376, [(.iconst 1, 1, 0, 0, 0, (.int (1 : Int32)))]), (204, [(.aload_n 0, 1, 0, 0, 0, .null), (.iload_n 1, 1, 0, 0, 0, .null), (.iconst 4, 1, 0, 0, 0, (.int (4 : Int32)))]), (214, [(.sipush 16384, 3, 0, 0, 0, (.int (16384 : Int32)))]), (210, [(.iconst 0, 1, 0, 0, 0, (.int (0 : Int32)))]), (217, [(.iload_n 1, 1, 0, 0, 0, .null), (.iconst 4, 1, 0, 0, 0, (.int (4 : Int32)))]), (228, [(.iconst 0, 1, 0, 0, 0, (.int (0 : Int32)))]), (222, [(.sipush 16384, 3, 0, 0, 0, (.int (16384 : Int32)))]), (229, [(.iconst 1, 1, 0, 0, 0, (.int (1 : Int32))), (.iconst 0, 1, 0, 0, 0, (.int (0 : Int32)))]), (173, [(.aload_n 0, 1, 0, 0, 0, .null), (.iload_n 1, 1, 0, 0, 0, .null), (.iconst 2, 1, 0, 0, 0, (.int (2 : Int32)))]), (183, [(.sipush 16384, 3, 0, 0, 0, (.int (16384 : Int32)))]), (179, [(.iconst 0, 1, 0, 0, 0, (.int (0 : Int32)))]), (186, [(.iload_n 1, 1, 0, 0, 0, .null), (.iconst 2, 1, 0, 0, 0, (.int (2 : Int32)))]), (197, [(.iconst 0, 1, 0, 0, 0, (.int (0 : Int32)))]), (191, [(.sipush 16384, 3, 0, 0, 0, (.int (16384 : Int32)))]), (198, [(.iconst 0, 1, 0, 0, 0, (.int (0 : Int32))), (.iconst 1, 1, 0, 0, 0, (.int (1 : Int32)))]), (144, [(.aload_n 0, 1, 0, 0, 0, .null), (.iload_n 1, 1, 0, 0, 0, .null)]), (153, [(.sipush 16384, 3, 0, 0, 0, (.int (16384 : Int32)))]), (149, [(.iconst 0, 1, 0, 0, 0, (.int (0 : Int32)))]), (156, [(.iload_n 1, 1, 0, 0, 0, .null)]), (166, [(.iconst 0, 1, 0, 0, 0, (.int (0 : Int32)))]), (160, [(.sipush 16384, 3, 0, 0, 0, (.int (16384 : Int32)))]), (167, [(.iconst 1, 1, 0, 0, 0, (.int (1 : Int32))), (.iconst 1, 1, 0, 0, 0, (.int (1 : Int32)))])], [(1, .tableswitch 758 0 31 #[143, 143, 172, 172, 203, 203, 234, 234, 234, 234, 384, 384, 445, 464, 483, 758, 500, 521, 542, 563, 563, 563, 563, 569, 606, 618, 631, 652, 672, 690, 711, 732], 143), (452, .invokevirtual 564, 3), (461, .invokevirtual 564, 3), (464, .return_, 1), (471, .invokevirtual 564, 3), (480, .invokevirtual 564, 3), (483, .return_, 1), (500, .return_, 1), (504, .invokevirtual 576, 3), (511, .invokevirtual 579, 3), (514, .goto 4, 3), (507, .ifCond .eq 10, 3), (521, .return_, 1), (525, .invokevirtual 576, 3), (532, .invokevirtual 579, 3), (535, .goto 4, 3), (528, .ifCond .eq 10, 3), (542, .return_, 1), (546, .invokevirtual 576, 3), (553, .invokevirtual 579, 3), (556, .goto 4, 3), (549, .ifCond .eq 10, 3), (563, .return_, 1), (572, .invokevirtual 576, 3), (606, .return_, 1), (579, .invokevirtual 579, 3), (589, .invokestatic 263, 3), (598, .invokevirtual 421, 3), (592, .ifCond .ne 9, 3), (575, .ifCond .eq 31, 3), (615, .invokevirtual 472, 3), (618, .return_, 1), (628, .invokevirtual 472, 3), (631, .return_, 1), (635, .invokevirtual 576, 3), (642, .invokevirtual 579, 3), (645, .goto 4, 3), (638, .ifCond .eq 10, 3), (652, .return_, 1), (663, .invokevirtual 598, 3), (672, .return_, 1), (675, .invokevirtual 576, 3), (690, .return_, 1), (683, .invokevirtual 579, 3), (687, .invokevirtual 602, 3), (678, .ifCond .eq 12, 3), (694, .invokevirtual 576, 3), (701, .invokevirtual 579, 3), (704, .goto 4, 3), (697, .ifCond .eq 10, 3), (711, .return_, 1), (715, .invokevirtual 576, 3), (722, .invokevirtual 579, 3), (725, .goto 4, 3), (718, .ifCond .eq 10, 3), (732, .return_, 1), (736, .invokevirtual 576, 3), (744, .invokevirtual 579, 3), (748, .invokevirtual 611, 3), (751, .goto 4, 3), (739, .ifCond .eq 15, 3), (758, .return_, 1), (566, .invokevirtual 590, 3), (569, .return_, 1), (761, .invokevirtual 618, 3), (764, .return_, 1), (387, .invokevirtual 576, 3), (445, .return_, 1), (394, .invokevirtual 579, 3), (400, .invokevirtual 579, 3), (408, .invokevirtual 586, 3), (427, .goto 4, 3), (423, .if_icmp .ne 7, 3), (438, .goto 4, 3), (434, .if_icmp .ne 7, 3), (442, .invokevirtual 572, 3), (390, .ifCond .eq 55, 3), (237, .invokevirtual 576, 3), (384, .return_, 1), (249, .invokevirtual 579, 3), (252, .invokevirtual 582, 3), (262, .invokevirtual 579, 3), (265, .invokevirtual 582, 3), (303, .invokevirtual 586, 3), (319, .goto 4, 3), (315, .if_icmp .ne 7, 3), (309, .if_icmp .eq 9, 3), (336, .goto 7, 3), (328, .ifCond .eq 11, 3), (352, .goto 7, 3), (345, .ifCond .eq 10, 3), (366, .goto 4, 3), (362, .if_icmp .le 7, 3), (377, .goto 4, 3), (373, .if_icmp .ge 7, 3), (381, .invokevirtual 572, 3), (273, .ifCond .ne 111, 3), (240, .ifCond .eq 144, 3), (211, .goto 6, 3), (207, .if_icmp .ne 7, 3), (225, .goto 4, 3), (219, .if_icmp .ne 9, 3), (231, .invokevirtual 572, 3), (234, .return_, 1), (180, .goto 6, 3), (176, .if_icmp .ne 7, 3), (194, .goto 4, 3), (188, .if_icmp .ne 9, 3), (200, .invokevirtual 572, 3), (203, .return_, 1), (150, .goto 6, 3), (146, .ifCond .ne 7, 3), (163, .goto 4, 3), (157, .ifCond .ne 9, 3), (169, .invokevirtual 572, 3), (172, .return_, 1)])
set_option maxRecDepth 100000 in
theorem m_Mo_low : hx_mok M_Mo_low = true := by decide +kernel
theorem pd_Mo_low : (parseMethodDescriptor M_Mo_low.2.1.desc).map (fun q => q.parameters.length) = some 1 := by decide +kernel
theorem y_Mo_low : hx_okV M_Mo_low := ⟨⟨lw_g (lw_at lw_m10 93 rfl) rfl, lw_g (lw_at lw_m10 92 rfl) rfl, qs152, lw_g (lw_at lw_m1 12 rfl) rfl, rfl, by decide, by decide, by decide⟩, rfl, by decide, plainFor_of_name (by decide)⟩
noncomputable def f_Mo_low (x1 : Int32) (h : hH) : Option (Unit × hH) :=
  bE (P := Unit) (X := (Unit × hH)) (
    bE (P := Unit) (X := (Unit ⊕ (Unit × hH))) (
      bE (P := Unit) (X := (Unit ⊕ (Unit ⊕ (Unit × hH)))) (
        bE (P := Unit) (X := (Unit ⊕ (Unit ⊕ (Unit ⊕ (Unit × hH))))) (
          bE (P := Unit) (X := (Unit ⊕ (Unit ⊕ (Unit ⊕ (Unit ⊕ (Unit × hH)))))) (
            bE (P := Unit) (X := (Unit ⊕ (Unit ⊕ (Unit ⊕ (Unit ⊕ (Unit ⊕ (Unit × hH))))))) (
              bE (P := Unit) (X := (Unit ⊕ (Unit ⊕ (Unit ⊕ (Unit ⊕ (Unit ⊕ (Unit ⊕ (Unit × hH)))))))) (
                if x1 = (0 : Int32) ∨ x1 = (1 : Int32) then (
                  some (.inr (.inr (.inr (.inr (.inr (.inr (.inl ())))))))
                ) else (
                  if x1 = (2 : Int32) ∨ x1 = (3 : Int32) then (
                    some (.inr (.inr (.inr (.inr (.inr (.inl ()))))))
                  ) else (
                    if x1 = (4 : Int32) ∨ x1 = (5 : Int32) then (
                      some (.inr (.inr (.inr (.inr (.inl ())))))
                    ) else (
                      if x1 = (6 : Int32) ∨ x1 = (7 : Int32) ∨ x1 = (8 : Int32) ∨ x1 = (9 : Int32) then (
                        some (.inr (.inr (.inr (.inl ()))))
                      ) else (
                        if x1 = (10 : Int32) ∨ x1 = (11 : Int32) then (
                          some (.inr (.inr (.inl ())))
                        ) else (
                          if x1 = (12 : Int32) then (
                            bS (f_Mo_push (Int32.toInt64 (rdI h 192 65)) h) fun _ h1 =>
                            bS (f_Mo_push (Int32.toInt64 (rdI h1 192 66)) h1) fun _ h2 =>
                            some (.inr (.inr (.inr (.inr (.inr (.inr (.inr ((), h2))))))))
                          ) else (
                            if x1 = (13 : Int32) then (
                              bS (f_Mo_push (Int32.toInt64 (rdI h 192 63)) h) fun _ h3 =>
                              bS (f_Mo_push (Int32.toInt64 (rdI h3 192 64)) h3) fun _ h4 =>
                              some (.inr (.inr (.inr (.inr (.inr (.inr (.inr ((), h4))))))))
                            ) else (
                              if x1 = (14 : Int32) then (
                                lz (wrI h 192 63 (rdI h 192 65)) fun h5 =>
                                lz (wrI h5 192 64 (rdI h5 192 66)) fun h6 =>
                                some (.inr (.inr (.inr (.inr (.inr (.inr (.inr ((), h6))))))))
                              ) else (
                                if x1 = (16 : Int32) then (
                                  bS (f_Mo_has (1 : Int32) h) fun a16 h7 =>
                                  bP (A := (Int32 × hH)) (
                                    if a16 = 0 then (
                                      some ((0 : Int32), h7)
                                    ) else (
                                      bS (f_Mo_pop h7) fun a18 h8 =>
                                      some (a18, h8)
                                    )
                                  ) fun p17 =>
                                  lz (wrI p17.2 192 69 p17.1) fun h9 =>
                                  some (.inr (.inr (.inr (.inr (.inr (.inr (.inr ((), h9))))))))
                                ) else (
                                  if x1 = (17 : Int32) then (
                                    bS (f_Mo_has (1 : Int32) h) fun a21 h10 =>
                                    bP (A := (Int32 × hH)) (
                                      if a21 = 0 then (
                                        some ((0 : Int32), h10)
                                      ) else (
                                        bS (f_Mo_pop h10) fun a23 h11 =>
                                        some (a23, h11)
                                      )
                                    ) fun p22 =>
                                    lz (wrI p22.2 192 70 p22.1) fun h12 =>
                                    some (.inr (.inr (.inr (.inr (.inr (.inr (.inr ((), h12))))))))
                                  ) else (
                                    if x1 = (18 : Int32) then (
                                      bS (f_Mo_has (1 : Int32) h) fun a26 h13 =>
                                      bP (A := (Int32 × hH)) (
                                        if a26 = 0 then (
                                          some ((0 : Int32), h13)
                                        ) else (
                                          bS (f_Mo_pop h13) fun a28 h14 =>
                                          some (a28, h14)
                                        )
                                      ) fun p27 =>
                                      lz (wrI p27.2 192 71 p27.1) fun h15 =>
                                      some (.inr (.inr (.inr (.inr (.inr (.inr (.inr ((), h15))))))))
                                    ) else (
                                      if x1 = (19 : Int32) ∨ x1 = (20 : Int32) ∨ x1 = (21 : Int32) ∨ x1 = (22 : Int32) then (
                                        some (.inl ())
                                      ) else (
                                        if x1 = (23 : Int32) then (
                                          bS (f_Mo_has (1 : Int32) h) fun a32 h16 =>
                                          if a32 = 0 then (
                                            some (.inr (.inr (.inr (.inr (.inr (.inr (.inr ((), h16))))))))
                                          ) else (
                                            bS (f_Mo_pop h16) fun a33 h17 =>
                                            bP (f_Mo_in (Int32.toInt64 a33) (1 : Int64) (65535 : Int64)) fun a34 =>
                                            bP (A := hH) (
                                              if a34 = 0 then (
                                                bS (f_Mo_fail (11 : Int32) h17) fun _ h18 =>
                                                some h18
                                              ) else (
                                                some h17
                                              )
                                            ) fun p35 =>
                                            lz (wrI p35 192 75 a33) fun h19 =>
                                            some (.inr (.inr (.inr (.inr (.inr (.inr (.inr ((), h19))))))))
                                          )
                                        ) else (
                                          if x1 = (24 : Int32) then (
                                            bS (f_Mo_setRounding (24 : Int32) (64 : Int32) (0 : Int32) (32 : Int32) h) fun _ h20 =>
                                            some (.inr (.inr (.inr (.inr (.inr (.inr (.inr ((), h20))))))))
                                          ) else (
                                            if x1 = (25 : Int32) then (
                                              bS (f_Mo_setRounding (25 : Int32) (64 : Int32) (32 : Int32) (32 : Int32) h) fun _ h21 =>
                                              some (.inr (.inr (.inr (.inr (.inr (.inr (.inr ((), h21))))))))
                                            ) else (
                                              if x1 = (26 : Int32) then (
                                                bS (f_Mo_has (1 : Int32) h) fun a41 h22 =>
                                                bP (A := (Int32 × hH)) (
                                                  if a41 = 0 then (
                                                    some ((0 : Int32), h22)
                                                  ) else (
                                                    bS (f_Mo_pop h22) fun a43 h23 =>
                                                    some (a43, h23)
                                                  )
                                                ) fun p42 =>
                                                lz (wrI p42.2 192 83 p42.1) fun h24 =>
                                                some (.inr (.inr (.inr (.inr (.inr (.inr (.inr ((), h24))))))))
                                              ) else (
                                                if x1 = (27 : Int32) then (
                                                  bS (f_Mo_pass (rdI h 192 93) (89 : Int32) (89 : Int32) (1 : Int32) h) fun a46 h25 =>
                                                  lz (wrI h25 192 93 a46) fun h26 =>
                                                  some (.inr (.inr (.inr (.inr (.inr (.inr (.inr ((), h26))))))))
                                                ) else (
                                                  if x1 = (28 : Int32) then (
                                                    bS (f_Mo_has (1 : Int32) h) fun a48 h27 =>
                                                    if a48 = 0 then (
                                                      some (.inr (.inr (.inr (.inr (.inr (.inr (.inr ((), h27))))))))
                                                    ) else (
                                                      bS (f_Mo_pop h27) fun a49 h28 =>
                                                      bS (f_Mo_jump (Int32.toInt64 a49) h28) fun _ h29 =>
                                                      some (.inr (.inr (.inr (.inr (.inr (.inr (.inr ((), h29))))))))
                                                    )
                                                  ) else (
                                                    if x1 = (29 : Int32) then (
                                                      bS (f_Mo_has (1 : Int32) h) fun a52 h30 =>
                                                      bP (A := (Int32 × hH)) (
                                                        if a52 = 0 then (
                                                          some ((0 : Int32), h30)
                                                        ) else (
                                                          bS (f_Mo_pop h30) fun a54 h31 =>
                                                          some (a54, h31)
                                                        )
                                                      ) fun p53 =>
                                                      lz (wrI p53.2 192 80 p53.1) fun h32 =>
                                                      some (.inr (.inr (.inr (.inr (.inr (.inr (.inr ((), h32))))))))
                                                    ) else (
                                                      if x1 = (30 : Int32) then (
                                                        bS (f_Mo_has (1 : Int32) h) fun a57 h33 =>
                                                        bP (A := (Int32 × hH)) (
                                                          if a57 = 0 then (
                                                            some ((0 : Int32), h33)
                                                          ) else (
                                                            bS (f_Mo_pop h33) fun a59 h34 =>
                                                            some (a59, h34)
                                                          )
                                                        ) fun p58 =>
                                                        lz (wrI p58.2 192 82 p58.1) fun h35 =>
                                                        some (.inr (.inr (.inr (.inr (.inr (.inr (.inr ((), h35))))))))
                                                      ) else (
                                                        if x1 = (31 : Int32) then (
                                                          bS (f_Mo_has (1 : Int32) h) fun a62 h36 =>
                                                          bP (A := (Int32 × hH)) (
                                                            if a62 = 0 then (
                                                              some ((0 : Int32), h36)
                                                            ) else (
                                                              bS (f_Mo_pop h36) fun a64 h37 =>
                                                              bP (f_Mo_scaled (Int32.toInt64 a64) h37) fun a65 =>
                                                              some (a65, h37)
                                                            )
                                                          ) fun p63 =>
                                                          lz (wrI p63.2 192 81 p63.1) fun h38 =>
                                                          some (.inr (.inr (.inr (.inr (.inr (.inr (.inr ((), h38))))))))
                                                        ) else (
                                                          some (.inr (.inl ()))
                                                        )
                                                      )
                                                    )
                                                  )
                                                )
                                              )
                                            )
                                          )
                                        )
                                      )
                                    )
                                  )
                                )
                              )
                            )
                          )
                        )
                      )
                    )
                  )
                )
              ) fun p7 =>
              bS (f_Mo_setZone x1 h) fun _ h39 =>
              some (.inr (.inr (.inr (.inr (.inr (.inr ((), h39)))))))
            ) fun p6 =>
            bS (f_Mo_stacks x1 h) fun _ h40 =>
            some (.inr (.inr (.inr (.inr (.inr ((), h40))))))
          ) fun p5 =>
          bS (f_Mo_has (2 : Int32) h) fun a68 h41 =>
          if a68 = 0 then (
            some (.inr (.inr (.inr (.inr ((), h41)))))
          ) else (
            bS (f_Mo_pop h41) fun a69 h42 =>
            lz (A := Int32) (Int16.toInt32 (Int32.toInt16 a69)) fun v70 =>
            bS (f_Mo_pop h42) fun a71 h43 =>
            lz (A := Int32) (Int16.toInt32 (Int32.toInt16 a71)) fun v72 =>
            bS (f_Mo_direction v72 v70 h43) fun _ h44 =>
            lz (A := Int32) (if x1 = (11 : Int32) then (1 : Int32) else (0 : Int32)) fun p73 =>
            lz (A := Int32) (if x1 = (10 : Int32) then (1 : Int32) else (0 : Int32)) fun p75 =>
            bS (f_Mo_setVectors (rdI h44 192 105) (rdI h44 192 106) p73 p75 h44) fun _ h45 =>
            some (.inr (.inr (.inr (.inr ((), h45)))))
          )
        ) fun p4 =>
        bS (f_Mo_has (2 : Int32) h) fun a78 h46 =>
        if a78 = 0 then (
          some (.inr (.inr (.inr ((), h46))))
        ) else (
          bS (f_Mo_pop h46) fun a79 h47 =>
          bS (f_Mo_pointOf (rdI h46 192 74) a79 h47) fun a80 h48 =>
          bS (f_Mo_pop h48) fun a81 h49 =>
          bS (f_Mo_pointOf (rdI h48 192 73) a81 h49) fun a82 h50 =>
          if (rdI h50 192 59) = 0 then (
            gd (vp_in a82 204 ∧ vp_in a80 204) <|
            bS (f_Mo_direction ((rdI h50 214 (Int32.toNatClampNeg a82)) - (rdI h50 214 (Int32.toNatClampNeg a80))) ((rdI h50 215 (Int32.toNatClampNeg a82)) - (rdI h50 215 (Int32.toNatClampNeg a80))) h50) fun _ h51 =>
            lz (A := Int32) (if x1 = (7 : Int32) then (1 : Int32) else (if x1 = (9 : Int32) then (1 : Int32) else (0 : Int32))) fun p84 =>
            lz (A := Int32) (if p84 = 0 then (rdI h51 192 105) else (-(rdI h51 192 106))) fun p87 =>
            lz (A := Int32) (if p84 = 0 then (rdI h51 192 106) else (rdI h51 192 105)) fun p89 =>
            lz (A := Int32) (if x1 ≤ (7 : Int32) then (0 : Int32) else (1 : Int32)) fun p91 =>
            lz (A := Int32) (if (8 : Int32) ≤ x1 then (0 : Int32) else (1 : Int32)) fun p93 =>
            bS (f_Mo_setVectors p87 p89 p91 p93 h51) fun _ h52 =>
            some (.inr (.inr (.inr ((), h52))))
          ) else (
            some (.inr (.inr (.inr ((), h50))))
          )
        )
      ) fun p3 =>
      lz (A := Int32) (if x1 = (4 : Int32) then (0 : Int32) else (16384 : Int32)) fun p97 =>
      lz (A := Int32) (if x1 = (4 : Int32) then (16384 : Int32) else (0 : Int32)) fun p99 =>
      bS (f_Mo_setVectors p97 p99 (1 : Int32) (0 : Int32) h) fun _ h53 =>
      some (.inr (.inr ((), h53)))
    ) fun p2 =>
    lz (A := Int32) (if x1 = (2 : Int32) then (0 : Int32) else (16384 : Int32)) fun p101 =>
    lz (A := Int32) (if x1 = (2 : Int32) then (16384 : Int32) else (0 : Int32)) fun p103 =>
    bS (f_Mo_setVectors p101 p103 (0 : Int32) (1 : Int32) h) fun _ h54 =>
    some (.inr ((), h54))
  ) fun p1 =>
  lz (A := Int32) (if x1 = 0 then (0 : Int32) else (16384 : Int32)) fun p105 =>
  lz (A := Int32) (if x1 = 0 then (16384 : Int32) else (0 : Int32)) fun p107 =>
  bS (f_Mo_setVectors p105 p107 (1 : Int32) (1 : Int32) h) fun _ h55 =>
  some ((), h55)
set_option maxRecDepth 20000 in
theorem k_Mo_low (x1 : Int32) (h : hH) : hx_kS S0 M_Mo_low 7 NT [(.ref 192), (.int x1)] h (f_Mo_low x1 h) cvU := by
  have hm := m_Mo_low
  show hx_P S0 M_Mo_low 7 0 [(0, (.ref 192)), (1, (.int x1))] [] NT h (f_Mo_low x1 h) (hx_Rc cvU NT)
  unfold f_Mo_low
  refine hp_E 144 (fun (p1 : Unit) => [(0, (.ref 192)), (1, (.int x1))]) (fun (p1 : Unit) => []) (fun (p1 : Unit) => h) ?_ (fun p1 => ?_)
  · refine hp_E 173 (fun (p2 : Unit) => [(0, (.ref 192)), (1, (.int x1))]) (fun (p2 : Unit) => []) (fun (p2 : Unit) => h) ?_ (fun p2 => ?_)
    · refine hp_E 204 (fun (p3 : Unit) => [(0, (.ref 192)), (1, (.int x1))]) (fun (p3 : Unit) => []) (fun (p3 : Unit) => h) ?_ (fun p3 => ?_)
      · refine hp_E 235 (fun (p4 : Unit) => [(0, (.ref 192)), (1, (.int x1))]) (fun (p4 : Unit) => []) (fun (p4 : Unit) => h) ?_ (fun p4 => ?_)
        · refine hp_E 385 (fun (p5 : Unit) => [(0, (.ref 192)), (1, (.int x1))]) (fun (p5 : Unit) => []) (fun (p5 : Unit) => h) ?_ (fun p5 => ?_)
          · refine hp_E 759 (fun (p6 : Unit) => [(0, (.ref 192)), (1, (.int x1))]) (fun (p6 : Unit) => []) (fun (p6 : Unit) => h) ?_ (fun p6 => ?_)
            · refine hp_E 564 (fun (p7 : Unit) => [(0, (.ref 192)), (1, (.int x1))]) (fun (p7 : Unit) => []) (fun (p7 : Unit) => h) ?_ (fun p7 => ?_)
              · refine hp_b hm (at1 0 rfl) (L' := [(0, (.ref 192)), (1, (.int x1))]) (st' := [(.int x1)]) rfl (by exact trivial) (pc' := 1) rfl ?_
                refine hp_sw hm 0 rfl (cs := [0, 1]) (off := 143) (by decide) (tgt := 144) rfl (sw2 _ _ _) ?_ (fun c8 => ?_)
                · exact hp_lf [0, 1] rfl (fun _ e => e)
                · refine hp_sw hm 0 rfl (cs := [2, 3]) (off := 172) (by decide) (tgt := 173) rfl (sw2 _ _ _) ?_ (fun c9 => ?_)
                  · exact hp_lf [0, 1] rfl (fun _ e => e)
                  · refine hp_sw hm 0 rfl (cs := [4, 5]) (off := 203) (by decide) (tgt := 204) rfl (sw2 _ _ _) ?_ (fun c10 => ?_)
                    · exact hp_lf [0, 1] rfl (fun _ e => e)
                    · refine hp_sw hm 0 rfl (cs := [6, 7, 8, 9]) (off := 234) (by decide) (tgt := 235) rfl (sw4 _ _ _ _ _) ?_ (fun c11 => ?_)
                      · exact hp_lf [0, 1] rfl (fun _ e => e)
                      · refine hp_sw hm 0 rfl (cs := [10, 11]) (off := 384) (by decide) (tgt := 385) rfl (sw2 _ _ _) ?_ (fun c12 => ?_)
                        · exact hp_lf [0, 1] rfl (fun _ e => e)
                        · refine hp_sw hm 0 rfl (cs := [12]) (off := 445) (by decide) (tgt := 446) rfl (sw1 _ _) ?_ (fun c13 => ?_)
                          · refine hp_cVS (M2 := M_Mo_push) hm (at1 1 rfl) (as := [(.long (Int32.toInt64 (rdI h 192 65)))]) (rest := []) (z := 192) rfl (by exact og_192) (pc' := 452) rfl 1 rfl (lw_g (lw_at lw_m10 86 rfl) rfl) y_Mo_push rfl (d2 := 2) ⟨le_b rfl, pd_Mo_push, le_b rfl⟩ (le_b rfl) og_192 (k_Mo_push (Int32.toInt64 (rdI h 192 65)) h) (fun _ h1 => ?_)
                            refine hp_cVS (M2 := M_Mo_push) hm (at1 2 rfl) (as := [(.long (Int32.toInt64 (rdI h1 192 66)))]) (rest := []) (z := 192) rfl (by exact og_192) (pc' := 461) rfl 2 rfl (lw_g (lw_at lw_m10 86 rfl) rfl) y_Mo_push rfl (d2 := 2) ⟨le_b rfl, pd_Mo_push, le_b rfl⟩ (le_b rfl) og_192 (k_Mo_push (Int32.toInt64 (rdI h1 192 66)) h1) (fun _ h2 => ?_)
                            exact hp_vr hm 3 rfl rfl (fun _ e => e)
                          · refine hp_sw hm 0 rfl (cs := [13]) (off := 464) (by decide) (tgt := 465) rfl (sw1 _ _) ?_ (fun c14 => ?_)
                            · refine hp_cVS (M2 := M_Mo_push) hm (at1 3 rfl) (as := [(.long (Int32.toInt64 (rdI h 192 63)))]) (rest := []) (z := 192) rfl (by exact og_192) (pc' := 471) rfl 4 rfl (lw_g (lw_at lw_m10 86 rfl) rfl) y_Mo_push rfl (d2 := 2) ⟨le_b rfl, pd_Mo_push, le_b rfl⟩ (le_b rfl) og_192 (k_Mo_push (Int32.toInt64 (rdI h 192 63)) h) (fun _ h3 => ?_)
                              refine hp_cVS (M2 := M_Mo_push) hm (at1 4 rfl) (as := [(.long (Int32.toInt64 (rdI h3 192 64)))]) (rest := []) (z := 192) rfl (by exact og_192) (pc' := 480) rfl 5 rfl (lw_g (lw_at lw_m10 86 rfl) rfl) y_Mo_push rfl (d2 := 2) ⟨le_b rfl, pd_Mo_push, le_b rfl⟩ (le_b rfl) og_192 (k_Mo_push (Int32.toInt64 (rdI h3 192 64)) h3) (fun _ h4 => ?_)
                              exact hp_vr hm 6 rfl rfl (fun _ e => e)
                            · refine hp_sw hm 0 rfl (cs := [14]) (off := 483) (by decide) (tgt := 484) rfl (sw1 _ _) ?_ (fun c15 => ?_)
                              · refine hp_w hm (at1 5 rfl) (L' := [(0, (.ref 192)), (1, (.int x1))]) rfl (by exact ⟨og_192, og_192⟩) (pc' := 492) rfl (fun h5 => ?_)
                                refine hp_w hm (at1 6 rfl) (L' := [(0, (.ref 192)), (1, (.int x1))]) rfl (by exact ⟨og_192, og_192⟩) (pc' := 500) rfl (fun h6 => ?_)
                                exact hp_vr hm 7 rfl rfl (fun _ e => e)
                              · refine hp_sw hm 0 rfl (cs := [16]) (off := 500) (by decide) (tgt := 501) rfl (sw1 _ _) ?_ (fun c20 => ?_)
                                · refine hp_cVS (M2 := M_Mo_has) hm (at1 7 rfl) (as := [(.int (1 : Int32))]) (rest := [(.ref 192)]) (z := 192) rfl (by exact trivial) (pc' := 504) rfl 8 rfl (lw_g (lw_at lw_m10 20 rfl) rfl) y_Mo_has rfl (d2 := 2) ⟨le_b rfl, pd_Mo_has, le_b rfl⟩ (le_b rfl) og_192 (k_Mo_has (1 : Int32) h) (fun a16 h7 => ?_)
                                  refine hp_J 518 (fun (p17 : (Int32 × hH)) => []) (fun (p17 : (Int32 × hH)) => [(.int p17.1), (.ref 192)]) (fun (p17 : (Int32 × hH)) => p17.2) ?_ (fun p17 => ?_)
                                  · refine hp_if_eq hm at0 rfl (by exact trivial) (pc' := 507) rfl 11 rfl (tgt := 517) rfl (fun c19 => ?_) (fun c19 => ?_)
                                    · refine hp_b hm (at1 8 rfl) (L' := [(0, (.ref 192)), (1, (.int x1))]) (st' := [(.int (0 : Int32)), (.ref 192)]) rfl (by exact trivial) (pc' := 518) rfl ?_
                                      exact hp_lf [] rfl (fun _ e => e)
                                    · refine hp_cVS (M2 := M_Mo_pop) hm (at1 9 rfl) (as := []) (rest := [(.ref 192)]) (z := 192) rfl (by exact trivial) (pc' := 511) rfl 9 rfl (lw_g (lw_at lw_m10 24 rfl) rfl) y_Mo_pop rfl (d2 := 1) ⟨le_b rfl, pd_Mo_pop, le_b rfl⟩ (le_b rfl) og_192 (k_Mo_pop h7) (fun a18 h8 => ?_)
                                      refine hp_goto hm 10 rfl (tgt := 518) rfl ?_
                                      exact hp_lf [] rfl (fun _ e => e)
                                  · refine hp_w hm (at1 10 rfl) (L' := []) rfl (by exact og_192) (pc' := 521) rfl (fun h9 => ?_)
                                    exact hp_vr hm 12 rfl rfl (fun _ e => e)
                                · refine hp_sw hm 0 rfl (cs := [17]) (off := 521) (by decide) (tgt := 522) rfl (sw1 _ _) ?_ (fun c25 => ?_)
                                  · refine hp_cVS (M2 := M_Mo_has) hm (at1 11 rfl) (as := [(.int (1 : Int32))]) (rest := [(.ref 192)]) (z := 192) rfl (by exact trivial) (pc' := 525) rfl 13 rfl (lw_g (lw_at lw_m10 20 rfl) rfl) y_Mo_has rfl (d2 := 2) ⟨le_b rfl, pd_Mo_has, le_b rfl⟩ (le_b rfl) og_192 (k_Mo_has (1 : Int32) h) (fun a21 h10 => ?_)
                                    refine hp_J 539 (fun (p22 : (Int32 × hH)) => []) (fun (p22 : (Int32 × hH)) => [(.int p22.1), (.ref 192)]) (fun (p22 : (Int32 × hH)) => p22.2) ?_ (fun p22 => ?_)
                                    · refine hp_if_eq hm at0 rfl (by exact trivial) (pc' := 528) rfl 16 rfl (tgt := 538) rfl (fun c24 => ?_) (fun c24 => ?_)
                                      · refine hp_b hm (at1 12 rfl) (L' := [(0, (.ref 192)), (1, (.int x1))]) (st' := [(.int (0 : Int32)), (.ref 192)]) rfl (by exact trivial) (pc' := 539) rfl ?_
                                        exact hp_lf [] rfl (fun _ e => e)
                                      · refine hp_cVS (M2 := M_Mo_pop) hm (at1 13 rfl) (as := []) (rest := [(.ref 192)]) (z := 192) rfl (by exact trivial) (pc' := 532) rfl 14 rfl (lw_g (lw_at lw_m10 24 rfl) rfl) y_Mo_pop rfl (d2 := 1) ⟨le_b rfl, pd_Mo_pop, le_b rfl⟩ (le_b rfl) og_192 (k_Mo_pop h10) (fun a23 h11 => ?_)
                                        refine hp_goto hm 15 rfl (tgt := 539) rfl ?_
                                        exact hp_lf [] rfl (fun _ e => e)
                                    · refine hp_w hm (at1 14 rfl) (L' := []) rfl (by exact og_192) (pc' := 542) rfl (fun h12 => ?_)
                                      exact hp_vr hm 17 rfl rfl (fun _ e => e)
                                  · refine hp_sw hm 0 rfl (cs := [18]) (off := 542) (by decide) (tgt := 543) rfl (sw1 _ _) ?_ (fun c30 => ?_)
                                    · refine hp_cVS (M2 := M_Mo_has) hm (at1 15 rfl) (as := [(.int (1 : Int32))]) (rest := [(.ref 192)]) (z := 192) rfl (by exact trivial) (pc' := 546) rfl 18 rfl (lw_g (lw_at lw_m10 20 rfl) rfl) y_Mo_has rfl (d2 := 2) ⟨le_b rfl, pd_Mo_has, le_b rfl⟩ (le_b rfl) og_192 (k_Mo_has (1 : Int32) h) (fun a26 h13 => ?_)
                                      refine hp_J 560 (fun (p27 : (Int32 × hH)) => []) (fun (p27 : (Int32 × hH)) => [(.int p27.1), (.ref 192)]) (fun (p27 : (Int32 × hH)) => p27.2) ?_ (fun p27 => ?_)
                                      · refine hp_if_eq hm at0 rfl (by exact trivial) (pc' := 549) rfl 21 rfl (tgt := 559) rfl (fun c29 => ?_) (fun c29 => ?_)
                                        · refine hp_b hm (at1 16 rfl) (L' := [(0, (.ref 192)), (1, (.int x1))]) (st' := [(.int (0 : Int32)), (.ref 192)]) rfl (by exact trivial) (pc' := 560) rfl ?_
                                          exact hp_lf [] rfl (fun _ e => e)
                                        · refine hp_cVS (M2 := M_Mo_pop) hm (at1 17 rfl) (as := []) (rest := [(.ref 192)]) (z := 192) rfl (by exact trivial) (pc' := 553) rfl 19 rfl (lw_g (lw_at lw_m10 24 rfl) rfl) y_Mo_pop rfl (d2 := 1) ⟨le_b rfl, pd_Mo_pop, le_b rfl⟩ (le_b rfl) og_192 (k_Mo_pop h13) (fun a28 h14 => ?_)
                                          refine hp_goto hm 20 rfl (tgt := 560) rfl ?_
                                          exact hp_lf [] rfl (fun _ e => e)
                                      · refine hp_w hm (at1 18 rfl) (L' := []) rfl (by exact og_192) (pc' := 563) rfl (fun h15 => ?_)
                                        exact hp_vr hm 22 rfl rfl (fun _ e => e)
                                    · refine hp_sw hm 0 rfl (cs := [19, 20, 21, 22]) (off := 563) (by decide) (tgt := 564) rfl (sw4 _ _ _ _ _) ?_ (fun c31 => ?_)
                                      · exact hp_lf [0, 1] rfl (fun _ e => e)
                                      · refine hp_sw hm 0 rfl (cs := [23]) (off := 569) (by decide) (tgt := 570) rfl (sw1 _ _) ?_ (fun c38 => ?_)
                                        · refine hp_cVS (M2 := M_Mo_has) hm (at1 19 rfl) (as := [(.int (1 : Int32))]) (rest := []) (z := 192) rfl (by exact trivial) (pc' := 572) rfl 23 rfl (lw_g (lw_at lw_m10 20 rfl) rfl) y_Mo_has rfl (d2 := 2) ⟨le_b rfl, pd_Mo_has, le_b rfl⟩ (le_b rfl) og_192 (k_Mo_has (1 : Int32) h) (fun a32 h16 => ?_)
                                          refine hp_if_eq hm at0 rfl (by exact trivial) (pc' := 575) rfl 29 rfl (tgt := 606) rfl (fun c37 => ?_) (fun c37 => ?_)
                                          · exact hp_vr hm 24 rfl rfl (fun _ e => e)
                                          · refine hp_cVS (M2 := M_Mo_pop) hm (at1 20 rfl) (as := []) (rest := []) (z := 192) rfl (by exact trivial) (pc' := 579) rfl 25 rfl (lw_g (lw_at lw_m10 24 rfl) rfl) y_Mo_pop rfl (d2 := 1) ⟨le_b rfl, pd_Mo_pop, le_b rfl⟩ (le_b rfl) og_192 (k_Mo_pop h16) (fun a33 h17 => ?_)
                                            refine hp_b hm (at1 21 rfl) (L' := [(2, (.int a33)), (0, (.ref 192)), (1, (.int x1))]) (st' := [(.long (65535 : Int64)), (.long (1 : Int64)), (.long (Int32.toInt64 a33))]) rfl (by exact trivial) (pc' := 589) rfl ?_
                                            refine hp_cSP (M2 := M_Mo_in) hm at0 (as := [(.long (Int32.toInt64 a33)), (.long (1 : Int64)), (.long (65535 : Int64))]) (rest := []) rfl (by exact trivial) (pc' := 589) rfl 26 rfl (lw_g (lw_at lw_m9 184 rfl) rfl) y_Mo_in rfl (d2 := 1) ⟨le_b rfl, pd_Mo_in, le_b rfl⟩ (le_b rfl) (k_Mo_in (Int32.toInt64 a33) (1 : Int64) (65535 : Int64) h17) (fun a34 => ?_)
                                            refine hp_J 601 (fun (p35 : hH) => [(0, (.ref 192)), (2, (.int a33))]) (fun (p35 : hH) => []) (fun (p35 : hH) => p35) ?_ (fun p35 => ?_)
                                            · refine hp_if_ne hm at0 rfl (by exact trivial) (pc' := 592) rfl 28 rfl (tgt := 601) rfl (fun c36 => ?_) (fun c36 => ?_)
                                              · exact hp_lf [1, 0] rfl (fun _ e => e)
                                              · refine hp_cVS (M2 := M_Mo_fail) hm (at1 22 rfl) (as := [(.int (11 : Int32))]) (rest := []) (z := 192) rfl (by exact trivial) (pc' := 598) rfl 27 rfl (lw_g (lw_at lw_m10 4 rfl) rfl) y_Mo_fail rfl (d2 := 1) ⟨le_b rfl, pd_Mo_fail, le_b rfl⟩ (le_b rfl) og_192 (k_Mo_fail (11 : Int32) h17) (fun _ h18 => ?_)
                                                exact hp_lf [1, 0] rfl (fun _ e => e)
                                            · refine hp_w hm (at1 23 rfl) (L' := [(0, (.ref 192)), (2, (.int a33))]) rfl (by exact og_192) (pc' := 606) rfl (fun h19 => ?_)
                                              exact hp_vr hm 24 rfl rfl (fun _ e => e)
                                        · refine hp_sw hm 0 rfl (cs := [24]) (off := 606) (by decide) (tgt := 607) rfl (sw1 _ _) ?_ (fun c39 => ?_)
                                          · refine hp_cVS (M2 := M_Mo_setRounding) hm (at1 24 rfl) (as := [(.int (24 : Int32)), (.int (64 : Int32)), (.int (0 : Int32)), (.int (32 : Int32))]) (rest := []) (z := 192) rfl (by exact trivial) (pc' := 615) rfl 30 rfl (lw_g (lw_at lw_m10 0 rfl) rfl) y_Mo_setRounding rfl (d2 := 1) ⟨le_b rfl, pd_Mo_setRounding, le_b rfl⟩ (le_b rfl) og_192 (k_Mo_setRounding (24 : Int32) (64 : Int32) (0 : Int32) (32 : Int32) h) (fun _ h20 => ?_)
                                            exact hp_vr hm 31 rfl rfl (fun _ e => e)
                                          · refine hp_sw hm 0 rfl (cs := [25]) (off := 618) (by decide) (tgt := 619) rfl (sw1 _ _) ?_ (fun c40 => ?_)
                                            · refine hp_cVS (M2 := M_Mo_setRounding) hm (at1 25 rfl) (as := [(.int (25 : Int32)), (.int (64 : Int32)), (.int (32 : Int32)), (.int (32 : Int32))]) (rest := []) (z := 192) rfl (by exact trivial) (pc' := 628) rfl 32 rfl (lw_g (lw_at lw_m10 0 rfl) rfl) y_Mo_setRounding rfl (d2 := 1) ⟨le_b rfl, pd_Mo_setRounding, le_b rfl⟩ (le_b rfl) og_192 (k_Mo_setRounding (25 : Int32) (64 : Int32) (32 : Int32) (32 : Int32) h) (fun _ h21 => ?_)
                                              exact hp_vr hm 33 rfl rfl (fun _ e => e)
                                            · refine hp_sw hm 0 rfl (cs := [26]) (off := 631) (by decide) (tgt := 632) rfl (sw1 _ _) ?_ (fun c45 => ?_)
                                              · refine hp_cVS (M2 := M_Mo_has) hm (at1 26 rfl) (as := [(.int (1 : Int32))]) (rest := [(.ref 192)]) (z := 192) rfl (by exact trivial) (pc' := 635) rfl 34 rfl (lw_g (lw_at lw_m10 20 rfl) rfl) y_Mo_has rfl (d2 := 2) ⟨le_b rfl, pd_Mo_has, le_b rfl⟩ (le_b rfl) og_192 (k_Mo_has (1 : Int32) h) (fun a41 h22 => ?_)
                                                refine hp_J 649 (fun (p42 : (Int32 × hH)) => []) (fun (p42 : (Int32 × hH)) => [(.int p42.1), (.ref 192)]) (fun (p42 : (Int32 × hH)) => p42.2) ?_ (fun p42 => ?_)
                                                · refine hp_if_eq hm at0 rfl (by exact trivial) (pc' := 638) rfl 37 rfl (tgt := 648) rfl (fun c44 => ?_) (fun c44 => ?_)
                                                  · refine hp_b hm (at1 27 rfl) (L' := [(0, (.ref 192)), (1, (.int x1))]) (st' := [(.int (0 : Int32)), (.ref 192)]) rfl (by exact trivial) (pc' := 649) rfl ?_
                                                    exact hp_lf [] rfl (fun _ e => e)
                                                  · refine hp_cVS (M2 := M_Mo_pop) hm (at1 28 rfl) (as := []) (rest := [(.ref 192)]) (z := 192) rfl (by exact trivial) (pc' := 642) rfl 35 rfl (lw_g (lw_at lw_m10 24 rfl) rfl) y_Mo_pop rfl (d2 := 1) ⟨le_b rfl, pd_Mo_pop, le_b rfl⟩ (le_b rfl) og_192 (k_Mo_pop h22) (fun a43 h23 => ?_)
                                                    refine hp_goto hm 36 rfl (tgt := 649) rfl ?_
                                                    exact hp_lf [] rfl (fun _ e => e)
                                                · refine hp_w hm (at1 29 rfl) (L' := []) rfl (by exact og_192) (pc' := 652) rfl (fun h24 => ?_)
                                                  exact hp_vr hm 38 rfl rfl (fun _ e => e)
                                              · refine hp_sw hm 0 rfl (cs := [27]) (off := 652) (by decide) (tgt := 653) rfl (sw1 _ _) ?_ (fun c47 => ?_)
                                                · refine hp_cVS (M2 := M_Mo_pass) hm (at1 30 rfl) (as := [(.int (rdI h 192 93)), (.int (89 : Int32)), (.int (89 : Int32)), (.int (1 : Int32))]) (rest := []) (z := 192) rfl (by exact og_192) (pc' := 663) rfl 39 rfl (lw_g (lw_at lw_m10 116 rfl) rfl) y_Mo_pass rfl (d2 := 4) ⟨le_b rfl, pd_Mo_pass, le_b rfl⟩ (le_b rfl) og_192 (k_Mo_pass (rdI h 192 93) (89 : Int32) (89 : Int32) (1 : Int32) h) (fun a46 h25 => ?_)
                                                  refine hp_w hm (at1 31 rfl) (L' := [(2, (.int a46)), (0, (.ref 192)), (1, (.int x1))]) rfl (by exact og_192) (pc' := 672) rfl (fun h26 => ?_)
                                                  exact hp_vr hm 40 rfl rfl (fun _ e => e)
                                                · refine hp_sw hm 0 rfl (cs := [28]) (off := 672) (by decide) (tgt := 673) rfl (sw1 _ _) ?_ (fun c51 => ?_)
                                                  · refine hp_cVS (M2 := M_Mo_has) hm (at1 32 rfl) (as := [(.int (1 : Int32))]) (rest := []) (z := 192) rfl (by exact trivial) (pc' := 675) rfl 41 rfl (lw_g (lw_at lw_m10 20 rfl) rfl) y_Mo_has rfl (d2 := 2) ⟨le_b rfl, pd_Mo_has, le_b rfl⟩ (le_b rfl) og_192 (k_Mo_has (1 : Int32) h) (fun a48 h27 => ?_)
                                                    refine hp_if_eq hm at0 rfl (by exact trivial) (pc' := 678) rfl 45 rfl (tgt := 690) rfl (fun c50 => ?_) (fun c50 => ?_)
                                                    · exact hp_vr hm 42 rfl rfl (fun _ e => e)
                                                    · refine hp_cVS (M2 := M_Mo_pop) hm (at1 33 rfl) (as := []) (rest := [(.ref 192)]) (z := 192) rfl (by exact trivial) (pc' := 683) rfl 43 rfl (lw_g (lw_at lw_m10 24 rfl) rfl) y_Mo_pop rfl (d2 := 1) ⟨le_b rfl, pd_Mo_pop, le_b rfl⟩ (le_b rfl) og_192 (k_Mo_pop h27) (fun a49 h28 => ?_)
                                                      refine hp_cVS (M2 := M_Mo_jump) hm (at1 34 rfl) (as := [(.long (Int32.toInt64 a49))]) (rest := []) (z := 192) rfl (by exact trivial) (pc' := 687) rfl 44 rfl (lw_g (lw_at lw_m10 124 rfl) rfl) y_Mo_jump rfl (d2 := 2) ⟨le_b rfl, pd_Mo_jump, le_b rfl⟩ (le_b rfl) og_192 (k_Mo_jump (Int32.toInt64 a49) h28) (fun _ h29 => ?_)
                                                      exact hp_vr hm 42 rfl rfl (fun _ e => e)
                                                  · refine hp_sw hm 0 rfl (cs := [29]) (off := 690) (by decide) (tgt := 691) rfl (sw1 _ _) ?_ (fun c56 => ?_)
                                                    · refine hp_cVS (M2 := M_Mo_has) hm (at1 35 rfl) (as := [(.int (1 : Int32))]) (rest := [(.ref 192)]) (z := 192) rfl (by exact trivial) (pc' := 694) rfl 46 rfl (lw_g (lw_at lw_m10 20 rfl) rfl) y_Mo_has rfl (d2 := 2) ⟨le_b rfl, pd_Mo_has, le_b rfl⟩ (le_b rfl) og_192 (k_Mo_has (1 : Int32) h) (fun a52 h30 => ?_)
                                                      refine hp_J 708 (fun (p53 : (Int32 × hH)) => []) (fun (p53 : (Int32 × hH)) => [(.int p53.1), (.ref 192)]) (fun (p53 : (Int32 × hH)) => p53.2) ?_ (fun p53 => ?_)
                                                      · refine hp_if_eq hm at0 rfl (by exact trivial) (pc' := 697) rfl 49 rfl (tgt := 707) rfl (fun c55 => ?_) (fun c55 => ?_)
                                                        · refine hp_b hm (at1 36 rfl) (L' := [(0, (.ref 192)), (1, (.int x1))]) (st' := [(.int (0 : Int32)), (.ref 192)]) rfl (by exact trivial) (pc' := 708) rfl ?_
                                                          exact hp_lf [] rfl (fun _ e => e)
                                                        · refine hp_cVS (M2 := M_Mo_pop) hm (at1 37 rfl) (as := []) (rest := [(.ref 192)]) (z := 192) rfl (by exact trivial) (pc' := 701) rfl 47 rfl (lw_g (lw_at lw_m10 24 rfl) rfl) y_Mo_pop rfl (d2 := 1) ⟨le_b rfl, pd_Mo_pop, le_b rfl⟩ (le_b rfl) og_192 (k_Mo_pop h30) (fun a54 h31 => ?_)
                                                          refine hp_goto hm 48 rfl (tgt := 708) rfl ?_
                                                          exact hp_lf [] rfl (fun _ e => e)
                                                      · refine hp_w hm (at1 38 rfl) (L' := []) rfl (by exact og_192) (pc' := 711) rfl (fun h32 => ?_)
                                                        exact hp_vr hm 50 rfl rfl (fun _ e => e)
                                                    · refine hp_sw hm 0 rfl (cs := [30]) (off := 711) (by decide) (tgt := 712) rfl (sw1 _ _) ?_ (fun c61 => ?_)
                                                      · refine hp_cVS (M2 := M_Mo_has) hm (at1 39 rfl) (as := [(.int (1 : Int32))]) (rest := [(.ref 192)]) (z := 192) rfl (by exact trivial) (pc' := 715) rfl 51 rfl (lw_g (lw_at lw_m10 20 rfl) rfl) y_Mo_has rfl (d2 := 2) ⟨le_b rfl, pd_Mo_has, le_b rfl⟩ (le_b rfl) og_192 (k_Mo_has (1 : Int32) h) (fun a57 h33 => ?_)
                                                        refine hp_J 729 (fun (p58 : (Int32 × hH)) => []) (fun (p58 : (Int32 × hH)) => [(.int p58.1), (.ref 192)]) (fun (p58 : (Int32 × hH)) => p58.2) ?_ (fun p58 => ?_)
                                                        · refine hp_if_eq hm at0 rfl (by exact trivial) (pc' := 718) rfl 54 rfl (tgt := 728) rfl (fun c60 => ?_) (fun c60 => ?_)
                                                          · refine hp_b hm (at1 40 rfl) (L' := [(0, (.ref 192)), (1, (.int x1))]) (st' := [(.int (0 : Int32)), (.ref 192)]) rfl (by exact trivial) (pc' := 729) rfl ?_
                                                            exact hp_lf [] rfl (fun _ e => e)
                                                          · refine hp_cVS (M2 := M_Mo_pop) hm (at1 41 rfl) (as := []) (rest := [(.ref 192)]) (z := 192) rfl (by exact trivial) (pc' := 722) rfl 52 rfl (lw_g (lw_at lw_m10 24 rfl) rfl) y_Mo_pop rfl (d2 := 1) ⟨le_b rfl, pd_Mo_pop, le_b rfl⟩ (le_b rfl) og_192 (k_Mo_pop h33) (fun a59 h34 => ?_)
                                                            refine hp_goto hm 53 rfl (tgt := 729) rfl ?_
                                                            exact hp_lf [] rfl (fun _ e => e)
                                                        · refine hp_w hm (at1 42 rfl) (L' := []) rfl (by exact og_192) (pc' := 732) rfl (fun h35 => ?_)
                                                          exact hp_vr hm 55 rfl rfl (fun _ e => e)
                                                      · refine hp_sw hm 0 rfl (cs := [31]) (off := 732) (by decide) (tgt := 733) rfl (sw1 _ _) ?_ (fun c67 => ?_)
                                                        · refine hp_cVS (M2 := M_Mo_has) hm (at1 43 rfl) (as := [(.int (1 : Int32))]) (rest := [(.ref 192)]) (z := 192) rfl (by exact trivial) (pc' := 736) rfl 56 rfl (lw_g (lw_at lw_m10 20 rfl) rfl) y_Mo_has rfl (d2 := 2) ⟨le_b rfl, pd_Mo_has, le_b rfl⟩ (le_b rfl) og_192 (k_Mo_has (1 : Int32) h) (fun a62 h36 => ?_)
                                                          refine hp_J 755 (fun (p63 : (Int32 × hH)) => []) (fun (p63 : (Int32 × hH)) => [(.int p63.1), (.ref 192)]) (fun (p63 : (Int32 × hH)) => p63.2) ?_ (fun p63 => ?_)
                                                          · refine hp_if_eq hm at0 rfl (by exact trivial) (pc' := 739) rfl 60 rfl (tgt := 754) rfl (fun c66 => ?_) (fun c66 => ?_)
                                                            · refine hp_b hm (at1 44 rfl) (L' := [(0, (.ref 192)), (1, (.int x1))]) (st' := [(.int (0 : Int32)), (.ref 192)]) rfl (by exact trivial) (pc' := 755) rfl ?_
                                                              exact hp_lf [] rfl (fun _ e => e)
                                                            · refine hp_cVS (M2 := M_Mo_pop) hm (at1 45 rfl) (as := []) (rest := [(.ref 192), (.ref 192)]) (z := 192) rfl (by exact trivial) (pc' := 744) rfl 57 rfl (lw_g (lw_at lw_m10 24 rfl) rfl) y_Mo_pop rfl (d2 := 1) ⟨le_b rfl, pd_Mo_pop, le_b rfl⟩ (le_b rfl) og_192 (k_Mo_pop h36) (fun a64 h37 => ?_)
                                                              refine hp_cVP (M2 := M_Mo_scaled) hm (at1 46 rfl) (as := [(.long (Int32.toInt64 a64))]) (rest := [(.ref 192)]) (z := 192) rfl (by exact trivial) (pc' := 748) rfl 58 rfl (lw_g (lw_at lw_m9 212 rfl) rfl) y_Mo_scaled rfl (d2 := 4) ⟨le_b rfl, pd_Mo_scaled, le_b rfl⟩ (le_b rfl) og_192 (k_Mo_scaled (Int32.toInt64 a64) h37) (fun a65 => ?_)
                                                              refine hp_goto hm 59 rfl (tgt := 755) rfl ?_
                                                              exact hp_lf [] rfl (fun _ e => e)
                                                          · refine hp_w hm (at1 47 rfl) (L' := []) rfl (by exact og_192) (pc' := 758) rfl (fun h38 => ?_)
                                                            exact hp_vr hm 61 rfl rfl (fun _ e => e)
                                                        · refine hp_sd2 hm 0 rfl (css := [[0, 1], [2, 3], [4, 5], [6, 7, 8, 9], [10, 11], [12], [13], [14], [16], [17], [18], [19, 20, 21, 22], [23], [24], [25], [26], [27], [28], [29], [30], [31]]) (by decide) (by decide) (List.forall_mem_cons.mpr ⟨c8, (List.forall_mem_cons.mpr ⟨c9, (List.forall_mem_cons.mpr ⟨c10, (List.forall_mem_cons.mpr ⟨c11, (List.forall_mem_cons.mpr ⟨c12, (List.forall_mem_cons.mpr ⟨c13, (List.forall_mem_cons.mpr ⟨c14, (List.forall_mem_cons.mpr ⟨c15, (List.forall_mem_cons.mpr ⟨c20, (List.forall_mem_cons.mpr ⟨c25, (List.forall_mem_cons.mpr ⟨c30, (List.forall_mem_cons.mpr ⟨c31, (List.forall_mem_cons.mpr ⟨c38, (List.forall_mem_cons.mpr ⟨c39, (List.forall_mem_cons.mpr ⟨c40, (List.forall_mem_cons.mpr ⟨c45, (List.forall_mem_cons.mpr ⟨c47, (List.forall_mem_cons.mpr ⟨c51, (List.forall_mem_cons.mpr ⟨c56, (List.forall_mem_cons.mpr ⟨c61, (List.forall_mem_cons.mpr ⟨c67, (fun _ h => absurd h List.not_mem_nil)⟩)⟩)⟩)⟩)⟩)⟩)⟩)⟩)⟩)⟩)⟩)⟩)⟩)⟩)⟩)⟩)⟩)⟩)⟩)⟩)⟩) (tgt := 759) rfl ?_
                                                          exact hp_lf [0, 1] rfl (fun _ e => e)
              · refine hp_cVS (M2 := M_Mo_setZone) hm (at1 48 rfl) (as := [(.int x1)]) (rest := []) (z := 192) rfl (by exact trivial) (pc' := 566) rfl 62 rfl (lw_g (lw_at lw_m10 107 rfl) rfl) y_Mo_setZone rfl (d2 := 3) ⟨le_b rfl, pd_Mo_setZone, le_b rfl⟩ (le_b rfl) og_192 (k_Mo_setZone x1 h) (fun _ h39 => ?_)
                exact hp_vr hm 63 rfl rfl (fun _ e => e)
            · refine hp_cVS (M2 := M_Mo_stacks) hm (at1 49 rfl) (as := [(.int x1)]) (rest := []) (z := 192) rfl (by exact trivial) (pc' := 761) rfl 64 rfl (lw_g (lw_at lw_m10 128 rfl) rfl) y_Mo_stacks rfl (d2 := 6) ⟨le_b rfl, pd_Mo_stacks, le_b rfl⟩ (le_b rfl) og_192 (k_Mo_stacks x1 h) (fun _ h40 => ?_)
              exact hp_vr hm 65 rfl rfl (fun _ e => e)
          · refine hp_cVS (M2 := M_Mo_has) hm (at1 50 rfl) (as := [(.int (2 : Int32))]) (rest := []) (z := 192) rfl (by exact trivial) (pc' := 387) rfl 66 rfl (lw_g (lw_at lw_m10 20 rfl) rfl) y_Mo_has rfl (d2 := 2) ⟨le_b rfl, pd_Mo_has, le_b rfl⟩ (le_b rfl) og_192 (k_Mo_has (2 : Int32) h) (fun a68 h41 => ?_)
            refine hp_if_eq hm at0 rfl (by exact trivial) (pc' := 390) rfl 76 rfl (tgt := 445) rfl (fun c77 => ?_) (fun c77 => ?_)
            · exact hp_vr hm 67 rfl rfl (fun _ e => e)
            · refine hp_cVS (M2 := M_Mo_pop) hm (at1 51 rfl) (as := []) (rest := []) (z := 192) rfl (by exact trivial) (pc' := 394) rfl 68 rfl (lw_g (lw_at lw_m10 24 rfl) rfl) y_Mo_pop rfl (d2 := 1) ⟨le_b rfl, pd_Mo_pop, le_b rfl⟩ (le_b rfl) og_192 (k_Mo_pop h41) (fun a69 h42 => ?_)
              refine hp_z hm (at1 52 rfl) (fun (v70 : Int32) => [(2, (.int v70)), (0, (.ref 192)), (1, (.int x1))]) (fun (v70 : Int32) => []) rfl (by exact trivial) (pc' := 399) rfl (fun v70 => ?_)
              refine hp_cVS (M2 := M_Mo_pop) hm (at1 53 rfl) (as := []) (rest := []) (z := 192) rfl (by exact trivial) (pc' := 400) rfl 69 rfl (lw_g (lw_at lw_m10 24 rfl) rfl) y_Mo_pop rfl (d2 := 1) ⟨le_b rfl, pd_Mo_pop, le_b rfl⟩ (le_b rfl) og_192 (k_Mo_pop h42) (fun a71 h43 => ?_)
              refine hp_z hm (at1 54 rfl) (fun (v72 : Int32) => [(3, (.int v72)), (2, (.int v70)), (0, (.ref 192)), (1, (.int x1))]) (fun (v72 : Int32) => []) rfl (by exact trivial) (pc' := 405) rfl (fun v72 => ?_)
              refine hp_cVS (M2 := M_Mo_direction) hm (at1 55 rfl) (as := [(.int v72), (.int v70)]) (rest := []) (z := 192) rfl (by exact trivial) (pc' := 408) rfl 70 rfl (lw_g (lw_at lw_m10 98 rfl) rfl) y_Mo_direction rfl (d2 := 3) ⟨le_b rfl, pd_Mo_direction, le_b rfl⟩ (le_b rfl) og_192 (k_Mo_direction v72 v70 h43) (fun _ h44 => ?_)
              refine hp_JZ 431 (fun (p73 : Int32) => [(1, (.int x1))]) (fun (p73 : Int32) => [(.int p73), (.int (rdI h44 192 106)), (.int (rdI h44 192 105)), (.ref 192)]) (fun (p73 : Int32) => h44) ?_ (fun p73 => ?_)
              · refine hp_sv0 ?_
                refine hp_ic_ne hm (at1 56 rfl) rfl (by exact ⟨og_192, og_192⟩) (pc' := 423) rfl 72 rfl (tgt := 430) rfl (fun c74 => ?_) (fun c74 => ?_)
                · refine hp_b hm (at1 57 rfl) (L' := [(3, (.int v72)), (2, (.int v70)), (0, (.ref 192)), (1, (.int x1))]) (st' := [(.int (0 : Int32)), (.int (rdI h44 192 106)), (.int (rdI h44 192 105)), (.ref 192)]) rfl (by exact trivial) (pc' := 431) rfl ?_
                  exact hp_lf [3] rfl (fun _ e => e)
                · refine hp_b hm (at1 58 rfl) (L' := [(3, (.int v72)), (2, (.int v70)), (0, (.ref 192)), (1, (.int x1))]) (st' := [(.int (1 : Int32)), (.int (rdI h44 192 106)), (.int (rdI h44 192 105)), (.ref 192)]) rfl (by exact trivial) (pc' := 427) rfl ?_
                  refine hp_goto hm 71 rfl (tgt := 431) rfl ?_
                  exact hp_lf [3] rfl (fun _ e => e)
              · refine hp_JZ 442 (fun (p75 : Int32) => []) (fun (p75 : Int32) => [(.int p75), (.int p73), (.int (rdI h44 192 106)), (.int (rdI h44 192 105)), (.ref 192)]) (fun (p75 : Int32) => h44) ?_ (fun p75 => ?_)
                · refine hp_sv0 ?_
                  refine hp_ic_ne hm (at1 59 rfl) rfl (by exact trivial) (pc' := 434) rfl 74 rfl (tgt := 441) rfl (fun c76 => ?_) (fun c76 => ?_)
                  · refine hp_b hm (at1 60 rfl) (L' := [(1, (.int x1))]) (st' := [(.int (0 : Int32)), (.int p73), (.int (rdI h44 192 106)), (.int (rdI h44 192 105)), (.ref 192)]) rfl (by exact trivial) (pc' := 442) rfl ?_
                    exact hp_lf [] rfl (fun _ e => e)
                  · refine hp_b hm (at1 61 rfl) (L' := [(1, (.int x1))]) (st' := [(.int (1 : Int32)), (.int p73), (.int (rdI h44 192 106)), (.int (rdI h44 192 105)), (.ref 192)]) rfl (by exact trivial) (pc' := 438) rfl ?_
                    refine hp_goto hm 73 rfl (tgt := 442) rfl ?_
                    exact hp_lf [] rfl (fun _ e => e)
                · refine hp_cVS (M2 := M_Mo_setVectors) hm at0 (as := [(.int (rdI h44 192 105)), (.int (rdI h44 192 106)), (.int p73), (.int p75)]) (rest := []) (z := 192) rfl (by exact trivial) (pc' := 442) rfl 75 rfl (lw_g (lw_at lw_m10 94 rfl) rfl) y_Mo_setVectors rfl (d2 := 1) ⟨le_b rfl, pd_Mo_setVectors, le_b rfl⟩ (le_b rfl) og_192 (k_Mo_setVectors (rdI h44 192 105) (rdI h44 192 106) p73 p75 h44) (fun _ h45 => ?_)
                  exact hp_vr hm 67 rfl rfl (fun _ e => e)
        · refine hp_cVS (M2 := M_Mo_has) hm (at1 62 rfl) (as := [(.int (2 : Int32))]) (rest := []) (z := 192) rfl (by exact trivial) (pc' := 237) rfl 77 rfl (lw_g (lw_at lw_m10 20 rfl) rfl) y_Mo_has rfl (d2 := 2) ⟨le_b rfl, pd_Mo_has, le_b rfl⟩ (le_b rfl) og_192 (k_Mo_has (2 : Int32) h) (fun a78 h46 => ?_)
          refine hp_if_eq hm at0 rfl (by exact trivial) (pc' := 240) rfl 97 rfl (tgt := 384) rfl (fun c96 => ?_) (fun c96 => ?_)
          · exact hp_vr hm 78 rfl rfl (fun _ e => e)
          · refine hp_cVS (M2 := M_Mo_pop) hm (at1 63 rfl) (as := []) (rest := [(.int (rdI h46 192 74)), (.ref 192)]) (z := 192) rfl (by exact og_192) (pc' := 249) rfl 79 rfl (lw_g (lw_at lw_m10 24 rfl) rfl) y_Mo_pop rfl (d2 := 1) ⟨le_b rfl, pd_Mo_pop, le_b rfl⟩ (le_b rfl) og_192 (k_Mo_pop h46) (fun a79 h47 => ?_)
            refine hp_cVS (M2 := M_Mo_pointOf) hm at0 (as := [(.int (rdI h46 192 74)), (.int a79)]) (rest := []) (z := 192) rfl (by exact trivial) (pc' := 252) rfl 80 rfl (lw_g (lw_at lw_m10 28 rfl) rfl) y_Mo_pointOf rfl (d2 := 2) ⟨le_b rfl, pd_Mo_pointOf, le_b rfl⟩ (le_b rfl) og_192 (k_Mo_pointOf (rdI h46 192 74) a79 h47) (fun a80 h48 => ?_)
            refine hp_b hm (at1 64 rfl) (L' := [(2, (.int a80)), (0, (.ref 192)), (1, (.int x1))]) (st' := [(.ref 192), (.int (rdI h48 192 73)), (.ref 192)]) rfl (by exact og_192) (pc' := 262) rfl ?_
            refine hp_cVS (M2 := M_Mo_pop) hm at0 (as := []) (rest := [(.int (rdI h48 192 73)), (.ref 192)]) (z := 192) rfl (by exact trivial) (pc' := 262) rfl 81 rfl (lw_g (lw_at lw_m10 24 rfl) rfl) y_Mo_pop rfl (d2 := 1) ⟨le_b rfl, pd_Mo_pop, le_b rfl⟩ (le_b rfl) og_192 (k_Mo_pop h48) (fun a81 h49 => ?_)
            refine hp_cVS (M2 := M_Mo_pointOf) hm at0 (as := [(.int (rdI h48 192 73)), (.int a81)]) (rest := []) (z := 192) rfl (by exact trivial) (pc' := 265) rfl 82 rfl (lw_g (lw_at lw_m10 28 rfl) rfl) y_Mo_pointOf rfl (d2 := 2) ⟨le_b rfl, pd_Mo_pointOf, le_b rfl⟩ (le_b rfl) og_192 (k_Mo_pointOf (rdI h48 192 73) a81 h49) (fun a82 h50 => ?_)
            refine hp_b hm (at1 65 rfl) (L' := [(3, (.int a82)), (2, (.int a80)), (0, (.ref 192)), (1, (.int x1))]) (st' := [(.int (rdI h50 192 59))]) rfl (by exact og_192) (pc' := 273) rfl ?_
            refine hp_if_ne hm at0 rfl (by exact trivial) (pc' := 273) rfl 96 rfl (tgt := 384) rfl (fun c95 => ?_) (fun c95 => ?_)
            · exact hp_vr hm 78 rfl rfl (fun _ e => e)
            · refine hp_G hm (at1 66 rfl) (L' := [(3, (.int a82)), (2, (.int a80)), (0, (.ref 192)), (1, (.int x1))]) (st' := [(.int ((rdI h50 215 (Int32.toNatClampNeg a82)) - (rdI h50 215 (Int32.toNatClampNeg a80)))), (.int ((rdI h50 214 (Int32.toNatClampNeg a82)) - (rdI h50 214 (Int32.toNatClampNeg a80)))), (.ref 192)]) rfl (fun hP => (by exact ⟨⟨⟨⟨⟨⟨⟨og_192, ⟨og_214, hP.1⟩⟩, og_192⟩, ⟨og_214, hP.2⟩⟩, og_192⟩, ⟨og_215, hP.1⟩⟩, og_192⟩, ⟨og_215, hP.2⟩⟩)) (pc' := 303) rfl (fun q83 => ?_)
              refine hp_cVS (M2 := M_Mo_direction) hm at0 (as := [(.int ((rdI h50 214 (Int32.toNatClampNeg a82)) - (rdI h50 214 (Int32.toNatClampNeg a80)))), (.int ((rdI h50 215 (Int32.toNatClampNeg a82)) - (rdI h50 215 (Int32.toNatClampNeg a80))))]) (rest := []) (z := 192) rfl (by exact trivial) (pc' := 303) rfl 83 rfl (lw_g (lw_at lw_m10 98 rfl) rfl) y_Mo_direction rfl (d2 := 3) ⟨le_b rfl, pd_Mo_direction, le_b rfl⟩ (le_b rfl) og_192 (k_Mo_direction ((rdI h50 214 (Int32.toNatClampNeg a82)) - (rdI h50 214 (Int32.toNatClampNeg a80))) ((rdI h50 215 (Int32.toNatClampNeg a82)) - (rdI h50 215 (Int32.toNatClampNeg a80))) h50) (fun _ h51 => ?_)
              refine hp_JZ 323 (fun (p84 : Int32) => [(0, (.ref 192)), (1, (.int x1))]) (fun (p84 : Int32) => [(.int p84)]) (fun (p84 : Int32) => h51) ?_ (fun p84 => ?_)
              · refine hp_sv0 ?_
                refine hp_ic_eq hm (at1 67 rfl) rfl (by exact trivial) (pc' := 309) rfl 86 rfl (tgt := 318) rfl (fun c86 => ?_) (fun c86 => ?_)
                · refine hp_b hm (at1 68 rfl) (L' := [(3, (.int a82)), (2, (.int a80)), (0, (.ref 192)), (1, (.int x1))]) (st' := [(.int (1 : Int32))]) rfl (by exact trivial) (pc' := 319) rfl ?_
                  refine hp_goto hm 84 rfl (tgt := 323) rfl ?_
                  exact hp_lf [2, 3] rfl (fun _ e => e)
                · refine hp_sv0 ?_
                  refine hp_ic_ne hm (at1 69 rfl) rfl (by exact trivial) (pc' := 315) rfl 85 rfl (tgt := 322) rfl (fun c85 => ?_) (fun c85 => ?_)
                  · refine hp_b hm (at1 70 rfl) (L' := [(3, (.int a82)), (2, (.int a80)), (0, (.ref 192)), (1, (.int x1))]) (st' := [(.int (0 : Int32))]) rfl (by exact trivial) (pc' := 323) rfl ?_
                    exact hp_lf [2, 3] rfl (fun _ e => e)
                  · refine hp_b hm (at1 68 rfl) (L' := [(3, (.int a82)), (2, (.int a80)), (0, (.ref 192)), (1, (.int x1))]) (st' := [(.int (1 : Int32))]) rfl (by exact trivial) (pc' := 319) rfl ?_
                    refine hp_goto hm 84 rfl (tgt := 323) rfl ?_
                    exact hp_lf [2, 3] rfl (fun _ e => e)
              · refine hp_b hm (at1 71 rfl) (L' := [(4, (.int p84)), (0, (.ref 192)), (1, (.int x1))]) (st' := [(.int p84), (.ref 192)]) rfl (by exact trivial) (pc' := 328) rfl ?_
                refine hp_JZ 343 (fun (p87 : Int32) => [(0, (.ref 192)), (1, (.int x1)), (4, (.int p84))]) (fun (p87 : Int32) => [(.int p87), (.ref 192)]) (fun (p87 : Int32) => h51) ?_ (fun p87 => ?_)
                · refine hp_sv0 ?_
                  refine hp_if_eq hm at0 rfl (by exact trivial) (pc' := 328) rfl 88 rfl (tgt := 339) rfl (fun c88 => ?_) (fun c88 => ?_)
                  · refine hp_b hm (at1 72 rfl) (L' := [(4, (.int p84)), (0, (.ref 192)), (1, (.int x1))]) (st' := [(.int (rdI h51 192 105)), (.ref 192)]) rfl (by exact og_192) (pc' := 343) rfl ?_
                    exact hp_lf [1, 2, 0] rfl (fun _ e => e)
                  · refine hp_b hm (at1 73 rfl) (L' := [(4, (.int p84)), (0, (.ref 192)), (1, (.int x1))]) (st' := [(.int (-(rdI h51 192 106))), (.ref 192)]) rfl (by exact og_192) (pc' := 336) rfl ?_
                    refine hp_goto hm 87 rfl (tgt := 343) rfl ?_
                    exact hp_lf [1, 2, 0] rfl (fun _ e => e)
                · refine hp_JZ 359 (fun (p89 : Int32) => [(1, (.int x1))]) (fun (p89 : Int32) => [(.int p89), (.int p87), (.ref 192)]) (fun (p89 : Int32) => h51) ?_ (fun p89 => ?_)
                  · refine hp_sv0 ?_
                    refine hp_if_eq hm (at1 74 rfl) rfl (by exact trivial) (pc' := 345) rfl 90 rfl (tgt := 355) rfl (fun c90 => ?_) (fun c90 => ?_)
                    · refine hp_b hm (at1 75 rfl) (L' := [(0, (.ref 192)), (1, (.int x1)), (4, (.int p84))]) (st' := [(.int (rdI h51 192 106)), (.int p87), (.ref 192)]) rfl (by exact og_192) (pc' := 359) rfl ?_
                      exact hp_lf [1] rfl (fun _ e => e)
                    · refine hp_b hm (at1 76 rfl) (L' := [(0, (.ref 192)), (1, (.int x1)), (4, (.int p84))]) (st' := [(.int (rdI h51 192 105)), (.int p87), (.ref 192)]) rfl (by exact og_192) (pc' := 352) rfl ?_
                      refine hp_goto hm 89 rfl (tgt := 359) rfl ?_
                      exact hp_lf [1] rfl (fun _ e => e)
                  · refine hp_JZ 370 (fun (p91 : Int32) => [(1, (.int x1))]) (fun (p91 : Int32) => [(.int p91), (.int p89), (.int p87), (.ref 192)]) (fun (p91 : Int32) => h51) ?_ (fun p91 => ?_)
                    · refine hp_sv0 ?_
                      refine hp_ic_le hm (at1 77 rfl) rfl (by exact trivial) (pc' := 362) rfl 92 rfl (tgt := 369) rfl (fun c92 => ?_) (fun c92 => ?_)
                      · refine hp_b hm (at1 78 rfl) (L' := [(1, (.int x1))]) (st' := [(.int (0 : Int32)), (.int p89), (.int p87), (.ref 192)]) rfl (by exact trivial) (pc' := 370) rfl ?_
                        exact hp_lf [0] rfl (fun _ e => e)
                      · refine hp_b hm (at1 79 rfl) (L' := [(1, (.int x1))]) (st' := [(.int (1 : Int32)), (.int p89), (.int p87), (.ref 192)]) rfl (by exact trivial) (pc' := 366) rfl ?_
                        refine hp_goto hm 91 rfl (tgt := 370) rfl ?_
                        exact hp_lf [0] rfl (fun _ e => e)
                    · refine hp_JZ 381 (fun (p93 : Int32) => []) (fun (p93 : Int32) => [(.int p93), (.int p91), (.int p89), (.int p87), (.ref 192)]) (fun (p93 : Int32) => h51) ?_ (fun p93 => ?_)
                      · refine hp_sv0 ?_
                        refine hp_ic_ge hm (at1 80 rfl) rfl (by exact trivial) (pc' := 373) rfl 94 rfl (tgt := 380) rfl (fun c94 => ?_) (fun c94 => ?_)
                        · refine hp_b hm (at1 81 rfl) (L' := [(1, (.int x1))]) (st' := [(.int (0 : Int32)), (.int p91), (.int p89), (.int p87), (.ref 192)]) rfl (by exact trivial) (pc' := 381) rfl ?_
                          exact hp_lf [] rfl (fun _ e => e)
                        · refine hp_b hm (at1 82 rfl) (L' := [(1, (.int x1))]) (st' := [(.int (1 : Int32)), (.int p91), (.int p89), (.int p87), (.ref 192)]) rfl (by exact trivial) (pc' := 377) rfl ?_
                          refine hp_goto hm 93 rfl (tgt := 381) rfl ?_
                          exact hp_lf [] rfl (fun _ e => e)
                      · refine hp_cVS (M2 := M_Mo_setVectors) hm at0 (as := [(.int p87), (.int p89), (.int p91), (.int p93)]) (rest := []) (z := 192) rfl (by exact trivial) (pc' := 381) rfl 95 rfl (lw_g (lw_at lw_m10 94 rfl) rfl) y_Mo_setVectors rfl (d2 := 1) ⟨le_b rfl, pd_Mo_setVectors, le_b rfl⟩ (le_b rfl) og_192 (k_Mo_setVectors p87 p89 p91 p93 h51) (fun _ h52 => ?_)
                        exact hp_vr hm 78 rfl rfl (fun _ e => e)
      · refine hp_JZ 217 (fun (p97 : Int32) => [(1, (.int x1))]) (fun (p97 : Int32) => [(.int p97), (.ref 192)]) (fun (p97 : Int32) => h) ?_ (fun p97 => ?_)
        · refine hp_sv0 ?_
          refine hp_ic_ne hm (at1 83 rfl) rfl (by exact trivial) (pc' := 207) rfl 99 rfl (tgt := 214) rfl (fun c98 => ?_) (fun c98 => ?_)
          · refine hp_b hm (at1 84 rfl) (L' := [(0, (.ref 192)), (1, (.int x1))]) (st' := [(.int (16384 : Int32)), (.ref 192)]) rfl (by exact trivial) (pc' := 217) rfl ?_
            exact hp_lf [1] rfl (fun _ e => e)
          · refine hp_b hm (at1 85 rfl) (L' := [(0, (.ref 192)), (1, (.int x1))]) (st' := [(.int (0 : Int32)), (.ref 192)]) rfl (by exact trivial) (pc' := 211) rfl ?_
            refine hp_goto hm 98 rfl (tgt := 217) rfl ?_
            exact hp_lf [1] rfl (fun _ e => e)
        · refine hp_JZ 229 (fun (p99 : Int32) => []) (fun (p99 : Int32) => [(.int p99), (.int p97), (.ref 192)]) (fun (p99 : Int32) => h) ?_ (fun p99 => ?_)
          · refine hp_sv0 ?_
            refine hp_ic_ne hm (at1 86 rfl) rfl (by exact trivial) (pc' := 219) rfl 101 rfl (tgt := 228) rfl (fun c100 => ?_) (fun c100 => ?_)
            · refine hp_b hm (at1 87 rfl) (L' := [(1, (.int x1))]) (st' := [(.int (0 : Int32)), (.int p97), (.ref 192)]) rfl (by exact trivial) (pc' := 229) rfl ?_
              exact hp_lf [] rfl (fun _ e => e)
            · refine hp_b hm (at1 88 rfl) (L' := [(1, (.int x1))]) (st' := [(.int (16384 : Int32)), (.int p97), (.ref 192)]) rfl (by exact trivial) (pc' := 225) rfl ?_
              refine hp_goto hm 100 rfl (tgt := 229) rfl ?_
              exact hp_lf [] rfl (fun _ e => e)
          · refine hp_cVS (M2 := M_Mo_setVectors) hm (at1 89 rfl) (as := [(.int p97), (.int p99), (.int (1 : Int32)), (.int (0 : Int32))]) (rest := []) (z := 192) rfl (by exact trivial) (pc' := 231) rfl 102 rfl (lw_g (lw_at lw_m10 94 rfl) rfl) y_Mo_setVectors rfl (d2 := 1) ⟨le_b rfl, pd_Mo_setVectors, le_b rfl⟩ (le_b rfl) og_192 (k_Mo_setVectors p97 p99 (1 : Int32) (0 : Int32) h) (fun _ h53 => ?_)
            exact hp_vr hm 103 rfl rfl (fun _ e => e)
    · refine hp_JZ 186 (fun (p101 : Int32) => [(1, (.int x1))]) (fun (p101 : Int32) => [(.int p101), (.ref 192)]) (fun (p101 : Int32) => h) ?_ (fun p101 => ?_)
      · refine hp_sv0 ?_
        refine hp_ic_ne hm (at1 90 rfl) rfl (by exact trivial) (pc' := 176) rfl 105 rfl (tgt := 183) rfl (fun c102 => ?_) (fun c102 => ?_)
        · refine hp_b hm (at1 91 rfl) (L' := [(0, (.ref 192)), (1, (.int x1))]) (st' := [(.int (16384 : Int32)), (.ref 192)]) rfl (by exact trivial) (pc' := 186) rfl ?_
          exact hp_lf [1] rfl (fun _ e => e)
        · refine hp_b hm (at1 92 rfl) (L' := [(0, (.ref 192)), (1, (.int x1))]) (st' := [(.int (0 : Int32)), (.ref 192)]) rfl (by exact trivial) (pc' := 180) rfl ?_
          refine hp_goto hm 104 rfl (tgt := 186) rfl ?_
          exact hp_lf [1] rfl (fun _ e => e)
      · refine hp_JZ 198 (fun (p103 : Int32) => []) (fun (p103 : Int32) => [(.int p103), (.int p101), (.ref 192)]) (fun (p103 : Int32) => h) ?_ (fun p103 => ?_)
        · refine hp_sv0 ?_
          refine hp_ic_ne hm (at1 93 rfl) rfl (by exact trivial) (pc' := 188) rfl 107 rfl (tgt := 197) rfl (fun c104 => ?_) (fun c104 => ?_)
          · refine hp_b hm (at1 94 rfl) (L' := [(1, (.int x1))]) (st' := [(.int (0 : Int32)), (.int p101), (.ref 192)]) rfl (by exact trivial) (pc' := 198) rfl ?_
            exact hp_lf [] rfl (fun _ e => e)
          · refine hp_b hm (at1 95 rfl) (L' := [(1, (.int x1))]) (st' := [(.int (16384 : Int32)), (.int p101), (.ref 192)]) rfl (by exact trivial) (pc' := 194) rfl ?_
            refine hp_goto hm 106 rfl (tgt := 198) rfl ?_
            exact hp_lf [] rfl (fun _ e => e)
        · refine hp_cVS (M2 := M_Mo_setVectors) hm (at1 96 rfl) (as := [(.int p101), (.int p103), (.int (0 : Int32)), (.int (1 : Int32))]) (rest := []) (z := 192) rfl (by exact trivial) (pc' := 200) rfl 108 rfl (lw_g (lw_at lw_m10 94 rfl) rfl) y_Mo_setVectors rfl (d2 := 1) ⟨le_b rfl, pd_Mo_setVectors, le_b rfl⟩ (le_b rfl) og_192 (k_Mo_setVectors p101 p103 (0 : Int32) (1 : Int32) h) (fun _ h54 => ?_)
          exact hp_vr hm 109 rfl rfl (fun _ e => e)
  · refine hp_JZ 156 (fun (p105 : Int32) => [(1, (.int x1))]) (fun (p105 : Int32) => [(.int p105), (.ref 192)]) (fun (p105 : Int32) => h) ?_ (fun p105 => ?_)
    · refine hp_sv0 ?_
      refine hp_if_ne hm (at1 97 rfl) rfl (by exact trivial) (pc' := 146) rfl 111 rfl (tgt := 153) rfl (fun c106 => ?_) (fun c106 => ?_)
      · refine hp_b hm (at1 98 rfl) (L' := [(0, (.ref 192)), (1, (.int x1))]) (st' := [(.int (16384 : Int32)), (.ref 192)]) rfl (by exact trivial) (pc' := 156) rfl ?_
        exact hp_lf [1] rfl (fun _ e => e)
      · refine hp_b hm (at1 99 rfl) (L' := [(0, (.ref 192)), (1, (.int x1))]) (st' := [(.int (0 : Int32)), (.ref 192)]) rfl (by exact trivial) (pc' := 150) rfl ?_
        refine hp_goto hm 110 rfl (tgt := 156) rfl ?_
        exact hp_lf [1] rfl (fun _ e => e)
    · refine hp_JZ 167 (fun (p107 : Int32) => []) (fun (p107 : Int32) => [(.int p107), (.int p105), (.ref 192)]) (fun (p107 : Int32) => h) ?_ (fun p107 => ?_)
      · refine hp_sv0 ?_
        refine hp_if_ne hm (at1 100 rfl) rfl (by exact trivial) (pc' := 157) rfl 113 rfl (tgt := 166) rfl (fun c108 => ?_) (fun c108 => ?_)
        · refine hp_b hm (at1 101 rfl) (L' := [(1, (.int x1))]) (st' := [(.int (0 : Int32)), (.int p105), (.ref 192)]) rfl (by exact trivial) (pc' := 167) rfl ?_
          exact hp_lf [] rfl (fun _ e => e)
        · refine hp_b hm (at1 102 rfl) (L' := [(1, (.int x1))]) (st' := [(.int (16384 : Int32)), (.int p105), (.ref 192)]) rfl (by exact trivial) (pc' := 163) rfl ?_
          refine hp_goto hm 112 rfl (tgt := 167) rfl ?_
          exact hp_lf [] rfl (fun _ e => e)
      · refine hp_cVS (M2 := M_Mo_setVectors) hm (at1 103 rfl) (as := [(.int p105), (.int p107), (.int (1 : Int32)), (.int (1 : Int32))]) (rest := []) (z := 192) rfl (by exact trivial) (pc' := 169) rfl 114 rfl (lw_g (lw_at lw_m10 94 rfl) rfl) y_Mo_setVectors rfl (d2 := 1) ⟨le_b rfl, pd_Mo_setVectors, le_b rfl⟩ (le_b rfl) og_192 (k_Mo_setVectors p105 p107 (1 : Int32) (1 : Int32) h) (fun _ h55 => ?_)
        exact hp_vr hm 115 rfl rfl (fun _ e => e)
/-! HintHouseModel.follow([I[IIII)V -/
def M_Mo_follow : hM := (11, ⟨"HintHouseModel", "follow", "([I[IIII)V"⟩, prog_13_method_82_code, 7, (Option.none : Option Jvm.ClassFile.FieldType), [], [(0, [(.aload_n 0, 1, 0, 0, 0, .null), (.iload 4, 2, 0, 0, 0, .null), (.iaload, 1, 0, 0, 0, .null), (.aload_n 0, 1, 0, 0, 0, .null), (.iload_n 3, 1, 0, 0, 0, .null), (.iaload, 1, 0, 0, 0, .null)]), (15, [(.iload_n 3, 1, 0, 0, 0, .null)]), (10, [(.iload 4, 2, 0, 0, 0, .null)]), (16, [(.istore 5, 2, 0, 0, 0, .null), (.iload 5, 2, 0, 0, 0, .null), (.iload_n 3, 1, 0, 0, 0, .null)]), (29, [(.iload_n 3, 1, 0, 0, 0, .null)]), (24, [(.iload 4, 2, 0, 0, 0, .null)]), (30, [(.istore 6, 2, 0, 0, 0, .null), (.aload_n 0, 1, 0, 0, 0, .null), (.iload_n 2, 1, 0, 0, 0, .null), (.iaload, 1, 0, 0, 0, .null), (.aload_n 0, 1, 0, 0, 0, .null), (.iload 5, 2, 0, 0, 0, .null), (.iaload, 1, 0, 0, 0, .null)]), (61, [(.aload_n 0, 1, 0, 0, 0, .null), (.iload_n 2, 1, 0, 0, 0, .null), (.iaload, 1, 0, 0, 0, .null), (.aload_n 0, 1, 0, 0, 0, .null), (.iload 6, 2, 0, 0, 0, .null), (.iaload, 1, 0, 0, 0, .null)]), (90, [(.aload_n 1, 1, 0, 0, 0, .null), (.iload_n 2, 1, 0, 0, 0, .null), (.aload_n 1, 1, 0, 0, 0, .null), (.iload 5, 2, 0, 0, 0, .null), (.iaload, 1, 0, 0, 0, .null), (.i2l, 1, 0, 0, 0, .null), (.aload_n 0, 1, 0, 0, 0, .null), (.iload_n 2, 1, 0, 0, 0, .null), (.iaload, 1, 0, 0, 0, .null), (.aload_n 0, 1, 0, 0, 0, .null), (.iload 5, 2, 0, 0, 0, .null), (.iaload, 1, 0, 0, 0, .null), (.isub, 1, 0, 0, 0, .null), (.i2l, 1, 0, 0, 0, .null), (.aload_n 1, 1, 0, 0, 0, .null), (.iload 6, 2, 0, 0, 0, .null), (.iaload, 1, 0, 0, 0, .null), (.aload_n 1, 1, 0, 0, 0, .null), (.iload 5, 2, 0, 0, 0, .null), (.iaload, 1, 0, 0, 0, .null), (.isub, 1, 0, 0, 0, .null), (.i2l, 1, 0, 0, 0, .null), (.lmul, 1, 0, 0, 0, .null), (.aload_n 0, 1, 0, 0, 0, .null), (.iload 6, 2, 0, 0, 0, .null), (.iaload, 1, 0, 0, 0, .null), (.aload_n 0, 1, 0, 0, 0, .null), (.iload 5, 2, 0, 0, 0, .null), (.iaload, 1, 0, 0, 0, .null), (.isub, 1, 0, 0, 0, .null), (.i2l, 1, 0, 0, 0, .null)]), (130, [(.ladd, 1, 0, 0, 0, .null), (.l2i, 1, 0, 0, 0, .null), (.iastore, 1, 0, 0, 0, .null)]), (71, [(.aload_n 1, 1, 0, 0, 0, .null), (.iload_n 2, 1, 0, 0, 0, .null), (.aload_n 0, 1, 0, 0, 0, .null), (.iload_n 2, 1, 0, 0, 0, .null), (.iaload, 1, 0, 0, 0, .null), (.aload_n 1, 1, 0, 0, 0, .null), (.iload 6, 2, 0, 0, 0, .null), (.iaload, 1, 0, 0, 0, .null), (.aload_n 0, 1, 0, 0, 0, .null), (.iload 6, 2, 0, 0, 0, .null), (.iaload, 1, 0, 0, 0, .null), (.isub, 1, 0, 0, 0, .null), (.iadd, 1, 0, 0, 0, .null), (.iastore, 1, 0, 0, 0, .null)]), (42, [(.aload_n 1, 1, 0, 0, 0, .null), (.iload_n 2, 1, 0, 0, 0, .null), (.aload_n 0, 1, 0, 0, 0, .null), (.iload_n 2, 1, 0, 0, 0, .null), (.iaload, 1, 0, 0, 0, .null), (.aload_n 1, 1, 0, 0, 0, .null), (.iload 5, 2, 0, 0, 0, .null), (.iaload, 1, 0, 0, 0, .null), (.aload_n 0, 1, 0, 0, 0, .null), (.iload 5, 2, 0, 0, 0, .null), (.iaload, 1, 0, 0, 0, .null), (.isub, 1, 0, 0, 0, .null), (.iadd, 1, 0, 0, 0, .null), (.iastore, 1, 0, 0, 0, .null)])], [(12, .goto 4, 3), (7, .if_icmp .ge 8, 3), (26, .goto 4, 3), (21, .if_icmp .ne 8, 3), (127, .invokestatic 194, 3), (133, .return_, 1), (87, .goto 46, 3), (68, .if_icmp .lt 22, 3), (58, .goto 75, 3), (39, .if_icmp .gt 22, 3)])
set_option maxRecDepth 100000 in
theorem m_Mo_follow : hx_mok M_Mo_follow = true := by decide +kernel
theorem pd_Mo_follow : (parseMethodDescriptor M_Mo_follow.2.1.desc).map (fun q => q.parameters.length) = some 5 := by decide +kernel
theorem y_Mo_follow : hx_okS M_Mo_follow := ⟨⟨lw_g (lw_at lw_m10 166 rfl) rfl, lw_g (lw_at lw_m10 165 rfl) rfl, lw_g (lw_at lw_m1 12 rfl) rfl, by decide, by decide⟩, rfl, by decide, plainFor_of_name (by decide), rfl⟩
noncomputable def f_Mo_follow (x1 : Nat) (x2 : Nat) (x3 : Int32) (x4 : Int32) (x5 : Int32) (h : hH) : Option (Unit × hH) :=
  gd (vp_in x5 (ln x1) ∧ vp_in x4 (ln x1)) <|
  lz (A := Int32) (if (rdI h x1 (Int32.toNatClampNeg x4)) ≤ (rdI h x1 (Int32.toNatClampNeg x5)) then x4 else x5) fun p2 =>
  lz (A := Int32) (if p2 = x4 then x5 else x4) fun p4 =>
  gd (vp_in x3 (ln x1) ∧ vp_in p2 (ln x1)) <|
  if (rdI h x1 (Int32.toNatClampNeg p2)) < (rdI h x1 (Int32.toNatClampNeg x3)) then (
    gd (vp_in x3 (ln x1) ∧ vp_in p4 (ln x1)) <|
    if (rdI h x1 (Int32.toNatClampNeg x3)) < (rdI h x1 (Int32.toNatClampNeg p4)) then (
      gd (vp_in p2 (ln x2) ∧ vp_in x3 (ln x1) ∧ vp_in p2 (ln x1) ∧ vp_in p4 (ln x2) ∧ vp_in p4 (ln x1)) <|
      bP (f_Mo_nearest ((Int32.toInt64 ((rdI h x1 (Int32.toNatClampNeg x3)) - (rdI h x1 (Int32.toNatClampNeg p2)))) * (Int32.toInt64 ((rdI h x2 (Int32.toNatClampNeg p4)) - (rdI h x2 (Int32.toNatClampNeg p2))))) (Int32.toInt64 ((rdI h x1 (Int32.toNatClampNeg p4)) - (rdI h x1 (Int32.toNatClampNeg p2))))) fun a9 =>
      gd (vp_in x3 (ln x2)) <|
      lz (wrI h x2 (Int32.toNatClampNeg x3) (Int64.toInt32 ((Int32.toInt64 (rdI h x2 (Int32.toNatClampNeg p2))) + a9))) fun h1 =>
      some ((), h1)
    ) else (
      gd (vp_in x3 (ln x1) ∧ vp_in p4 (ln x2) ∧ vp_in p4 (ln x1) ∧ vp_in x3 (ln x2)) <|
      lz (wrI h x2 (Int32.toNatClampNeg x3) ((rdI h x1 (Int32.toNatClampNeg x3)) + ((rdI h x2 (Int32.toNatClampNeg p4)) - (rdI h x1 (Int32.toNatClampNeg p4))))) fun h2 =>
      some ((), h2)
    )
  ) else (
    gd (vp_in x3 (ln x1) ∧ vp_in p2 (ln x2) ∧ vp_in p2 (ln x1) ∧ vp_in x3 (ln x2)) <|
    lz (wrI h x2 (Int32.toNatClampNeg x3) ((rdI h x1 (Int32.toNatClampNeg x3)) + ((rdI h x2 (Int32.toNatClampNeg p2)) - (rdI h x1 (Int32.toNatClampNeg p2))))) fun h3 =>
    some ((), h3)
  )
set_option maxRecDepth 20000 in
theorem k_Mo_follow (x1 : Nat) (x2 : Nat) (x3 : Int32) (x4 : Int32) (x5 : Int32) (h : hH) (hx1 : isA 100 x1) (hx2 : isA 100 x2) : hx_kS S0 M_Mo_follow 3 NT [(.ref x1), (.ref x2), (.int x3), (.int x4), (.int x5)] h (f_Mo_follow x1 x2 x3 x4 x5 h) cvU := by
  have hm := m_Mo_follow
  show hx_P S0 M_Mo_follow 3 0 [(0, (.ref x1)), (1, (.ref x2)), (2, (.int x3)), (3, (.int x4)), (4, (.int x5))] [] NT h (f_Mo_follow x1 x2 x3 x4 x5 h) (hx_Rc cvU NT)
  unfold f_Mo_follow
  refine hp_G hm (at1 0 rfl) (L' := [(0, (.ref x1)), (1, (.ref x2)), (2, (.int x3)), (3, (.int x4)), (4, (.int x5))]) (st' := [(.int (rdI h x1 (Int32.toNatClampNeg x4))), (.int (rdI h x1 (Int32.toNatClampNeg x5)))]) rfl (fun hP => (by exact ⟨⟨hx1, hP.1⟩, ⟨hx1, hP.2⟩⟩)) (pc' := 7) rfl (fun q1 => ?_)
  refine hp_JZ 16 (fun (p2 : Int32) => [(0, (.ref x1)), (1, (.ref x2)), (2, (.int x3)), (3, (.int x4)), (4, (.int x5))]) (fun (p2 : Int32) => [(.int p2)]) (fun (p2 : Int32) => h) ?_ (fun p2 => ?_)
  · refine hp_sv0 ?_
    refine hp_ic_ge hm at0 rfl (by exact trivial) (pc' := 7) rfl 1 rfl (tgt := 15) rfl (fun c3 => ?_) (fun c3 => ?_)
    · refine hp_b hm (at1 1 rfl) (L' := [(0, (.ref x1)), (1, (.ref x2)), (2, (.int x3)), (3, (.int x4)), (4, (.int x5))]) (st' := [(.int x4)]) rfl (by exact trivial) (pc' := 16) rfl ?_
      exact hp_lf [0, 1, 2, 3, 4] rfl (fun _ e => e)
    · refine hp_b hm (at1 2 rfl) (L' := [(0, (.ref x1)), (1, (.ref x2)), (2, (.int x3)), (3, (.int x4)), (4, (.int x5))]) (st' := [(.int x5)]) rfl (by exact trivial) (pc' := 12) rfl ?_
      refine hp_goto hm 0 rfl (tgt := 16) rfl ?_
      exact hp_lf [0, 1, 2, 3, 4] rfl (fun _ e => e)
  · refine hp_b hm (at1 3 rfl) (L' := [(5, (.int p2)), (0, (.ref x1)), (1, (.ref x2)), (2, (.int x3)), (3, (.int x4)), (4, (.int x5))]) (st' := [(.int x4), (.int p2)]) rfl (by exact trivial) (pc' := 21) rfl ?_
    refine hp_JZ 30 (fun (p4 : Int32) => [(0, (.ref x1)), (1, (.ref x2)), (2, (.int x3)), (5, (.int p2))]) (fun (p4 : Int32) => [(.int p4)]) (fun (p4 : Int32) => h) ?_ (fun p4 => ?_)
    · refine hp_sv0 ?_
      refine hp_ic_ne hm at0 rfl (by exact trivial) (pc' := 21) rfl 3 rfl (tgt := 29) rfl (fun c5 => ?_) (fun c5 => ?_)
      · refine hp_b hm (at1 4 rfl) (L' := [(5, (.int p2)), (0, (.ref x1)), (1, (.ref x2)), (2, (.int x3)), (3, (.int x4)), (4, (.int x5))]) (st' := [(.int x4)]) rfl (by exact trivial) (pc' := 30) rfl ?_
        exact hp_lf [1, 2, 3, 0] rfl (fun _ e => e)
      · refine hp_b hm (at1 5 rfl) (L' := [(5, (.int p2)), (0, (.ref x1)), (1, (.ref x2)), (2, (.int x3)), (3, (.int x4)), (4, (.int x5))]) (st' := [(.int x5)]) rfl (by exact trivial) (pc' := 26) rfl ?_
        refine hp_goto hm 2 rfl (tgt := 30) rfl ?_
        exact hp_lf [1, 2, 3, 0] rfl (fun _ e => e)
    · refine hp_G hm (at1 6 rfl) (L' := [(6, (.int p4)), (0, (.ref x1)), (1, (.ref x2)), (2, (.int x3)), (5, (.int p2))]) (st' := [(.int (rdI h x1 (Int32.toNatClampNeg p2))), (.int (rdI h x1 (Int32.toNatClampNeg x3)))]) rfl (fun hP => (by exact ⟨⟨hx1, hP.1⟩, ⟨hx1, hP.2⟩⟩)) (pc' := 39) rfl (fun q6 => ?_)
      refine hp_ic_gt hm at0 rfl (by exact trivial) (pc' := 39) rfl 9 rfl (tgt := 61) rfl (fun c14 => ?_) (fun c14 => ?_)
      · refine hp_G hm (at1 7 rfl) (L' := [(6, (.int p4)), (0, (.ref x1)), (1, (.ref x2)), (2, (.int x3)), (5, (.int p2))]) (st' := [(.int (rdI h x1 (Int32.toNatClampNeg p4))), (.int (rdI h x1 (Int32.toNatClampNeg x3)))]) rfl (fun hP => (by exact ⟨⟨hx1, hP.1⟩, ⟨hx1, hP.2⟩⟩)) (pc' := 68) rfl (fun q7 => ?_)
        refine hp_ic_lt hm at0 rfl (by exact trivial) (pc' := 68) rfl 7 rfl (tgt := 90) rfl (fun c12 => ?_) (fun c12 => ?_)
        · refine hp_G hm (at1 8 rfl) (L' := [(6, (.int p4)), (0, (.ref x1)), (1, (.ref x2)), (2, (.int x3)), (5, (.int p2))]) (st' := [(.long (Int32.toInt64 ((rdI h x1 (Int32.toNatClampNeg p4)) - (rdI h x1 (Int32.toNatClampNeg p2))))), (.long ((Int32.toInt64 ((rdI h x1 (Int32.toNatClampNeg x3)) - (rdI h x1 (Int32.toNatClampNeg p2)))) * (Int32.toInt64 ((rdI h x2 (Int32.toNatClampNeg p4)) - (rdI h x2 (Int32.toNatClampNeg p2)))))), (.long (Int32.toInt64 (rdI h x2 (Int32.toNatClampNeg p2)))), (.int x3), (.ref x2)]) rfl (fun hP => (by exact ⟨⟨⟨⟨⟨⟨⟨hx2, hP.1⟩, ⟨hx1, hP.2.1⟩⟩, ⟨hx1, hP.2.2.1⟩⟩, ⟨hx2, hP.2.2.2.1⟩⟩, ⟨hx2, hP.1⟩⟩, ⟨hx1, hP.2.2.2.2⟩⟩, ⟨hx1, hP.2.2.1⟩⟩)) (pc' := 127) rfl (fun q8 => ?_)
          refine hp_cSP (M2 := M_Mo_nearest) hm at0 (as := [(.long ((Int32.toInt64 ((rdI h x1 (Int32.toNatClampNeg x3)) - (rdI h x1 (Int32.toNatClampNeg p2)))) * (Int32.toInt64 ((rdI h x2 (Int32.toNatClampNeg p4)) - (rdI h x2 (Int32.toNatClampNeg p2)))))), (.long (Int32.toInt64 ((rdI h x1 (Int32.toNatClampNeg p4)) - (rdI h x1 (Int32.toNatClampNeg p2)))))]) (rest := [(.long (Int32.toInt64 (rdI h x2 (Int32.toNatClampNeg p2)))), (.int x3), (.ref x2)]) rfl (by exact trivial) (pc' := 127) rfl 4 rfl (lw_g (lw_at lw_m9 220 rfl) rfl) y_Mo_nearest rfl (d2 := 2) ⟨le_b rfl, pd_Mo_nearest, le_b rfl⟩ (le_b rfl) (k_Mo_nearest ((Int32.toInt64 ((rdI h x1 (Int32.toNatClampNeg x3)) - (rdI h x1 (Int32.toNatClampNeg p2)))) * (Int32.toInt64 ((rdI h x2 (Int32.toNatClampNeg p4)) - (rdI h x2 (Int32.toNatClampNeg p2))))) (Int32.toInt64 ((rdI h x1 (Int32.toNatClampNeg p4)) - (rdI h x1 (Int32.toNatClampNeg p2)))) h) (fun a9 => ?_)
          refine hp_GW hm (at1 9 rfl) (L' := [(6, (.int p4)), (0, (.ref x1)), (1, (.ref x2)), (2, (.int x3)), (5, (.int p2))]) rfl (fun hP => (by exact ⟨hx2, hP⟩)) (pc' := 133) rfl (fun q10 h1 => ?_)
          exact hp_vr hm 5 rfl rfl (fun _ e => e)
        · refine hp_GW hm (at1 10 rfl) (L' := [(6, (.int p4)), (0, (.ref x1)), (1, (.ref x2)), (2, (.int x3)), (5, (.int p2))]) rfl (fun hP => (by exact ⟨⟨⟨⟨hx1, hP.1⟩, ⟨hx2, hP.2.1⟩⟩, ⟨hx1, hP.2.2.1⟩⟩, ⟨hx2, hP.2.2.2⟩⟩)) (pc' := 87) rfl (fun q11 h2 => ?_)
          refine hp_goto hm 6 rfl (tgt := 133) rfl ?_
          exact hp_vr hm 5 rfl rfl (fun _ e => e)
      · refine hp_GW hm (at1 11 rfl) (L' := [(6, (.int p4)), (0, (.ref x1)), (1, (.ref x2)), (2, (.int x3)), (5, (.int p2))]) rfl (fun hP => (by exact ⟨⟨⟨⟨hx1, hP.1⟩, ⟨hx2, hP.2.1⟩⟩, ⟨hx1, hP.2.2.1⟩⟩, ⟨hx2, hP.2.2.2⟩⟩)) (pc' := 58) rfl (fun q13 h3 => ?_)
        refine hp_goto hm 8 rfl (tgt := 133) rfl ?_
        exact hp_vr hm 5 rfl rfl (fun _ e => e)
/-! HintHouseModel.followAll([I[II)V -/
def M_Mo_followAll : hM := (11, ⟨"HintHouseModel", "followAll", "([I[II)V"⟩, prog_13_method_81_code, 11, (Option.none : Option Jvm.ClassFile.FieldType), [], [(0, [(.iconst 0, 1, 0, 0, 0, (.int (0 : Int32))), (.istore 4, 2, 0, 0, 0, .null), (.iconst 0, 1, 0, 0, 0, (.int (0 : Int32))), (.istore 5, 2, 0, 0, 0, .null)]), (6, [(.iload 5, 2, 0, 0, 0, .null), (.aload_n 0, 1, 0, 0, 0, .null), (.getfield 706, 3, 11, 53, 0, .null)]), (15, [(.aload_n 0, 1, 0, 0, 0, .null), (.getfield 88, 3, 11, 54, 4, .null), (.iload 5, 2, 0, 0, 0, .null), (.iaload, 1, 0, 0, 0, .null), (.istore 6, 2, 0, 0, 0, .null)]), (24, [(.iconst 0, 1, 0, 0, 0, (.int (0 : Int32))), (.istore 7, 2, 0, 0, 0, .null), (.iload 4, 2, 0, 0, 0, .null), (.istore 8, 2, 0, 0, 0, .null)]), (31, [(.iload 8, 2, 0, 0, 0, .null), (.iload 6, 2, 0, 0, 0, .null)]), (38, [(.iload 7, 2, 0, 0, 0, .null), (.aload_n 0, 1, 0, 0, 0, .null), (.getfield 82, 3, 11, 50, 4, .null), (.bipush 102, 2, 0, 0, 0, (.int (102 : Int32))), (.iload 8, 2, 0, 0, 0, .null), (.iadd, 1, 0, 0, 0, .null), (.iaload, 1, 0, 0, 0, .null), (.iload_n 3, 1, 0, 0, 0, .null), (.iand, 1, 0, 0, 0, .null)]), (59, [(.iconst 0, 1, 0, 0, 0, (.int (0 : Int32)))]), (55, [(.iconst 1, 1, 0, 0, 0, (.int (1 : Int32)))]), (60, [(.iadd, 1, 0, 0, 0, .null), (.istore 7, 2, 0, 0, 0, .null)]), (63, [(.iinc 8 1, 3, 0, 0, 0, (.int (1 : Int32)))]), (69, [(.iload 4, 2, 0, 0, 0, .null), (.istore 8, 2, 0, 0, 0, .null)]), (73, [(.iload 8, 2, 0, 0, 0, .null), (.iload 6, 2, 0, 0, 0, .null)]), (80, [(.iload 7, 2, 0, 0, 0, .null)]), (85, [(.aload_n 0, 1, 0, 0, 0, .null), (.getfield 82, 3, 11, 50, 4, .null), (.bipush 102, 2, 0, 0, 0, (.int (102 : Int32))), (.iload 8, 2, 0, 0, 0, .null), (.iadd, 1, 0, 0, 0, .null), (.iaload, 1, 0, 0, 0, .null), (.iload_n 3, 1, 0, 0, 0, .null), (.iand, 1, 0, 0, 0, .null)]), (100, [(.iload 8, 2, 0, 0, 0, .null), (.istore 9, 2, 0, 0, 0, .null), (.iload 8, 2, 0, 0, 0, .null), (.istore 10, 2, 0, 0, 0, .null)]), (108, [(.iload 9, 2, 0, 0, 0, .null), (.iload 4, 2, 0, 0, 0, .null)]), (120, [(.iload 9, 2, 0, 0, 0, .null), (.iconst 1, 1, 0, 0, 0, (.int (1 : Int32))), (.isub, 1, 0, 0, 0, .null)]), (115, [(.iload 6, 2, 0, 0, 0, .null)]), (124, [(.istore 9, 2, 0, 0, 0, .null), (.aload_n 0, 1, 0, 0, 0, .null), (.getfield 82, 3, 11, 50, 4, .null), (.bipush 102, 2, 0, 0, 0, (.int (102 : Int32))), (.iload 9, 2, 0, 0, 0, .null), (.iadd, 1, 0, 0, 0, .null), (.iaload, 1, 0, 0, 0, .null), (.iload_n 3, 1, 0, 0, 0, .null), (.iand, 1, 0, 0, 0, .null)]), (141, [(.iload 10, 2, 0, 0, 0, .null), (.iload 6, 2, 0, 0, 0, .null)]), (153, [(.iload 10, 2, 0, 0, 0, .null), (.iconst 1, 1, 0, 0, 0, (.int (1 : Int32))), (.iadd, 1, 0, 0, 0, .null)]), (148, [(.iload 4, 2, 0, 0, 0, .null)]), (157, [(.istore 10, 2, 0, 0, 0, .null), (.aload_n 0, 1, 0, 0, 0, .null), (.getfield 82, 3, 11, 50, 4, .null), (.bipush 102, 2, 0, 0, 0, (.int (102 : Int32))), (.iload 10, 2, 0, 0, 0, .null), (.iadd, 1, 0, 0, 0, .null), (.iaload, 1, 0, 0, 0, .null), (.iload_n 3, 1, 0, 0, 0, .null), (.iand, 1, 0, 0, 0, .null)]), (174, [(.aload_n 1, 1, 0, 0, 0, .null), (.aload_n 2, 1, 0, 0, 0, .null), (.bipush 102, 2, 0, 0, 0, (.int (102 : Int32))), (.iload 8, 2, 0, 0, 0, .null), (.iadd, 1, 0, 0, 0, .null), (.bipush 102, 2, 0, 0, 0, (.int (102 : Int32))), (.iload 9, 2, 0, 0, 0, .null), (.iadd, 1, 0, 0, 0, .null), (.bipush 102, 2, 0, 0, 0, (.int (102 : Int32))), (.iload 10, 2, 0, 0, 0, .null), (.iadd, 1, 0, 0, 0, .null)]), (194, [(.iinc 8 1, 3, 0, 0, 0, (.int (1 : Int32)))]), (200, [(.iload 6, 2, 0, 0, 0, .null), (.iconst 1, 1, 0, 0, 0, (.int (1 : Int32))), (.iadd, 1, 0, 0, 0, .null), (.istore 4, 2, 0, 0, 0, .null)]), (206, [(.iinc 5 1, 3, 0, 0, 0, (.int (1 : Int32)))])], [(56, .goto 4, 3), (52, .ifCond .eq 7, 3), (66, .goto (-35), 3), (35, .if_icmp .gt 34, 3), (82, .ifCond .le 118, 3), (77, .if_icmp .gt 123, 3), (117, .goto 7, 3), (112, .if_icmp .ne 8, 3), (138, .ifCond .eq (-30), 3), (150, .goto 7, 3), (145, .if_icmp .ne 8, 3), (171, .ifCond .eq (-30), 3), (191, .invokestatic 709, 3), (97, .ifCond .ne 97, 3), (197, .goto (-124), 3), (209, .goto (-203), 3), (12, .if_icmp .ge 200, 3), (212, .return_, 1)])
set_option maxRecDepth 100000 in
theorem m_Mo_followAll : hx_mok M_Mo_followAll = true := by decide +kernel
theorem pd_Mo_followAll : (parseMethodDescriptor M_Mo_followAll.2.1.desc).map (fun q => q.parameters.length) = some 3 := by decide +kernel
theorem y_Mo_followAll : hx_okV M_Mo_followAll := ⟨⟨lw_g (lw_at lw_m10 163 rfl) rfl, lw_g (lw_at lw_m10 162 rfl) rfl, qs168, lw_g (lw_at lw_m1 12 rfl) rfl, rfl, by decide, by decide, by decide⟩, rfl, by decide, plainFor_of_name (by decide)⟩
noncomputable def f_Mo_followAll (x1 : Nat) (x2 : Nat) (x3 : Int32) (h : hH) : Option (Unit × hH) :=
  bP (A := hH) (
    wh (A := (Int32 × Int32 × hH)) (B := hH) (fun p1 =>
        if (rdI p1.2.2 192 53) ≤ p1.2.1 then (
          some (.inr p1.2.2)
        ) else (
          gd (vp_in p1.2.1 20) <|
          lz (A := Int32) (rdI p1.2.2 218 (Int32.toNatClampNeg p1.2.1)) fun v3 =>
          bP (A := Int32) (
            wh (A := (Int32 × Int32)) (B := Int32) (fun p5 =>
                if v3 < p5.2 then (
                  some (.inr p5.1)
                ) else (
                  gd (vp_in ((102 : Int32) + p5.2) 204) <|
                  lz (A := Int32) (if ((rdI p1.2.2 216 (Int32.toNatClampNeg ((102 : Int32) + p5.2))) &&& x3) = 0 then (0 : Int32) else (1 : Int32)) fun p8 =>
                  lz (A := Int32) (p5.1 + p8) fun v10 =>
                  lz (A := Int32) (p5.2 + (1 : Int32)) fun v11 =>
                  some (.inl (v10, v11))
                )
            ) ((0 : Int32), p1.1)
          ) fun p6 =>
          bP (A := hH) (
            wh (A := (Int32 × hH)) (B := hH) (fun p13 =>
                if (v3 < p13.1 ∨ p6 ≤ 0) then (
                  some (.inr p13.2)
                ) else (
                  gd (vp_in ((102 : Int32) + p13.1) 204) <|
                  bP (A := hH) (
                    if ((rdI p13.2 216 (Int32.toNatClampNeg ((102 : Int32) + p13.1))) &&& x3) = 0 then (
                      bP (A := Int32) (
                        wh (A := Int32) (B := Int32) (fun p22 =>
                            lz (A := Int32) (if p22 = p1.1 then v3 else (p22 - (1 : Int32))) fun p24 =>
                            gd (vp_in ((102 : Int32) + p24) 204) <|
                            if ((rdI p13.2 216 (Int32.toNatClampNeg ((102 : Int32) + p24))) &&& x3) = 0 then (
                              some (.inl p24)
                            ) else (
                              some (.inr p24)
                            )
                        ) p13.1
                      ) fun p23 =>
                      bP (A := Int32) (
                        wh (A := Int32) (B := Int32) (fun p28 =>
                            lz (A := Int32) (if p28 = v3 then p1.1 else (p28 + (1 : Int32))) fun p30 =>
                            gd (vp_in ((102 : Int32) + p30) 204) <|
                            if ((rdI p13.2 216 (Int32.toNatClampNeg ((102 : Int32) + p30))) &&& x3) = 0 then (
                              some (.inl p30)
                            ) else (
                              some (.inr p30)
                            )
                        ) p13.1
                      ) fun p29 =>
                      bS (f_Mo_follow x1 x2 ((102 : Int32) + p13.1) ((102 : Int32) + p23) ((102 : Int32) + p29) p13.2) fun _ h1 =>
                      some h1
                    ) else (
                      some p13.2
                    )
                  ) fun p21 =>
                  lz (A := Int32) (p13.1 + (1 : Int32)) fun v35 =>
                  some (.inl (v35, p21))
                )
            ) (p1.1, p1.2.2)
          ) fun p14 =>
          lz (A := Int32) (v3 + (1 : Int32)) fun v36 =>
          lz (A := Int32) (p1.2.1 + (1 : Int32)) fun v37 =>
          some (.inl (v36, v37, p14))
        )
    ) ((0 : Int32), (0 : Int32), h)
  ) fun p2 =>
  some ((), p2)
set_option maxRecDepth 20000 in
theorem k_Mo_followAll (x1 : Nat) (x2 : Nat) (x3 : Int32) (h : hH) (hx1 : isA 100 x1) (hx2 : isA 100 x2) : hx_kS S0 M_Mo_followAll 4 NT [(.ref 192), (.ref x1), (.ref x2), (.int x3)] h (f_Mo_followAll x1 x2 x3 h) cvU := by
  have hm := m_Mo_followAll
  show hx_P S0 M_Mo_followAll 4 0 [(0, (.ref 192)), (1, (.ref x1)), (2, (.ref x2)), (3, (.int x3))] [] NT h (f_Mo_followAll x1 x2 x3 h) (hx_Rc cvU NT)
  unfold f_Mo_followAll
  refine hp_b hm (at1 0 rfl) (L' := [(5, (.int (0 : Int32))), (4, (.int (0 : Int32))), (0, (.ref 192)), (1, (.ref x1)), (2, (.ref x2)), (3, (.int x3))]) (st' := []) rfl (by exact trivial) (pc' := 6) rfl ?_
  refine hp_J 212 (fun (p2 : hH) => []) (fun (p2 : hH) => []) (fun (p2 : hH) => p2) ?_ (fun p2 => ?_)
  · refine hp_s [2, 3, 4, 5, 1, 0] rfl (L' := [(0, (.ref 192)), (1, (.ref x1)), (2, (.ref x2)), (3, (.int x3)), (4, (.int (0 : Int32))), (5, (.int (0 : Int32)))]) ?_
    refine hp_wh (fun (p1 : (Int32 × Int32 × hH)) => [(0, (.ref 192)), (1, (.ref x1)), (2, (.ref x2)), (3, (.int x3)), (4, (.int p1.1)), (5, (.int p1.2.1))]) [] (fun (p1 : (Int32 × Int32 × hH)) => p1.2.2) (fun p1 => ?_) ((0 : Int32), (0 : Int32), h)
    refine hp_ic_ge hm (at1 1 rfl) rfl (by exact og_192) (pc' := 12) rfl 16 rfl (tgt := 212) rfl (fun c38 => ?_) (fun c38 => ?_)
    · exact hp_lf [] rfl (fun _ e => e)
    · refine hp_GZ hm (at1 2 rfl) (fun (v3 : Int32) => [(6, (.int v3)), (0, (.ref 192)), (1, (.ref x1)), (2, (.ref x2)), (3, (.int x3)), (4, (.int p1.1)), (5, (.int p1.2.1))]) (fun (v3 : Int32) => []) rfl (fun hP => (by exact ⟨og_192, ⟨og_218, hP⟩⟩)) (pc' := 24) rfl (fun q4 v3 => ?_)
      refine hp_b hm (at1 3 rfl) (L' := [(8, (.int p1.1)), (7, (.int (0 : Int32))), (6, (.int v3)), (0, (.ref 192)), (1, (.ref x1)), (2, (.ref x2)), (3, (.int x3)), (4, (.int p1.1)), (5, (.int p1.2.1))]) (st' := []) rfl (by exact trivial) (pc' := 31) rfl ?_
      refine hp_J 69 (fun (p6 : Int32) => [(0, (.ref 192)), (1, (.ref x1)), (2, (.ref x2)), (3, (.int x3)), (4, (.int p1.1)), (5, (.int p1.2.1)), (6, (.int v3)), (7, (.int p6))]) (fun (p6 : Int32) => []) (fun (p6 : Int32) => p1.2.2) ?_ (fun p6 => ?_)
      · refine hp_s [3, 4, 5, 6, 7, 8, 2, 1, 0] rfl (L' := [(0, (.ref 192)), (1, (.ref x1)), (2, (.ref x2)), (3, (.int x3)), (4, (.int p1.1)), (5, (.int p1.2.1)), (6, (.int v3)), (7, (.int (0 : Int32))), (8, (.int p1.1))]) ?_
        refine hp_wh (fun (p5 : (Int32 × Int32)) => [(0, (.ref 192)), (1, (.ref x1)), (2, (.ref x2)), (3, (.int x3)), (4, (.int p1.1)), (5, (.int p1.2.1)), (6, (.int v3)), (7, (.int p5.1)), (8, (.int p5.2))]) [] (fun (p5 : (Int32 × Int32)) => p1.2.2) (fun p5 => ?_) ((0 : Int32), p1.1)
        refine hp_ic_gt hm (at1 4 rfl) rfl (by exact trivial) (pc' := 35) rfl 3 rfl (tgt := 69) rfl (fun c12 => ?_) (fun c12 => ?_)
        · exact hp_lf [0, 1, 2, 3, 4, 5, 6, 7] rfl (fun _ e => e)
        · refine hp_G hm (at1 5 rfl) (L' := [(0, (.ref 192)), (1, (.ref x1)), (2, (.ref x2)), (3, (.int x3)), (4, (.int p1.1)), (5, (.int p1.2.1)), (6, (.int v3)), (7, (.int p5.1)), (8, (.int p5.2))]) (st' := [(.int ((rdI p1.2.2 216 (Int32.toNatClampNeg ((102 : Int32) + p5.2))) &&& x3)), (.int p5.1)]) rfl (fun hP => (by exact ⟨og_192, ⟨og_216, hP⟩⟩)) (pc' := 52) rfl (fun q7 => ?_)
          refine hp_JZ 60 (fun (p8 : Int32) => [(0, (.ref 192)), (1, (.ref x1)), (2, (.ref x2)), (3, (.int x3)), (4, (.int p1.1)), (5, (.int p1.2.1)), (6, (.int v3)), (8, (.int p5.2))]) (fun (p8 : Int32) => [(.int p8), (.int p5.1)]) (fun (p8 : Int32) => p1.2.2) ?_ (fun p8 => ?_)
          · refine hp_sv0 ?_
            refine hp_if_eq hm at0 rfl (by exact trivial) (pc' := 52) rfl 1 rfl (tgt := 59) rfl (fun c9 => ?_) (fun c9 => ?_)
            · refine hp_b hm (at1 6 rfl) (L' := [(0, (.ref 192)), (1, (.ref x1)), (2, (.ref x2)), (3, (.int x3)), (4, (.int p1.1)), (5, (.int p1.2.1)), (6, (.int v3)), (7, (.int p5.1)), (8, (.int p5.2))]) (st' := [(.int (0 : Int32)), (.int p5.1)]) rfl (by exact trivial) (pc' := 60) rfl ?_
              exact hp_lf [0, 1, 2, 3, 4, 5, 6, 8] rfl (fun _ e => e)
            · refine hp_b hm (at1 7 rfl) (L' := [(0, (.ref 192)), (1, (.ref x1)), (2, (.ref x2)), (3, (.int x3)), (4, (.int p1.1)), (5, (.int p1.2.1)), (6, (.int v3)), (7, (.int p5.1)), (8, (.int p5.2))]) (st' := [(.int (1 : Int32)), (.int p5.1)]) rfl (by exact trivial) (pc' := 56) rfl ?_
              refine hp_goto hm 0 rfl (tgt := 60) rfl ?_
              exact hp_lf [0, 1, 2, 3, 4, 5, 6, 8] rfl (fun _ e => e)
          · refine hp_z hm (at1 8 rfl) (fun (v10 : Int32) => [(7, (.int v10)), (0, (.ref 192)), (1, (.ref x1)), (2, (.ref x2)), (3, (.int x3)), (4, (.int p1.1)), (5, (.int p1.2.1)), (6, (.int v3)), (8, (.int p5.2))]) (fun (v10 : Int32) => []) rfl (by exact trivial) (pc' := 63) rfl (fun v10 => ?_)
            refine hp_z hm (at1 9 rfl) (fun (v11 : Int32) => [(8, (.int v11)), (7, (.int v10)), (0, (.ref 192)), (1, (.ref x1)), (2, (.ref x2)), (3, (.int x3)), (4, (.int p1.1)), (5, (.int p1.2.1)), (6, (.int v3))]) (fun (v11 : Int32) => []) rfl (by exact trivial) (pc' := 66) rfl (fun v11 => ?_)
            refine hp_goto hm 2 rfl (tgt := 31) rfl ?_
            exact hp_lf [2, 3, 4, 5, 6, 7, 8, 1, 0] rfl (fun _ e => e)
      · refine hp_b hm (at1 10 rfl) (L' := [(8, (.int p1.1)), (0, (.ref 192)), (1, (.ref x1)), (2, (.ref x2)), (3, (.int x3)), (4, (.int p1.1)), (5, (.int p1.2.1)), (6, (.int v3)), (7, (.int p6))]) (st' := []) rfl (by exact trivial) (pc' := 73) rfl ?_
        refine hp_J 200 (fun (p14 : hH) => [(0, (.ref 192)), (1, (.ref x1)), (2, (.ref x2)), (3, (.int x3)), (5, (.int p1.2.1)), (6, (.int v3))]) (fun (p14 : hH) => []) (fun (p14 : hH) => p14) ?_ (fun p14 => ?_)
        · refine hp_s [1, 2, 3, 4, 5, 6, 7, 8, 0] rfl (L' := [(0, (.ref 192)), (1, (.ref x1)), (2, (.ref x2)), (3, (.int x3)), (4, (.int p1.1)), (5, (.int p1.2.1)), (6, (.int v3)), (7, (.int p6)), (8, (.int p1.1))]) ?_
          refine hp_wh (fun (p13 : (Int32 × hH)) => [(0, (.ref 192)), (1, (.ref x1)), (2, (.ref x2)), (3, (.int x3)), (4, (.int p1.1)), (5, (.int p1.2.1)), (6, (.int v3)), (7, (.int p6)), (8, (.int p13.1))]) [] (fun (p13 : (Int32 × hH)) => p13.2) (fun p13 => ?_) (p1.1, p1.2.2)
          refine hp_cI (L0 := [(0, (.ref 192)), (1, (.ref x1)), (2, (.ref x2)), (3, (.int x3)), (4, (.int p1.1)), (5, (.int p1.2.1)), (6, (.int v3)), (7, (.int p6)), (8, (.int p13.1))]) (s0 := []) 200 85 ?_ (fun c19 => ?_) (fun c19 => ?_)
          · refine hp_or ?_
            refine hp_ic_gt hm (at1 11 rfl) rfl (by exact trivial) (pc' := 77) rfl 5 rfl (tgt := 200) rfl (fun c18 => ?_) (fun c18 => ?_)
            · exact hp_l0 (fun _ e => e)
            · refine hp_dec ?_
              refine hp_if_le hm (at1 12 rfl) rfl (by exact trivial) (pc' := 82) rfl 4 rfl (tgt := 200) rfl (fun c17 => ?_) (fun c17 => ?_)
              · exact hp_l0 (fun _ e => e)
              · exact hp_l0 (fun _ e => e)
          · exact hp_lf [0, 1, 2, 3, 5, 6] rfl (fun _ e => e)
          · refine hp_G hm (at1 13 rfl) (L' := [(0, (.ref 192)), (1, (.ref x1)), (2, (.ref x2)), (3, (.int x3)), (4, (.int p1.1)), (5, (.int p1.2.1)), (6, (.int v3)), (7, (.int p6)), (8, (.int p13.1))]) (st' := [(.int ((rdI p13.2 216 (Int32.toNatClampNeg ((102 : Int32) + p13.1))) &&& x3))]) rfl (fun hP => (by exact ⟨og_192, ⟨og_216, hP⟩⟩)) (pc' := 97) rfl (fun q20 => ?_)
            refine hp_J 194 (fun (p21 : hH) => [(0, (.ref 192)), (1, (.ref x1)), (2, (.ref x2)), (3, (.int x3)), (4, (.int p1.1)), (5, (.int p1.2.1)), (6, (.int v3)), (7, (.int p6)), (8, (.int p13.1))]) (fun (p21 : hH) => []) (fun (p21 : hH) => p21) ?_ (fun p21 => ?_)
            · refine hp_if_ne hm at0 rfl (by exact trivial) (pc' := 97) rfl 13 rfl (tgt := 194) rfl (fun c34 => ?_) (fun c34 => ?_)
              · exact hp_lf [0, 1, 2, 3, 4, 5, 6, 7, 8] rfl (fun _ e => e)
              · refine hp_b hm (at1 14 rfl) (L' := [(10, (.int p13.1)), (9, (.int p13.1)), (0, (.ref 192)), (1, (.ref x1)), (2, (.ref x2)), (3, (.int x3)), (4, (.int p1.1)), (5, (.int p1.2.1)), (6, (.int v3)), (7, (.int p6)), (8, (.int p13.1))]) (st' := []) rfl (by exact trivial) (pc' := 108) rfl ?_
                refine hp_J 141 (fun (p23 : Int32) => [(0, (.ref 192)), (1, (.ref x1)), (2, (.ref x2)), (3, (.int x3)), (4, (.int p1.1)), (5, (.int p1.2.1)), (6, (.int v3)), (7, (.int p6)), (8, (.int p13.1)), (9, (.int p23)), (10, (.int p13.1))]) (fun (p23 : Int32) => []) (fun (p23 : Int32) => p13.2) ?_ (fun p23 => ?_)
                · refine hp_s [2, 3, 4, 5, 6, 7, 8, 9, 10, 1, 0] rfl (L' := [(0, (.ref 192)), (1, (.ref x1)), (2, (.ref x2)), (3, (.int x3)), (4, (.int p1.1)), (5, (.int p1.2.1)), (6, (.int v3)), (7, (.int p6)), (8, (.int p13.1)), (9, (.int p13.1)), (10, (.int p13.1))]) ?_
                  refine hp_wh (fun (p22 : Int32) => [(0, (.ref 192)), (1, (.ref x1)), (2, (.ref x2)), (3, (.int x3)), (4, (.int p1.1)), (5, (.int p1.2.1)), (6, (.int v3)), (7, (.int p6)), (8, (.int p13.1)), (9, (.int p22)), (10, (.int p13.1))]) [] (fun (p22 : Int32) => p13.2) (fun p22 => ?_) p13.1
                  refine hp_JZ 124 (fun (p24 : Int32) => [(0, (.ref 192)), (1, (.ref x1)), (2, (.ref x2)), (3, (.int x3)), (4, (.int p1.1)), (5, (.int p1.2.1)), (6, (.int v3)), (7, (.int p6)), (8, (.int p13.1)), (10, (.int p13.1))]) (fun (p24 : Int32) => [(.int p24)]) (fun (p24 : Int32) => p13.2) ?_ (fun p24 => ?_)
                  · refine hp_sv0 ?_
                    refine hp_ic_ne hm (at1 15 rfl) rfl (by exact trivial) (pc' := 112) rfl 7 rfl (tgt := 120) rfl (fun c25 => ?_) (fun c25 => ?_)
                    · refine hp_b hm (at1 16 rfl) (L' := [(0, (.ref 192)), (1, (.ref x1)), (2, (.ref x2)), (3, (.int x3)), (4, (.int p1.1)), (5, (.int p1.2.1)), (6, (.int v3)), (7, (.int p6)), (8, (.int p13.1)), (9, (.int p22)), (10, (.int p13.1))]) (st' := [(.int (p22 - (1 : Int32)))]) rfl (by exact trivial) (pc' := 124) rfl ?_
                      exact hp_lf [0, 1, 2, 3, 4, 5, 6, 7, 8, 10] rfl (fun _ e => e)
                    · refine hp_b hm (at1 17 rfl) (L' := [(0, (.ref 192)), (1, (.ref x1)), (2, (.ref x2)), (3, (.int x3)), (4, (.int p1.1)), (5, (.int p1.2.1)), (6, (.int v3)), (7, (.int p6)), (8, (.int p13.1)), (9, (.int p22)), (10, (.int p13.1))]) (st' := [(.int v3)]) rfl (by exact trivial) (pc' := 117) rfl ?_
                      refine hp_goto hm 6 rfl (tgt := 124) rfl ?_
                      exact hp_lf [0, 1, 2, 3, 4, 5, 6, 7, 8, 10] rfl (fun _ e => e)
                  · refine hp_G hm (at1 18 rfl) (L' := [(9, (.int p24)), (0, (.ref 192)), (1, (.ref x1)), (2, (.ref x2)), (3, (.int x3)), (4, (.int p1.1)), (5, (.int p1.2.1)), (6, (.int v3)), (7, (.int p6)), (8, (.int p13.1)), (10, (.int p13.1))]) (st' := [(.int ((rdI p13.2 216 (Int32.toNatClampNeg ((102 : Int32) + p24))) &&& x3))]) rfl (fun hP => (by exact ⟨og_192, ⟨og_216, hP⟩⟩)) (pc' := 138) rfl (fun q26 => ?_)
                    refine hp_if_eq hm at0 rfl (by exact trivial) (pc' := 138) rfl 8 rfl (tgt := 108) rfl (fun c27 => ?_) (fun c27 => ?_)
                    · exact hp_lf [1, 2, 3, 4, 5, 6, 7, 8, 9, 0, 10] rfl (fun _ e => e)
                    · exact hp_lf [1, 2, 3, 4, 5, 6, 7, 8, 9, 0, 10] rfl (fun _ e => e)
                · refine hp_J 174 (fun (p29 : Int32) => [(0, (.ref 192)), (1, (.ref x1)), (2, (.ref x2)), (3, (.int x3)), (4, (.int p1.1)), (5, (.int p1.2.1)), (6, (.int v3)), (7, (.int p6)), (8, (.int p13.1)), (9, (.int p23)), (10, (.int p29))]) (fun (p29 : Int32) => []) (fun (p29 : Int32) => p13.2) ?_ (fun p29 => ?_)
                  · refine hp_s [0, 1, 2, 3, 4, 5, 6, 7, 8, 9, 10] rfl (L' := [(0, (.ref 192)), (1, (.ref x1)), (2, (.ref x2)), (3, (.int x3)), (4, (.int p1.1)), (5, (.int p1.2.1)), (6, (.int v3)), (7, (.int p6)), (8, (.int p13.1)), (9, (.int p23)), (10, (.int p13.1))]) ?_
                    refine hp_wh (fun (p28 : Int32) => [(0, (.ref 192)), (1, (.ref x1)), (2, (.ref x2)), (3, (.int x3)), (4, (.int p1.1)), (5, (.int p1.2.1)), (6, (.int v3)), (7, (.int p6)), (8, (.int p13.1)), (9, (.int p23)), (10, (.int p28))]) [] (fun (p28 : Int32) => p13.2) (fun p28 => ?_) p13.1
                    refine hp_JZ 157 (fun (p30 : Int32) => [(0, (.ref 192)), (1, (.ref x1)), (2, (.ref x2)), (3, (.int x3)), (4, (.int p1.1)), (5, (.int p1.2.1)), (6, (.int v3)), (7, (.int p6)), (8, (.int p13.1)), (9, (.int p23))]) (fun (p30 : Int32) => [(.int p30)]) (fun (p30 : Int32) => p13.2) ?_ (fun p30 => ?_)
                    · refine hp_sv0 ?_
                      refine hp_ic_ne hm (at1 19 rfl) rfl (by exact trivial) (pc' := 145) rfl 10 rfl (tgt := 153) rfl (fun c31 => ?_) (fun c31 => ?_)
                      · refine hp_b hm (at1 20 rfl) (L' := [(0, (.ref 192)), (1, (.ref x1)), (2, (.ref x2)), (3, (.int x3)), (4, (.int p1.1)), (5, (.int p1.2.1)), (6, (.int v3)), (7, (.int p6)), (8, (.int p13.1)), (9, (.int p23)), (10, (.int p28))]) (st' := [(.int (p28 + (1 : Int32)))]) rfl (by exact trivial) (pc' := 157) rfl ?_
                        exact hp_lf [0, 1, 2, 3, 4, 5, 6, 7, 8, 9] rfl (fun _ e => e)
                      · refine hp_b hm (at1 21 rfl) (L' := [(0, (.ref 192)), (1, (.ref x1)), (2, (.ref x2)), (3, (.int x3)), (4, (.int p1.1)), (5, (.int p1.2.1)), (6, (.int v3)), (7, (.int p6)), (8, (.int p13.1)), (9, (.int p23)), (10, (.int p28))]) (st' := [(.int p1.1)]) rfl (by exact trivial) (pc' := 150) rfl ?_
                        refine hp_goto hm 9 rfl (tgt := 157) rfl ?_
                        exact hp_lf [0, 1, 2, 3, 4, 5, 6, 7, 8, 9] rfl (fun _ e => e)
                    · refine hp_G hm (at1 22 rfl) (L' := [(10, (.int p30)), (0, (.ref 192)), (1, (.ref x1)), (2, (.ref x2)), (3, (.int x3)), (4, (.int p1.1)), (5, (.int p1.2.1)), (6, (.int v3)), (7, (.int p6)), (8, (.int p13.1)), (9, (.int p23))]) (st' := [(.int ((rdI p13.2 216 (Int32.toNatClampNeg ((102 : Int32) + p30))) &&& x3))]) rfl (fun hP => (by exact ⟨og_192, ⟨og_216, hP⟩⟩)) (pc' := 171) rfl (fun q32 => ?_)
                      refine hp_if_eq hm at0 rfl (by exact trivial) (pc' := 171) rfl 11 rfl (tgt := 141) rfl (fun c33 => ?_) (fun c33 => ?_)
                      · exact hp_lf [1, 2, 3, 4, 5, 6, 7, 8, 9, 10, 0] rfl (fun _ e => e)
                      · exact hp_lf [1, 2, 3, 4, 5, 6, 7, 8, 9, 10, 0] rfl (fun _ e => e)
                  · refine hp_cSS (M2 := M_Mo_follow) hm (at1 23 rfl) (as := [(.ref x1), (.ref x2), (.int ((102 : Int32) + p13.1)), (.int ((102 : Int32) + p23)), (.int ((102 : Int32) + p29))]) (rest := []) rfl (by exact trivial) (pc' := 191) rfl 12 rfl (lw_g (lw_at lw_m10 164 rfl) rfl) y_Mo_follow rfl (d2 := 3) ⟨le_b rfl, pd_Mo_follow, le_b rfl⟩ (le_b rfl) (k_Mo_follow x1 x2 ((102 : Int32) + p13.1) ((102 : Int32) + p23) ((102 : Int32) + p29) p13.2 hx1 hx2) (fun _ h1 => ?_)
                    exact hp_lf [0, 1, 2, 3, 4, 5, 6, 7, 8] rfl (fun _ e => e)
            · refine hp_z hm (at1 24 rfl) (fun (v35 : Int32) => [(8, (.int v35)), (0, (.ref 192)), (1, (.ref x1)), (2, (.ref x2)), (3, (.int x3)), (4, (.int p1.1)), (5, (.int p1.2.1)), (6, (.int v3)), (7, (.int p6))]) (fun (v35 : Int32) => []) rfl (by exact trivial) (pc' := 197) rfl (fun v35 => ?_)
              refine hp_goto hm 14 rfl (tgt := 73) rfl ?_
              exact hp_lf [1, 2, 3, 4, 5, 6, 7, 8, 0] rfl (fun _ e => e)
        · refine hp_z hm (at1 25 rfl) (fun (v36 : Int32) => [(4, (.int v36)), (0, (.ref 192)), (1, (.ref x1)), (2, (.ref x2)), (3, (.int x3)), (5, (.int p1.2.1)), (6, (.int v3))]) (fun (v36 : Int32) => []) rfl (by exact trivial) (pc' := 206) rfl (fun v36 => ?_)
          refine hp_z hm (at1 26 rfl) (fun (v37 : Int32) => [(5, (.int v37)), (4, (.int v36)), (0, (.ref 192)), (1, (.ref x1)), (2, (.ref x2)), (3, (.int x3)), (6, (.int v3))]) (fun (v37 : Int32) => []) rfl (by exact trivial) (pc' := 209) rfl (fun v37 => ?_)
          refine hp_goto hm 15 rfl (tgt := 6) rfl ?_
          exact hp_lf [2, 3, 4, 5, 1, 0] rfl (fun _ e => e)
  · exact hp_vr hm 17 rfl rfl (fun _ e => e)
/-! HintHouseModel.likeReference(I)V -/
def M_Mo_likeReference : hM := (11, ⟨"HintHouseModel", "likeReference", "(I)V"⟩, prog_13_method_83_code, 10, (Option.none : Option Jvm.ClassFile.FieldType), [], [(0, [(.iload_n 1, 1, 0, 0, 0, .null), (.bipush 52, 2, 0, 0, 0, (.int (52 : Int32)))]), (13, [(.iconst 1, 1, 0, 0, 0, (.int (1 : Int32)))]), (6, [(.aload_n 0, 1, 0, 0, 0, .null), (.getfield 469, 3, 11, 75, 0, .null)]), (14, [(.istore_n 2, 1, 0, 0, 0, .null), (.aload_n 0, 1, 0, 0, 0, .null), (.iload_n 2, 1, 0, 0, 0, .null)]), (24, [(.iload_n 1, 1, 0, 0, 0, .null), (.iconst 2, 1, 0, 0, 0, (.int (2 : Int32))), (.irem, 1, 0, 0, 0, .null), (.iconst 1, 1, 0, 0, 0, (.int (1 : Int32)))]), (35, [(.iconst 0, 1, 0, 0, 0, (.int (0 : Int32)))]), (31, [(.iconst 1, 1, 0, 0, 0, (.int (1 : Int32)))]), (36, [(.istore_n 3, 1, 0, 0, 0, .null), (.iload_n 3, 1, 0, 0, 0, .null)]), (48, [(.aload_n 0, 1, 0, 0, 0, .null), (.getfield 463, 3, 11, 73, 0, .null)]), (41, [(.aload_n 0, 1, 0, 0, 0, .null), (.getfield 460, 3, 11, 72, 0, .null)]), (52, [(.istore 4, 2, 0, 0, 0, .null), (.aload_n 0, 1, 0, 0, 0, .null), (.iload 4, 2, 0, 0, 0, .null), (.iload_n 3, 1, 0, 0, 0, .null)]), (68, [(.aload_n 0, 1, 0, 0, 0, .null), (.getfield 457, 3, 11, 71, 0, .null)]), (61, [(.aload_n 0, 1, 0, 0, 0, .null), (.getfield 454, 3, 11, 70, 0, .null)]), (75, [(.istore 5, 2, 0, 0, 0, .null), (.aload_n 0, 1, 0, 0, 0, .null), (.getfield 409, 3, 11, 59, 0, .null)]), (85, [(.aload_n 0, 1, 0, 0, 0, .null), (.getfield 76, 3, 11, 48, 4, .null), (.iload 5, 2, 0, 0, 0, .null), (.iaload, 1, 0, 0, 0, .null), (.aload_n 0, 1, 0, 0, 0, .null), (.getfield 70, 3, 11, 46, 4, .null), (.iload 5, 2, 0, 0, 0, .null), (.iaload, 1, 0, 0, 0, .null), (.isub, 1, 0, 0, 0, .null), (.aload_n 0, 1, 0, 0, 0, .null), (.getfield 79, 3, 11, 49, 4, .null), (.iload 5, 2, 0, 0, 0, .null), (.iaload, 1, 0, 0, 0, .null), (.aload_n 0, 1, 0, 0, 0, .null), (.getfield 73, 3, 11, 47, 4, .null), (.iload 5, 2, 0, 0, 0, .null), (.iaload, 1, 0, 0, 0, .null), (.isub, 1, 0, 0, 0, .null), (.aload_n 0, 1, 0, 0, 0, .null), (.getfield 439, 3, 11, 65, 0, .null), (.aload_n 0, 1, 0, 0, 0, .null), (.getfield 442, 3, 11, 66, 0, .null)]), (126, [(.istore 6, 2, 0, 0, 0, .null), (.iload_n 1, 1, 0, 0, 0, .null), (.bipush 52, 2, 0, 0, 0, (.int (52 : Int32)))]), (192, [(.aload_n 0, 1, 0, 0, 0, .null)]), (196, [(.istore 7, 2, 0, 0, 0, .null), (.iload_n 1, 1, 0, 0, 0, .null), (.bipush 54, 2, 0, 0, 0, (.int (54 : Int32)))]), (295, [(.aload_n 0, 1, 0, 0, 0, .null), (.iload 7, 2, 0, 0, 0, .null)]), (310, [(.iload 7, 2, 0, 0, 0, .null)]), (322, [(.aload_n 0, 1, 0, 0, 0, .null), (.getfield 706, 3, 11, 53, 0, .null)]), (333, [(.aload_n 0, 1, 0, 0, 0, .null), (.getfield 88, 3, 11, 54, 4, .null), (.aload_n 0, 1, 0, 0, 0, .null), (.getfield 706, 3, 11, 53, 0, .null), (.iconst 1, 1, 0, 0, 0, (.int (1 : Int32))), (.isub, 1, 0, 0, 0, .null), (.iaload, 1, 0, 0, 0, .null), (.iconst 1, 1, 0, 0, 0, (.int (1 : Int32))), (.iadd, 1, 0, 0, 0, .null)]), (329, [(.iconst 0, 1, 0, 0, 0, (.int (0 : Int32)))]), (315, [(.aload_n 0, 1, 0, 0, 0, .null), (.getfield 316, 3, 11, 14, 0, .null)]), (346, [(.istore 8, 2, 0, 0, 0, .null), (.bipush 102, 2, 0, 0, 0, (.int (102 : Int32))), (.iload 7, 2, 0, 0, 0, .null), (.imul, 1, 0, 0, 0, .null), (.istore 9, 2, 0, 0, 0, .null)]), (355, [(.iload 9, 2, 0, 0, 0, .null), (.bipush 102, 2, 0, 0, 0, (.int (102 : Int32))), (.iload 7, 2, 0, 0, 0, .null), (.imul, 1, 0, 0, 0, .null), (.iload 8, 2, 0, 0, 0, .null), (.iadd, 1, 0, 0, 0, .null)]), (368, [(.iload 9, 2, 0, 0, 0, .null), (.iload 5, 2, 0, 0, 0, .null)]), (375, [(.aload_n 0, 1, 0, 0, 0, .null), (.iload 9, 2, 0, 0, 0, .null), (.iload 6, 2, 0, 0, 0, .null), (.i2l, 1, 0, 0, 0, .null), (.iconst 0, 1, 0, 0, 0, (.int (0 : Int32)))]), (385, [(.iinc 9 1, 3, 0, 0, 0, (.int (1 : Int32)))]), (304, [(.aload_n 0, 1, 0, 0, 0, .null), (.iconst 5, 1, 0, 0, 0, (.int (5 : Int32)))]), (204, [(.aload_n 0, 1, 0, 0, 0, .null), (.getfield 466, 3, 11, 74, 0, .null), (.iconst 1, 1, 0, 0, 0, (.int (1 : Int32)))]), (212, [(.iload 7, 2, 0, 0, 0, .null)]), (217, [(.iload 7, 2, 0, 0, 0, .null), (.aload_n 0, 1, 0, 0, 0, .null), (.getfield 706, 3, 11, 53, 0, .null)]), (226, [(.aload_n 0, 1, 0, 0, 0, .null), (.iconst 5, 1, 0, 0, 0, (.int (5 : Int32)))]), (232, [(.iload 7, 2, 0, 0, 0, .null)]), (241, [(.aload_n 0, 1, 0, 0, 0, .null), (.getfield 88, 3, 11, 54, 4, .null), (.iload 7, 2, 0, 0, 0, .null), (.iconst 1, 1, 0, 0, 0, (.int (1 : Int32))), (.isub, 1, 0, 0, 0, .null), (.iaload, 1, 0, 0, 0, .null), (.iconst 1, 1, 0, 0, 0, (.int (1 : Int32))), (.iadd, 1, 0, 0, 0, .null)]), (237, [(.iconst 0, 1, 0, 0, 0, (.int (0 : Int32)))]), (252, [(.istore 8, 2, 0, 0, 0, .null)]), (254, [(.iload 8, 2, 0, 0, 0, .null), (.aload_n 0, 1, 0, 0, 0, .null), (.getfield 88, 3, 11, 54, 4, .null), (.iload 7, 2, 0, 0, 0, .null), (.iaload, 1, 0, 0, 0, .null)]), (266, [(.bipush 102, 2, 0, 0, 0, (.int (102 : Int32))), (.iload 8, 2, 0, 0, 0, .null), (.iadd, 1, 0, 0, 0, .null), (.iload 5, 2, 0, 0, 0, .null)]), (276, [(.aload_n 0, 1, 0, 0, 0, .null), (.bipush 102, 2, 0, 0, 0, (.int (102 : Int32))), (.iload 8, 2, 0, 0, 0, .null), (.iadd, 1, 0, 0, 0, .null), (.iload 6, 2, 0, 0, 0, .null), (.i2l, 1, 0, 0, 0, .null)]), (288, [(.iinc 8 1, 3, 0, 0, 0, (.int (1 : Int32)))]), (134, [(.iconst 0, 1, 0, 0, 0, (.int (0 : Int32))), (.istore 7, 2, 0, 0, 0, .null)]), (137, [(.iload 7, 2, 0, 0, 0, .null), (.iload_n 2, 1, 0, 0, 0, .null)]), (143, [(.aload_n 0, 1, 0, 0, 0, .null), (.getfield 409, 3, 11, 59, 0, .null)]), (150, [(.aload_n 0, 1, 0, 0, 0, .null), (.aload_n 0, 1, 0, 0, 0, .null), (.getfield 466, 3, 11, 74, 0, .null), (.aload_n 0, 1, 0, 0, 0, .null)]), (162, [(.istore 8, 2, 0, 0, 0, .null), (.aload_n 0, 1, 0, 0, 0, .null), (.getfield 409, 3, 11, 59, 0, .null)]), (171, [(.aload_n 0, 1, 0, 0, 0, .null), (.iload 8, 2, 0, 0, 0, .null), (.iload 6, 2, 0, 0, 0, .null), (.i2l, 1, 0, 0, 0, .null)]), (180, [(.iinc 7 1, 3, 0, 0, 0, (.int (1 : Int32)))]), (186, [(.aload_n 0, 1, 0, 0, 0, .null), (.iconst 1, 1, 0, 0, 0, (.int (1 : Int32))), (.putfield 469, 3, 11, 75, 0, .null)])], [(10, .goto 4, 3), (3, .if_icmp .ge 10, 3), (17, .invokevirtual 576, 3), (32, .goto 4, 3), (28, .if_icmp .ne 7, 3), (45, .goto 7, 3), (38, .ifCond .eq 10, 3), (65, .goto 7, 3), (58, .ifCond .eq 10, 3), (72, .invokevirtual 582, 3), (123, .invokestatic 520, 3), (193, .invokevirtual 579, 3), (298, .invokevirtual 624, 3), (330, .goto 16, 3), (326, .ifCond .ne 7, 3), (319, .goto 27, 3), (312, .ifCond .ne 10, 3), (382, .invokevirtual 529, 3), (372, .if_icmp .eq 13, 3), (388, .goto (-33), 3), (365, .if_icmp .ge 26, 3), (391, .return_, 1), (306, .invokevirtual 421, 3), (309, .return_, 1), (301, .ifCond .ne 9, 3), (223, .if_icmp .lt 9, 3), (214, .ifCond .lt 12, 3), (209, .if_icmp .ne 17, 3), (228, .invokevirtual 421, 3), (231, .return_, 1), (238, .goto 14, 3), (234, .ifCond .ne 7, 3), (285, .invokevirtual 630, 3), (273, .if_icmp .eq 15, 3), (291, .goto (-37), 3), (263, .if_icmp .gt 31, 3), (294, .return_, 1), (201, .if_icmp .ge 94, 3), (147, .ifCond .ne 39, 3), (140, .if_icmp .ge 46, 3), (156, .invokevirtual 579, 3), (159, .invokevirtual 582, 3), (177, .invokevirtual 630, 3), (168, .ifCond .ne 12, 3), (183, .goto (-46), 3), (191, .return_, 1), (131, .if_icmp .ge 61, 3), (84, .return_, 1), (81, .ifCond .le 4, 3), (23, .return_, 1), (20, .ifCond .ne 4, 3)])
set_option maxRecDepth 100000 in
theorem m_Mo_likeReference : hx_mok M_Mo_likeReference = true := by decide +kernel
theorem pd_Mo_likeReference : (parseMethodDescriptor M_Mo_likeReference.2.1.desc).map (fun q => q.parameters.length) = some 1 := by decide +kernel
theorem y_Mo_likeReference : hx_okV M_Mo_likeReference := ⟨⟨lw_g (lw_at lw_m10 170 rfl) rfl, lw_g (lw_at lw_m10 169 rfl) rfl, qs169, lw_g (lw_at lw_m1 12 rfl) rfl, rfl, by decide, by decide, by decide⟩, rfl, by decide, plainFor_of_name (by decide)⟩
noncomputable def f_Mo_likeReference (x1 : Int32) (h : hH) : Option (Unit × hH) :=
  lz (A := Int32) (if (52 : Int32) ≤ x1 then (1 : Int32) else (rdI h 192 75)) fun p1 =>
  bS (f_Mo_has p1 h) fun a3 h1 =>
  if a3 = 0 then (
    some ((), h1)
  ) else (
    lz (A := Int32) (if (hx_rm x1 (2 : Int32)) = (1 : Int32) then (1 : Int32) else (0 : Int32)) fun p4 =>
    lz (A := Int32) (if p4 = 0 then (rdI h1 192 73) else (rdI h1 192 72)) fun p6 =>
    lz (A := Int32) (if p4 = 0 then (rdI h1 192 71) else (rdI h1 192 70)) fun p8 =>
    bS (f_Mo_pointOf p6 p8 h1) fun a10 h2 =>
    if (rdI h2 192 59) ≤ 0 then (
      gd (vp_in a10 204) <|
      bP (f_Mo_by ((rdI h2 214 (Int32.toNatClampNeg a10)) - (rdI h2 212 (Int32.toNatClampNeg a10))) ((rdI h2 215 (Int32.toNatClampNeg a10)) - (rdI h2 213 (Int32.toNatClampNeg a10))) (rdI h2 192 65) (rdI h2 192 66)) fun a12 =>
      if (52 : Int32) ≤ x1 then (
        bS (f_Mo_pop h2) fun a13 h3 =>
        if (54 : Int32) ≤ x1 then (
          bP (f_Mo_isZone a13 h3) fun a14 =>
          if a14 = 0 then (
            bS (f_Mo_fail (5 : Int32) h3) fun _ h5 =>
            some ((), h5)
          ) else (
            bP (A := Int32) (
              if a13 = 0 then (
                some (rdI h3 192 14)
              ) else (
                if (rdI h3 192 53) = 0 then (
                  some (0 : Int32)
                ) else (
                  gd (vp_in ((rdI h3 192 53) - (1 : Int32)) 20) <|
                  some ((rdI h3 218 (Int32.toNatClampNeg ((rdI h3 192 53) - (1 : Int32)))) + (1 : Int32))
                )
              )
            ) fun p15 =>
            lz (A := Int32) ((102 : Int32) * a13) fun v19 =>
            bP (A := hH) (
              wh (A := (Int32 × hH)) (B := hH) (fun p20 =>
                  if (((102 : Int32) * a13) + p15) ≤ p20.1 then (
                    some (.inr p20.2)
                  ) else (
                    bP (A := hH) (
                      if p20.1 = a10 then (
                        some p20.2
                      ) else (
                        bS (f_Mo_shiftBy p20.1 (Int32.toInt64 a12) (0 : Int32) p20.2) fun _ h4 =>
                        some h4
                      )
                    ) fun p22 =>
                    lz (A := Int32) (p20.1 + (1 : Int32)) fun v24 =>
                    some (.inl (v24, p22))
                  )
              ) (v19, h3)
            ) fun p21 =>
            some ((), p21)
          )
        ) else (
          cO (
            if (rdI h3 192 74) = (1 : Int32) then (
              if (a13 < 0 ∨ ¬ (a13 < (rdI h3 192 53))) then (
                some true
              ) else (
                some false
              )
            ) else (
              some true
            )
          ) (
            bS (f_Mo_fail (5 : Int32) h3) fun _ h6 =>
            some ((), h6)
          ) (
            bP (A := Int32) (
              if a13 = 0 then (
                some (0 : Int32)
              ) else (
                gd (vp_in (a13 - (1 : Int32)) 20) <|
                some ((rdI h3 218 (Int32.toNatClampNeg (a13 - (1 : Int32)))) + (1 : Int32))
              )
            ) fun p39 =>
            bP (A := hH) (
              wh (A := (Int32 × hH)) (B := hH) (fun p42 =>
                  gd (vp_in a13 20) <|
                  if (rdI p42.2 218 (Int32.toNatClampNeg a13)) < p42.1 then (
                    some (.inr p42.2)
                  ) else (
                    bP (A := hH) (
                      if ((102 : Int32) + p42.1) = a10 then (
                        some p42.2
                      ) else (
                        bS (f_Mo_move ((102 : Int32) + p42.1) (Int32.toInt64 a12) p42.2) fun _ h7 =>
                        some h7
                      )
                    ) fun p45 =>
                    lz (A := Int32) (p42.1 + (1 : Int32)) fun v47 =>
                    some (.inl (v47, p45))
                  )
              ) (p39, h3)
            ) fun p43 =>
            some ((), p43)
          )
        )
      ) else (
        bP (A := hH) (
          wh (A := (Int32 × hH)) (B := hH) (fun p50 =>
              if (¬ (p1 ≤ p50.1) ∧ (rdI p50.2 192 59) = 0) then (
                bS (f_Mo_pop p50.2) fun a57 h8 =>
                bS (f_Mo_pointOf (rdI p50.2 192 74) a57 h8) fun a58 h9 =>
                bP (A := hH) (
                  if (rdI h9 192 59) = 0 then (
                    bS (f_Mo_move a58 (Int32.toInt64 a12) h9) fun _ h10 =>
                    some h10
                  ) else (
                    some h9
                  )
                ) fun p59 =>
                lz (A := Int32) (p50.1 + (1 : Int32)) fun v61 =>
                some (.inl (v61, p59))
              ) else (
                some (.inr p50.2)
              )
          ) ((0 : Int32), h2)
        ) fun p51 =>
        lz (wrI p51 192 75 (1 : Int32)) fun h11 =>
        some ((), h11)
      )
    ) else (
      some ((), h2)
    )
  )
set_option maxRecDepth 20000 in
theorem k_Mo_likeReference (x1 : Int32) (h : hH) : hx_kS S0 M_Mo_likeReference 6 NT [(.ref 192), (.int x1)] h (f_Mo_likeReference x1 h) cvU := by
  have hm := m_Mo_likeReference
  show hx_P S0 M_Mo_likeReference 6 0 [(0, (.ref 192)), (1, (.int x1))] [] NT h (f_Mo_likeReference x1 h) (hx_Rc cvU NT)
  unfold f_Mo_likeReference
  refine hp_JZ 14 (fun (p1 : Int32) => [(0, (.ref 192)), (1, (.int x1))]) (fun (p1 : Int32) => [(.int p1)]) (fun (p1 : Int32) => h) ?_ (fun p1 => ?_)
  · refine hp_sv0 ?_
    refine hp_ic_ge hm (at1 0 rfl) rfl (by exact trivial) (pc' := 3) rfl 1 rfl (tgt := 13) rfl (fun c2 => ?_) (fun c2 => ?_)
    · refine hp_b hm (at1 1 rfl) (L' := [(0, (.ref 192)), (1, (.int x1))]) (st' := [(.int (1 : Int32))]) rfl (by exact trivial) (pc' := 14) rfl ?_
      exact hp_lf [0, 1] rfl (fun _ e => e)
    · refine hp_b hm (at1 2 rfl) (L' := [(0, (.ref 192)), (1, (.int x1))]) (st' := [(.int (rdI h 192 75))]) rfl (by exact og_192) (pc' := 10) rfl ?_
      refine hp_goto hm 0 rfl (tgt := 14) rfl ?_
      exact hp_lf [0, 1] rfl (fun _ e => e)
  · refine hp_b hm (at1 3 rfl) (L' := [(2, (.int p1)), (0, (.ref 192)), (1, (.int x1))]) (st' := [(.int p1), (.ref 192)]) rfl (by exact trivial) (pc' := 17) rfl ?_
    refine hp_cVS (M2 := M_Mo_has) hm at0 (as := [(.int p1)]) (rest := []) (z := 192) rfl (by exact trivial) (pc' := 17) rfl 2 rfl (lw_g (lw_at lw_m10 20 rfl) rfl) y_Mo_has rfl (d2 := 2) ⟨le_b rfl, pd_Mo_has, le_b rfl⟩ (le_b rfl) og_192 (k_Mo_has p1 h) (fun a3 h1 => ?_)
    refine hp_if_ne hm at0 rfl (by exact trivial) (pc' := 20) rfl 50 rfl (tgt := 24) rfl (fun c64 => ?_) (fun c64 => ?_)
    · refine hp_JZ 36 (fun (p4 : Int32) => [(0, (.ref 192)), (1, (.int x1)), (2, (.int p1))]) (fun (p4 : Int32) => [(.int p4)]) (fun (p4 : Int32) => h1) ?_ (fun p4 => ?_)
      · refine hp_sv0 ?_
        refine hp_ic_ne hm (at1 4 rfl) rfl (by exact (show ¬ (2 : Int32) = 0 by decide)) (pc' := 28) rfl 4 rfl (tgt := 35) rfl (fun c5 => ?_) (fun c5 => ?_)
        · refine hp_b hm (at1 5 rfl) (L' := [(2, (.int p1)), (0, (.ref 192)), (1, (.int x1))]) (st' := [(.int (0 : Int32))]) rfl (by exact trivial) (pc' := 36) rfl ?_
          exact hp_lf [1, 2, 0] rfl (fun _ e => e)
        · refine hp_b hm (at1 6 rfl) (L' := [(2, (.int p1)), (0, (.ref 192)), (1, (.int x1))]) (st' := [(.int (1 : Int32))]) rfl (by exact trivial) (pc' := 32) rfl ?_
          refine hp_goto hm 3 rfl (tgt := 36) rfl ?_
          exact hp_lf [1, 2, 0] rfl (fun _ e => e)
      · refine hp_b hm (at1 7 rfl) (L' := [(3, (.int p4)), (0, (.ref 192)), (1, (.int x1)), (2, (.int p1))]) (st' := [(.int p4)]) rfl (by exact trivial) (pc' := 38) rfl ?_
        refine hp_JZ 52 (fun (p6 : Int32) => [(0, (.ref 192)), (1, (.int x1)), (2, (.int p1)), (3, (.int p4))]) (fun (p6 : Int32) => [(.int p6)]) (fun (p6 : Int32) => h1) ?_ (fun p6 => ?_)
        · refine hp_sv0 ?_
          refine hp_if_eq hm at0 rfl (by exact trivial) (pc' := 38) rfl 6 rfl (tgt := 48) rfl (fun c7 => ?_) (fun c7 => ?_)
          · refine hp_b hm (at1 8 rfl) (L' := [(3, (.int p4)), (0, (.ref 192)), (1, (.int x1)), (2, (.int p1))]) (st' := [(.int (rdI h1 192 73))]) rfl (by exact og_192) (pc' := 52) rfl ?_
            exact hp_lf [1, 2, 3, 0] rfl (fun _ e => e)
          · refine hp_b hm (at1 9 rfl) (L' := [(3, (.int p4)), (0, (.ref 192)), (1, (.int x1)), (2, (.int p1))]) (st' := [(.int (rdI h1 192 72))]) rfl (by exact og_192) (pc' := 45) rfl ?_
            refine hp_goto hm 5 rfl (tgt := 52) rfl ?_
            exact hp_lf [1, 2, 3, 0] rfl (fun _ e => e)
        · refine hp_b hm (at1 10 rfl) (L' := [(4, (.int p6)), (0, (.ref 192)), (1, (.int x1)), (2, (.int p1)), (3, (.int p4))]) (st' := [(.int p4), (.int p6), (.ref 192)]) rfl (by exact trivial) (pc' := 58) rfl ?_
          refine hp_JZ 72 (fun (p8 : Int32) => [(0, (.ref 192)), (1, (.int x1)), (2, (.int p1))]) (fun (p8 : Int32) => [(.int p8), (.int p6), (.ref 192)]) (fun (p8 : Int32) => h1) ?_ (fun p8 => ?_)
          · refine hp_sv0 ?_
            refine hp_if_eq hm at0 rfl (by exact trivial) (pc' := 58) rfl 8 rfl (tgt := 68) rfl (fun c9 => ?_) (fun c9 => ?_)
            · refine hp_b hm (at1 11 rfl) (L' := [(4, (.int p6)), (0, (.ref 192)), (1, (.int x1)), (2, (.int p1)), (3, (.int p4))]) (st' := [(.int (rdI h1 192 71)), (.int p6), (.ref 192)]) rfl (by exact og_192) (pc' := 72) rfl ?_
              exact hp_lf [1, 2, 3] rfl (fun _ e => e)
            · refine hp_b hm (at1 12 rfl) (L' := [(4, (.int p6)), (0, (.ref 192)), (1, (.int x1)), (2, (.int p1)), (3, (.int p4))]) (st' := [(.int (rdI h1 192 70)), (.int p6), (.ref 192)]) rfl (by exact og_192) (pc' := 65) rfl ?_
              refine hp_goto hm 7 rfl (tgt := 72) rfl ?_
              exact hp_lf [1, 2, 3] rfl (fun _ e => e)
          · refine hp_cVS (M2 := M_Mo_pointOf) hm at0 (as := [(.int p6), (.int p8)]) (rest := []) (z := 192) rfl (by exact trivial) (pc' := 72) rfl 9 rfl (lw_g (lw_at lw_m10 28 rfl) rfl) y_Mo_pointOf rfl (d2 := 2) ⟨le_b rfl, pd_Mo_pointOf, le_b rfl⟩ (le_b rfl) og_192 (k_Mo_pointOf p6 p8 h1) (fun a10 h2 => ?_)
            refine hp_b hm (at1 13 rfl) (L' := [(5, (.int a10)), (0, (.ref 192)), (1, (.int x1)), (2, (.int p1))]) (st' := [(.int (rdI h2 192 59))]) rfl (by exact og_192) (pc' := 81) rfl ?_
            refine hp_if_le hm at0 rfl (by exact trivial) (pc' := 81) rfl 48 rfl (tgt := 85) rfl (fun c63 => ?_) (fun c63 => ?_)
            · refine hp_G hm (at1 14 rfl) (L' := [(5, (.int a10)), (0, (.ref 192)), (1, (.int x1)), (2, (.int p1))]) (st' := [(.int (rdI h2 192 66)), (.int (rdI h2 192 65)), (.int ((rdI h2 215 (Int32.toNatClampNeg a10)) - (rdI h2 213 (Int32.toNatClampNeg a10)))), (.int ((rdI h2 214 (Int32.toNatClampNeg a10)) - (rdI h2 212 (Int32.toNatClampNeg a10))))]) rfl (fun hP => (by exact ⟨⟨⟨⟨⟨⟨⟨⟨⟨og_192, ⟨og_214, hP⟩⟩, og_192⟩, ⟨og_212, hP⟩⟩, og_192⟩, ⟨og_215, hP⟩⟩, og_192⟩, ⟨og_213, hP⟩⟩, og_192⟩, og_192⟩)) (pc' := 123) rfl (fun q11 => ?_)
              refine hp_cSP (M2 := M_Mo_by) hm at0 (as := [(.int ((rdI h2 214 (Int32.toNatClampNeg a10)) - (rdI h2 212 (Int32.toNatClampNeg a10)))), (.int ((rdI h2 215 (Int32.toNatClampNeg a10)) - (rdI h2 213 (Int32.toNatClampNeg a10)))), (.int (rdI h2 192 65)), (.int (rdI h2 192 66))]) (rest := []) rfl (by exact trivial) (pc' := 123) rfl 10 rfl (lw_g (lw_at lw_m10 36 rfl) rfl) y_Mo_by rfl (d2 := 4) ⟨le_b rfl, pd_Mo_by, le_b rfl⟩ (le_b rfl) (k_Mo_by ((rdI h2 214 (Int32.toNatClampNeg a10)) - (rdI h2 212 (Int32.toNatClampNeg a10))) ((rdI h2 215 (Int32.toNatClampNeg a10)) - (rdI h2 213 (Int32.toNatClampNeg a10))) (rdI h2 192 65) (rdI h2 192 66) h2) (fun a12 => ?_)
              refine hp_b hm (at1 15 rfl) (L' := [(6, (.int a12)), (5, (.int a10)), (0, (.ref 192)), (1, (.int x1)), (2, (.int p1))]) (st' := [(.int (52 : Int32)), (.int x1)]) rfl (by exact trivial) (pc' := 131) rfl ?_
              refine hp_ic_ge hm at0 rfl (by exact trivial) (pc' := 131) rfl 46 rfl (tgt := 192) rfl (fun c62 => ?_) (fun c62 => ?_)
              · refine hp_cVS (M2 := M_Mo_pop) hm (at1 16 rfl) (as := []) (rest := []) (z := 192) rfl (by exact trivial) (pc' := 193) rfl 11 rfl (lw_g (lw_at lw_m10 24 rfl) rfl) y_Mo_pop rfl (d2 := 1) ⟨le_b rfl, pd_Mo_pop, le_b rfl⟩ (le_b rfl) og_192 (k_Mo_pop h2) (fun a13 h3 => ?_)
                refine hp_b hm (at1 17 rfl) (L' := [(7, (.int a13)), (6, (.int a12)), (5, (.int a10)), (0, (.ref 192)), (1, (.int x1)), (2, (.int p1))]) (st' := [(.int (54 : Int32)), (.int x1)]) rfl (by exact trivial) (pc' := 201) rfl ?_
                refine hp_ic_ge hm at0 rfl (by exact trivial) (pc' := 201) rfl 37 rfl (tgt := 295) rfl (fun c49 => ?_) (fun c49 => ?_)
                · refine hp_cVP (M2 := M_Mo_isZone) hm (at1 18 rfl) (as := [(.int a13)]) (rest := []) (z := 192) rfl (by exact trivial) (pc' := 298) rfl 12 rfl (lw_g (lw_at lw_m10 111 rfl) rfl) y_Mo_isZone rfl (d2 := 1) ⟨le_b rfl, pd_Mo_isZone, le_b rfl⟩ (le_b rfl) og_192 (k_Mo_isZone a13 h3) (fun a14 => ?_)
                  refine hp_if_ne hm at0 rfl (by exact trivial) (pc' := 301) rfl 24 rfl (tgt := 310) rfl (fun c26 => ?_) (fun c26 => ?_)
                  · refine hp_J 346 (fun (p15 : Int32) => [(0, (.ref 192)), (5, (.int a10)), (6, (.int a12)), (7, (.int a13))]) (fun (p15 : Int32) => [(.int p15)]) (fun (p15 : Int32) => h3) ?_ (fun p15 => ?_)
                    · refine hp_if_ne hm (at1 19 rfl) rfl (by exact trivial) (pc' := 312) rfl 16 rfl (tgt := 322) rfl (fun c18 => ?_) (fun c18 => ?_)
                      · refine hp_if_ne hm (at1 20 rfl) rfl (by exact og_192) (pc' := 326) rfl 14 rfl (tgt := 333) rfl (fun c17 => ?_) (fun c17 => ?_)
                        · refine hp_G hm (at1 21 rfl) (L' := [(7, (.int a13)), (6, (.int a12)), (5, (.int a10)), (0, (.ref 192)), (1, (.int x1)), (2, (.int p1))]) (st' := [(.int ((rdI h3 218 (Int32.toNatClampNeg ((rdI h3 192 53) - (1 : Int32)))) + (1 : Int32)))]) rfl (fun hP => (by exact ⟨⟨og_192, og_192⟩, ⟨og_218, hP⟩⟩)) (pc' := 346) rfl (fun q16 => ?_)
                          exact hp_lf [3, 2, 1, 0] rfl (fun _ e => e)
                        · refine hp_b hm (at1 22 rfl) (L' := [(7, (.int a13)), (6, (.int a12)), (5, (.int a10)), (0, (.ref 192)), (1, (.int x1)), (2, (.int p1))]) (st' := [(.int (0 : Int32))]) rfl (by exact trivial) (pc' := 330) rfl ?_
                          refine hp_goto hm 13 rfl (tgt := 346) rfl ?_
                          exact hp_lf [3, 2, 1, 0] rfl (fun _ e => e)
                      · refine hp_b hm (at1 23 rfl) (L' := [(7, (.int a13)), (6, (.int a12)), (5, (.int a10)), (0, (.ref 192)), (1, (.int x1)), (2, (.int p1))]) (st' := [(.int (rdI h3 192 14))]) rfl (by exact og_192) (pc' := 319) rfl ?_
                        refine hp_goto hm 15 rfl (tgt := 346) rfl ?_
                        exact hp_lf [3, 2, 1, 0] rfl (fun _ e => e)
                    · refine hp_z hm (at1 24 rfl) (fun (v19 : Int32) => [(9, (.int v19)), (8, (.int p15)), (0, (.ref 192)), (5, (.int a10)), (6, (.int a12)), (7, (.int a13))]) (fun (v19 : Int32) => []) rfl (by exact trivial) (pc' := 355) rfl (fun v19 => ?_)
                      refine hp_J 391 (fun (p21 : hH) => []) (fun (p21 : hH) => []) (fun (p21 : hH) => p21) ?_ (fun p21 => ?_)
                      · refine hp_s [2, 3, 4, 5, 1, 0] rfl (L' := [(0, (.ref 192)), (5, (.int a10)), (6, (.int a12)), (7, (.int a13)), (8, (.int p15)), (9, (.int v19))]) ?_
                        refine hp_wh (fun (p20 : (Int32 × hH)) => [(0, (.ref 192)), (5, (.int a10)), (6, (.int a12)), (7, (.int a13)), (8, (.int p15)), (9, (.int p20.1))]) [] (fun (p20 : (Int32 × hH)) => p20.2) (fun p20 => ?_) (v19, h3)
                        refine hp_ic_ge hm (at1 25 rfl) rfl (by exact trivial) (pc' := 365) rfl 20 rfl (tgt := 391) rfl (fun c25 => ?_) (fun c25 => ?_)
                        · exact hp_lf [] rfl (fun _ e => e)
                        · refine hp_J 385 (fun (p22 : hH) => [(0, (.ref 192)), (5, (.int a10)), (6, (.int a12)), (7, (.int a13)), (8, (.int p15)), (9, (.int p20.1))]) (fun (p22 : hH) => []) (fun (p22 : hH) => p22) ?_ (fun p22 => ?_)
                          · refine hp_ic_eq hm (at1 26 rfl) rfl (by exact trivial) (pc' := 372) rfl 18 rfl (tgt := 385) rfl (fun c23 => ?_) (fun c23 => ?_)
                            · exact hp_lf [0, 1, 2, 3, 4, 5] rfl (fun _ e => e)
                            · refine hp_cVS (M2 := M_Mo_shiftBy) hm (at1 27 rfl) (as := [(.int p20.1), (.long (Int32.toInt64 a12)), (.int (0 : Int32))]) (rest := []) (z := 192) rfl (by exact trivial) (pc' := 382) rfl 17 rfl (lw_g (lw_at lw_m10 65 rfl) rfl) y_Mo_shiftBy rfl (d2 := 4) ⟨le_b rfl, pd_Mo_shiftBy, le_b rfl⟩ (le_b rfl) og_192 (k_Mo_shiftBy p20.1 (Int32.toInt64 a12) (0 : Int32) p20.2) (fun _ h4 => ?_)
                              exact hp_lf [0, 1, 2, 3, 4, 5] rfl (fun _ e => e)
                          · refine hp_z hm (at1 28 rfl) (fun (v24 : Int32) => [(9, (.int v24)), (0, (.ref 192)), (5, (.int a10)), (6, (.int a12)), (7, (.int a13)), (8, (.int p15))]) (fun (v24 : Int32) => []) rfl (by exact trivial) (pc' := 388) rfl (fun v24 => ?_)
                            refine hp_goto hm 19 rfl (tgt := 355) rfl ?_
                            exact hp_lf [1, 2, 3, 4, 5, 0] rfl (fun _ e => e)
                      · exact hp_vr hm 21 rfl rfl (fun _ e => e)
                  · refine hp_cVS (M2 := M_Mo_fail) hm (at1 29 rfl) (as := [(.int (5 : Int32))]) (rest := []) (z := 192) rfl (by exact trivial) (pc' := 306) rfl 22 rfl (lw_g (lw_at lw_m10 4 rfl) rfl) y_Mo_fail rfl (d2 := 1) ⟨le_b rfl, pd_Mo_fail, le_b rfl⟩ (le_b rfl) og_192 (k_Mo_fail (5 : Int32) h3) (fun _ h5 => ?_)
                    exact hp_vr hm 23 rfl rfl (fun _ e => e)
                · refine hp_cO (L0 := [(7, (.int a13)), (6, (.int a12)), (5, (.int a10)), (0, (.ref 192)), (1, (.int x1)), (2, (.int p1))]) (s0 := []) 226 232 ?_ ?_ ?_
                  · refine hp_ic_ne hm (at1 30 rfl) rfl (by exact og_192) (pc' := 209) rfl 27 rfl (tgt := 226) rfl (fun c32 => ?_) (fun c32 => ?_)
                    · exact hp_l0 (fun _ e => e)
                    · refine hp_cI (L0 := [(7, (.int a13)), (6, (.int a12)), (5, (.int a10)), (0, (.ref 192)), (1, (.int x1)), (2, (.int p1))]) (s0 := []) 226 232 ?_ (fun c31 => ?_) (fun c31 => ?_)
                      · refine hp_or ?_
                        refine hp_if_lt hm (at1 31 rfl) rfl (by exact trivial) (pc' := 214) rfl 26 rfl (tgt := 226) rfl (fun c28 => ?_) (fun c28 => ?_)
                        · exact hp_l0 (fun _ e => e)
                        · refine hp_decn ?_
                          refine hp_ic_lt hm (at1 32 rfl) rfl (by exact og_192) (pc' := 223) rfl 25 rfl (tgt := 232) rfl (fun c27 => ?_) (fun c27 => ?_)
                          · exact hp_l0 (fun _ e => e)
                          · exact hp_l0 (fun _ e => e)
                      · exact hp_l0 (fun _ e => e)
                      · exact hp_l0 (fun _ e => e)
                  · refine hp_cVS (M2 := M_Mo_fail) hm (at1 33 rfl) (as := [(.int (5 : Int32))]) (rest := []) (z := 192) rfl (by exact trivial) (pc' := 228) rfl 28 rfl (lw_g (lw_at lw_m10 4 rfl) rfl) y_Mo_fail rfl (d2 := 1) ⟨le_b rfl, pd_Mo_fail, le_b rfl⟩ (le_b rfl) og_192 (k_Mo_fail (5 : Int32) h3) (fun _ h6 => ?_)
                    exact hp_vr hm 29 rfl rfl (fun _ e => e)
                  · refine hp_J 252 (fun (p39 : Int32) => [(0, (.ref 192)), (5, (.int a10)), (6, (.int a12)), (7, (.int a13))]) (fun (p39 : Int32) => [(.int p39)]) (fun (p39 : Int32) => h3) ?_ (fun p39 => ?_)
                    · refine hp_if_ne hm (at1 34 rfl) rfl (by exact trivial) (pc' := 234) rfl 31 rfl (tgt := 241) rfl (fun c41 => ?_) (fun c41 => ?_)
                      · refine hp_G hm (at1 35 rfl) (L' := [(7, (.int a13)), (6, (.int a12)), (5, (.int a10)), (0, (.ref 192)), (1, (.int x1)), (2, (.int p1))]) (st' := [(.int ((rdI h3 218 (Int32.toNatClampNeg (a13 - (1 : Int32)))) + (1 : Int32)))]) rfl (fun hP => (by exact ⟨og_192, ⟨og_218, hP⟩⟩)) (pc' := 252) rfl (fun q40 => ?_)
                        exact hp_lf [3, 2, 1, 0] rfl (fun _ e => e)
                      · refine hp_b hm (at1 36 rfl) (L' := [(7, (.int a13)), (6, (.int a12)), (5, (.int a10)), (0, (.ref 192)), (1, (.int x1)), (2, (.int p1))]) (st' := [(.int (0 : Int32))]) rfl (by exact trivial) (pc' := 238) rfl ?_
                        refine hp_goto hm 30 rfl (tgt := 252) rfl ?_
                        exact hp_lf [3, 2, 1, 0] rfl (fun _ e => e)
                    · refine hp_b hm (at1 37 rfl) (L' := [(8, (.int p39)), (0, (.ref 192)), (5, (.int a10)), (6, (.int a12)), (7, (.int a13))]) (st' := []) rfl (by exact trivial) (pc' := 254) rfl ?_
                      refine hp_J 294 (fun (p43 : hH) => []) (fun (p43 : hH) => []) (fun (p43 : hH) => p43) ?_ (fun p43 => ?_)
                      · refine hp_s [1, 2, 3, 4, 0] rfl (L' := [(0, (.ref 192)), (5, (.int a10)), (6, (.int a12)), (7, (.int a13)), (8, (.int p39))]) ?_
                        refine hp_wh (fun (p42 : (Int32 × hH)) => [(0, (.ref 192)), (5, (.int a10)), (6, (.int a12)), (7, (.int a13)), (8, (.int p42.1))]) [] (fun (p42 : (Int32 × hH)) => p42.2) (fun p42 => ?_) (p39, h3)
                        refine hp_G hm (at1 38 rfl) (L' := [(0, (.ref 192)), (5, (.int a10)), (6, (.int a12)), (7, (.int a13)), (8, (.int p42.1))]) (st' := [(.int (rdI p42.2 218 (Int32.toNatClampNeg a13))), (.int p42.1)]) rfl (fun hP => (by exact ⟨og_192, ⟨og_218, hP⟩⟩)) (pc' := 263) rfl (fun q44 => ?_)
                        refine hp_ic_gt hm at0 rfl (by exact trivial) (pc' := 263) rfl 35 rfl (tgt := 294) rfl (fun c48 => ?_) (fun c48 => ?_)
                        · exact hp_lf [] rfl (fun _ e => e)
                        · refine hp_J 288 (fun (p45 : hH) => [(0, (.ref 192)), (5, (.int a10)), (6, (.int a12)), (7, (.int a13)), (8, (.int p42.1))]) (fun (p45 : hH) => []) (fun (p45 : hH) => p45) ?_ (fun p45 => ?_)
                          · refine hp_ic_eq hm (at1 39 rfl) rfl (by exact trivial) (pc' := 273) rfl 33 rfl (tgt := 288) rfl (fun c46 => ?_) (fun c46 => ?_)
                            · exact hp_lf [0, 1, 2, 3, 4] rfl (fun _ e => e)
                            · refine hp_cVS (M2 := M_Mo_move) hm (at1 40 rfl) (as := [(.int ((102 : Int32) + p42.1)), (.long (Int32.toInt64 a12))]) (rest := []) (z := 192) rfl (by exact trivial) (pc' := 285) rfl 32 rfl (lw_g (lw_at lw_m10 61 rfl) rfl) y_Mo_move rfl (d2 := 5) ⟨le_b rfl, pd_Mo_move, le_b rfl⟩ (le_b rfl) og_192 (k_Mo_move ((102 : Int32) + p42.1) (Int32.toInt64 a12) p42.2) (fun _ h7 => ?_)
                              exact hp_lf [0, 1, 2, 3, 4] rfl (fun _ e => e)
                          · refine hp_z hm (at1 41 rfl) (fun (v47 : Int32) => [(8, (.int v47)), (0, (.ref 192)), (5, (.int a10)), (6, (.int a12)), (7, (.int a13))]) (fun (v47 : Int32) => []) rfl (by exact trivial) (pc' := 291) rfl (fun v47 => ?_)
                            refine hp_goto hm 34 rfl (tgt := 254) rfl ?_
                            exact hp_lf [1, 2, 3, 4, 0] rfl (fun _ e => e)
                      · exact hp_vr hm 36 rfl rfl (fun _ e => e)
              · refine hp_b hm (at1 42 rfl) (L' := [(7, (.int (0 : Int32))), (6, (.int a12)), (5, (.int a10)), (0, (.ref 192)), (1, (.int x1)), (2, (.int p1))]) (st' := []) rfl (by exact trivial) (pc' := 137) rfl ?_
                refine hp_J 186 (fun (p51 : hH) => [(0, (.ref 192))]) (fun (p51 : hH) => []) (fun (p51 : hH) => p51) ?_ (fun p51 => ?_)
                · refine hp_s [3, 5, 1, 0] rfl (L' := [(0, (.ref 192)), (2, (.int p1)), (6, (.int a12)), (7, (.int (0 : Int32)))]) ?_
                  refine hp_wh (fun (p50 : (Int32 × hH)) => [(0, (.ref 192)), (2, (.int p1)), (6, (.int a12)), (7, (.int p50.1))]) [] (fun (p50 : (Int32 × hH)) => p50.2) (fun p50 => ?_) ((0 : Int32), h2)
                  refine hp_cI (L0 := [(0, (.ref 192)), (2, (.int p1)), (6, (.int a12)), (7, (.int p50.1))]) (s0 := []) 150 186 ?_ (fun c56 => ?_) (fun c56 => ?_)
                  · refine hp_nand ?_
                    refine hp_ic_ge hm (at1 43 rfl) rfl (by exact trivial) (pc' := 140) rfl 39 rfl (tgt := 186) rfl (fun c53 => ?_) (fun c53 => ?_)
                    · exact hp_l0 (fun _ e => e)
                    · refine hp_dec ?_
                      refine hp_if_ne hm (at1 44 rfl) rfl (by exact og_192) (pc' := 147) rfl 38 rfl (tgt := 186) rfl (fun c52 => ?_) (fun c52 => ?_)
                      · exact hp_l0 (fun _ e => e)
                      · exact hp_l0 (fun _ e => e)
                  · refine hp_cVS (M2 := M_Mo_pop) hm (at1 45 rfl) (as := []) (rest := [(.int (rdI p50.2 192 74)), (.ref 192)]) (z := 192) rfl (by exact og_192) (pc' := 156) rfl 40 rfl (lw_g (lw_at lw_m10 24 rfl) rfl) y_Mo_pop rfl (d2 := 1) ⟨le_b rfl, pd_Mo_pop, le_b rfl⟩ (le_b rfl) og_192 (k_Mo_pop p50.2) (fun a57 h8 => ?_)
                    refine hp_cVS (M2 := M_Mo_pointOf) hm at0 (as := [(.int (rdI p50.2 192 74)), (.int a57)]) (rest := []) (z := 192) rfl (by exact trivial) (pc' := 159) rfl 41 rfl (lw_g (lw_at lw_m10 28 rfl) rfl) y_Mo_pointOf rfl (d2 := 2) ⟨le_b rfl, pd_Mo_pointOf, le_b rfl⟩ (le_b rfl) og_192 (k_Mo_pointOf (rdI p50.2 192 74) a57 h8) (fun a58 h9 => ?_)
                    refine hp_b hm (at1 46 rfl) (L' := [(8, (.int a58)), (0, (.ref 192)), (2, (.int p1)), (6, (.int a12)), (7, (.int p50.1))]) (st' := [(.int (rdI h9 192 59))]) rfl (by exact og_192) (pc' := 168) rfl ?_
                    refine hp_J 180 (fun (p59 : hH) => [(0, (.ref 192)), (2, (.int p1)), (6, (.int a12)), (7, (.int p50.1))]) (fun (p59 : hH) => []) (fun (p59 : hH) => p59) ?_ (fun p59 => ?_)
                    · refine hp_if_ne hm at0 rfl (by exact trivial) (pc' := 168) rfl 43 rfl (tgt := 180) rfl (fun c60 => ?_) (fun c60 => ?_)
                      · exact hp_lf [1, 2, 3, 4] rfl (fun _ e => e)
                      · refine hp_cVS (M2 := M_Mo_move) hm (at1 47 rfl) (as := [(.int a58), (.long (Int32.toInt64 a12))]) (rest := []) (z := 192) rfl (by exact trivial) (pc' := 177) rfl 42 rfl (lw_g (lw_at lw_m10 61 rfl) rfl) y_Mo_move rfl (d2 := 5) ⟨le_b rfl, pd_Mo_move, le_b rfl⟩ (le_b rfl) og_192 (k_Mo_move a58 (Int32.toInt64 a12) h9) (fun _ h10 => ?_)
                        exact hp_lf [1, 2, 3, 4] rfl (fun _ e => e)
                    · refine hp_z hm (at1 48 rfl) (fun (v61 : Int32) => [(7, (.int v61)), (0, (.ref 192)), (2, (.int p1)), (6, (.int a12))]) (fun (v61 : Int32) => []) rfl (by exact trivial) (pc' := 183) rfl (fun v61 => ?_)
                      refine hp_goto hm 44 rfl (tgt := 137) rfl ?_
                      exact hp_lf [1, 2, 3, 0] rfl (fun _ e => e)
                  · exact hp_lf [0] rfl (fun _ e => e)
                · refine hp_w hm (at1 49 rfl) (L' := [(0, (.ref 192))]) rfl (by exact og_192) (pc' := 191) rfl (fun h11 => ?_)
                  exact hp_vr hm 45 rfl rfl (fun _ e => e)
            · exact hp_vr hm 47 rfl rfl (fun _ e => e)
    · exact hp_vr hm 49 rfl rfl (fun _ e => e)
/-! HintHouseModel.inBetween(I)V -/
def M_Mo_inBetween : hM := (11, ⟨"HintHouseModel", "inBetween", "(I)V"⟩, prog_13_method_85_code, 9, (Option.none : Option Jvm.ClassFile.FieldType), [], [(0, [(.aload_n 0, 1, 0, 0, 0, .null), (.aload_n 0, 1, 0, 0, 0, .null), (.getfield 460, 3, 11, 72, 0, .null), (.aload_n 0, 1, 0, 0, 0, .null), (.getfield 454, 3, 11, 70, 0, .null)]), (12, [(.istore_n 2, 1, 0, 0, 0, .null), (.aload_n 0, 1, 0, 0, 0, .null), (.aload_n 0, 1, 0, 0, 0, .null), (.getfield 463, 3, 11, 73, 0, .null), (.aload_n 0, 1, 0, 0, 0, .null), (.getfield 457, 3, 11, 71, 0, .null)]), (25, [(.istore_n 3, 1, 0, 0, 0, .null), (.aload_n 0, 1, 0, 0, 0, .null), (.getfield 409, 3, 11, 59, 0, .null)]), (34, [(.aload_n 0, 1, 0, 0, 0, .null), (.iload_n 1, 1, 0, 0, 0, .null), (.iload_n 2, 1, 0, 0, 0, .null)]), (40, [(.istore 4, 2, 0, 0, 0, .null), (.aload_n 0, 1, 0, 0, 0, .null), (.iload_n 3, 1, 0, 0, 0, .null), (.iload_n 2, 1, 0, 0, 0, .null)]), (48, [(.istore 5, 2, 0, 0, 0, .null), (.aload_n 0, 1, 0, 0, 0, .null), (.iload_n 3, 1, 0, 0, 0, .null), (.iload_n 2, 1, 0, 0, 0, .null)]), (56, [(.istore 6, 2, 0, 0, 0, .null), (.iload 5, 2, 0, 0, 0, .null)]), (69, [(.iload 4, 2, 0, 0, 0, .null), (.i2l, 1, 0, 0, 0, .null), (.iload 6, 2, 0, 0, 0, .null), (.i2l, 1, 0, 0, 0, .null), (.lmul, 1, 0, 0, 0, .null), (.iload 5, 2, 0, 0, 0, .null), (.i2l, 1, 0, 0, 0, .null)]), (63, [(.iload 4, 2, 0, 0, 0, .null), (.i2l, 1, 0, 0, 0, .null)]), (82, [(.lstore 7, 2, 0, 0, 0, .null), (.aload_n 0, 1, 0, 0, 0, .null), (.iload_n 1, 1, 0, 0, 0, .null), (.lload 7, 2, 0, 0, 0, .null), (.aload_n 0, 1, 0, 0, 0, .null), (.iload_n 1, 1, 0, 0, 0, .null), (.iload_n 2, 1, 0, 0, 0, .null)]), (94, [(.i2l, 1, 0, 0, 0, .null), (.lsub, 1, 0, 0, 0, .null)])], [(9, .invokevirtual 582, 3), (22, .invokevirtual 582, 3), (37, .invokevirtual 680, 3), (45, .invokevirtual 680, 3), (53, .invokevirtual 627, 3), (79, .invokestatic 194, 3), (66, .goto 16, 3), (60, .ifCond .ne 9, 3), (91, .invokevirtual 627, 3), (96, .invokevirtual 630, 3), (99, .return_, 1), (33, .return_, 1), (30, .ifCond .le 4, 3)])
set_option maxRecDepth 100000 in
theorem m_Mo_inBetween : hx_mok M_Mo_inBetween = true := by decide +kernel
theorem pd_Mo_inBetween : (parseMethodDescriptor M_Mo_inBetween.2.1.desc).map (fun q => q.parameters.length) = some 1 := by decide +kernel
theorem y_Mo_inBetween : hx_okV M_Mo_inBetween := ⟨⟨lw_g (lw_at lw_m10 178 rfl) rfl, lw_g (lw_at lw_m10 177 rfl) rfl, qs171, lw_g (lw_at lw_m1 12 rfl) rfl, rfl, by decide, by decide, by decide⟩, rfl, by decide, plainFor_of_name (by decide)⟩
noncomputable def f_Mo_inBetween (x1 : Int32) (h : hH) : Option (Unit × hH) :=
  bS (f_Mo_pointOf (rdI h 192 72) (rdI h 192 70) h) fun a1 h1 =>
  bS (f_Mo_pointOf (rdI h1 192 73) (rdI h1 192 71) h1) fun a2 h2 =>
  if (rdI h2 192 59) ≤ 0 then (
    bP (f_Mo_originally x1 a1 h2) fun a3 =>
    bP (f_Mo_originally a2 a1 h2) fun a4 =>
    bP (f_Mo_between a2 a1 h2) fun a5 =>
    bP (A := Int64) (
      if a4 = 0 then (
        some (Int32.toInt64 a3)
      ) else (
        bP (f_Mo_nearest ((Int32.toInt64 a3) * (Int32.toInt64 a5)) (Int32.toInt64 a4)) fun a7 =>
        some a7
      )
    ) fun p6 =>
    bP (f_Mo_between x1 a1 h2) fun a9 =>
    bS (f_Mo_move x1 (p6 - (Int32.toInt64 a9)) h2) fun _ h3 =>
    some ((), h3)
  ) else (
    some ((), h2)
  )
set_option maxRecDepth 20000 in
theorem k_Mo_inBetween (x1 : Int32) (h : hH) : hx_kS S0 M_Mo_inBetween 6 NT [(.ref 192), (.int x1)] h (f_Mo_inBetween x1 h) cvU := by
  have hm := m_Mo_inBetween
  show hx_P S0 M_Mo_inBetween 6 0 [(0, (.ref 192)), (1, (.int x1))] [] NT h (f_Mo_inBetween x1 h) (hx_Rc cvU NT)
  unfold f_Mo_inBetween
  refine hp_cVS (M2 := M_Mo_pointOf) hm (at1 0 rfl) (as := [(.int (rdI h 192 72)), (.int (rdI h 192 70))]) (rest := []) (z := 192) rfl (by exact ⟨og_192, og_192⟩) (pc' := 9) rfl 0 rfl (lw_g (lw_at lw_m10 28 rfl) rfl) y_Mo_pointOf rfl (d2 := 2) ⟨le_b rfl, pd_Mo_pointOf, le_b rfl⟩ (le_b rfl) og_192 (k_Mo_pointOf (rdI h 192 72) (rdI h 192 70) h) (fun a1 h1 => ?_)
  refine hp_b hm (at1 1 rfl) (L' := [(2, (.int a1)), (0, (.ref 192)), (1, (.int x1))]) (st' := [(.int (rdI h1 192 71)), (.int (rdI h1 192 73)), (.ref 192)]) rfl (by exact ⟨og_192, og_192⟩) (pc' := 22) rfl ?_
  refine hp_cVS (M2 := M_Mo_pointOf) hm at0 (as := [(.int (rdI h1 192 73)), (.int (rdI h1 192 71))]) (rest := []) (z := 192) rfl (by exact trivial) (pc' := 22) rfl 1 rfl (lw_g (lw_at lw_m10 28 rfl) rfl) y_Mo_pointOf rfl (d2 := 2) ⟨le_b rfl, pd_Mo_pointOf, le_b rfl⟩ (le_b rfl) og_192 (k_Mo_pointOf (rdI h1 192 73) (rdI h1 192 71) h1) (fun a2 h2 => ?_)
  refine hp_b hm (at1 2 rfl) (L' := [(3, (.int a2)), (2, (.int a1)), (0, (.ref 192)), (1, (.int x1))]) (st' := [(.int (rdI h2 192 59))]) rfl (by exact og_192) (pc' := 30) rfl ?_
  refine hp_if_le hm at0 rfl (by exact trivial) (pc' := 30) rfl 12 rfl (tgt := 34) rfl (fun c10 => ?_) (fun c10 => ?_)
  · refine hp_cVP (M2 := M_Mo_originally) hm (at1 3 rfl) (as := [(.int x1), (.int a1)]) (rest := []) (z := 192) rfl (by exact trivial) (pc' := 37) rfl 2 rfl (lw_g (lw_at lw_m10 32 rfl) rfl) y_Mo_originally rfl (d2 := 5) ⟨le_b rfl, pd_Mo_originally, le_b rfl⟩ (le_b rfl) og_192 (k_Mo_originally x1 a1 h2) (fun a3 => ?_)
    refine hp_b hm (at1 4 rfl) (L' := [(4, (.int a3)), (3, (.int a2)), (2, (.int a1)), (0, (.ref 192)), (1, (.int x1))]) (st' := [(.int a1), (.int a2), (.ref 192)]) rfl (by exact trivial) (pc' := 45) rfl ?_
    refine hp_cVP (M2 := M_Mo_originally) hm at0 (as := [(.int a2), (.int a1)]) (rest := []) (z := 192) rfl (by exact trivial) (pc' := 45) rfl 3 rfl (lw_g (lw_at lw_m10 32 rfl) rfl) y_Mo_originally rfl (d2 := 5) ⟨le_b rfl, pd_Mo_originally, le_b rfl⟩ (le_b rfl) og_192 (k_Mo_originally a2 a1 h2) (fun a4 => ?_)
    refine hp_b hm (at1 5 rfl) (L' := [(5, (.int a4)), (4, (.int a3)), (3, (.int a2)), (2, (.int a1)), (0, (.ref 192)), (1, (.int x1))]) (st' := [(.int a1), (.int a2), (.ref 192)]) rfl (by exact trivial) (pc' := 53) rfl ?_
    refine hp_cVP (M2 := M_Mo_between) hm at0 (as := [(.int a2), (.int a1)]) (rest := []) (z := 192) rfl (by exact trivial) (pc' := 53) rfl 4 rfl (lw_g (lw_at lw_m10 57 rfl) rfl) y_Mo_between rfl (d2 := 5) ⟨le_b rfl, pd_Mo_between, le_b rfl⟩ (le_b rfl) og_192 (k_Mo_between a2 a1 h2) (fun a5 => ?_)
    refine hp_b hm (at1 6 rfl) (L' := [(6, (.int a5)), (5, (.int a4)), (4, (.int a3)), (3, (.int a2)), (2, (.int a1)), (0, (.ref 192)), (1, (.int x1))]) (st' := [(.int a4)]) rfl (by exact trivial) (pc' := 60) rfl ?_
    refine hp_J 82 (fun (p6 : Int64) => [(0, (.ref 192)), (1, (.int x1)), (2, (.int a1))]) (fun (p6 : Int64) => [(.long p6)]) (fun (p6 : Int64) => h2) ?_ (fun p6 => ?_)
    · refine hp_if_ne hm at0 rfl (by exact trivial) (pc' := 60) rfl 7 rfl (tgt := 69) rfl (fun c8 => ?_) (fun c8 => ?_)
      · refine hp_cSP (M2 := M_Mo_nearest) hm (at1 7 rfl) (as := [(.long ((Int32.toInt64 a3) * (Int32.toInt64 a5))), (.long (Int32.toInt64 a4))]) (rest := []) rfl (by exact trivial) (pc' := 79) rfl 5 rfl (lw_g (lw_at lw_m9 220 rfl) rfl) y_Mo_nearest rfl (d2 := 2) ⟨le_b rfl, pd_Mo_nearest, le_b rfl⟩ (le_b rfl) (k_Mo_nearest ((Int32.toInt64 a3) * (Int32.toInt64 a5)) (Int32.toInt64 a4) h2) (fun a7 => ?_)
        exact hp_lf [5, 6, 4] rfl (fun _ e => e)
      · refine hp_b hm (at1 8 rfl) (L' := [(6, (.int a5)), (5, (.int a4)), (4, (.int a3)), (3, (.int a2)), (2, (.int a1)), (0, (.ref 192)), (1, (.int x1))]) (st' := [(.long (Int32.toInt64 a3))]) rfl (by exact trivial) (pc' := 66) rfl ?_
        refine hp_goto hm 6 rfl (tgt := 82) rfl ?_
        exact hp_lf [5, 6, 4] rfl (fun _ e => e)
    · refine hp_b hm (at1 9 rfl) (L' := [(7, (.long p6)), (0, (.ref 192)), (1, (.int x1)), (2, (.int a1))]) (st' := [(.int a1), (.int x1), (.ref 192), (.long p6), (.int x1), (.ref 192)]) rfl (by exact trivial) (pc' := 91) rfl ?_
      refine hp_cVP (M2 := M_Mo_between) hm at0 (as := [(.int x1), (.int a1)]) (rest := [(.long p6), (.int x1), (.ref 192)]) (z := 192) rfl (by exact trivial) (pc' := 91) rfl 8 rfl (lw_g (lw_at lw_m10 57 rfl) rfl) y_Mo_between rfl (d2 := 5) ⟨le_b rfl, pd_Mo_between, le_b rfl⟩ (le_b rfl) og_192 (k_Mo_between x1 a1 h2) (fun a9 => ?_)
      refine hp_cVS (M2 := M_Mo_move) hm (at1 10 rfl) (as := [(.int x1), (.long (p6 - (Int32.toInt64 a9)))]) (rest := []) (z := 192) rfl (by exact trivial) (pc' := 96) rfl 9 rfl (lw_g (lw_at lw_m10 61 rfl) rfl) y_Mo_move rfl (d2 := 5) ⟨le_b rfl, pd_Mo_move, le_b rfl⟩ (le_b rfl) og_192 (k_Mo_move x1 (p6 - (Int32.toInt64 a9)) h2) (fun _ h3 => ?_)
      exact hp_vr hm 10 rfl rfl (fun _ e => e)
  · exact hp_vr hm 11 rfl rfl (fun _ e => e)
/-! HintHouseModel.loops(I)V -/
def M_Mo_loops : hM := (11, ⟨"HintHouseModel", "loops", "(I)V"⟩, prog_13_method_84_code, 6, (Option.none : Option Jvm.ClassFile.FieldType), [], [(0, [(.aload_n 0, 1, 0, 0, 0, .null), (.iload_n 1, 1, 0, 0, 0, .null), (.bipush 56, 2, 0, 0, 0, (.int (56 : Int32)))]), (16, [(.aload_n 0, 1, 0, 0, 0, .null), (.getfield 469, 3, 11, 75, 0, .null)]), (7, [(.aload_n 0, 1, 0, 0, 0, .null), (.getfield 469, 3, 11, 75, 0, .null), (.iconst 1, 1, 0, 0, 0, (.int (1 : Int32))), (.iadd, 1, 0, 0, 0, .null)]), (27, [(.iload_n 1, 1, 0, 0, 0, .null), (.bipush 56, 2, 0, 0, 0, (.int (56 : Int32)))]), (40, [(.iconst 0, 1, 0, 0, 0, (.int (0 : Int32)))]), (33, [(.aload_n 0, 1, 0, 0, 0, .null)]), (41, [(.istore_n 2, 1, 0, 0, 0, .null), (.iconst 0, 1, 0, 0, 0, (.int (0 : Int32))), (.istore_n 3, 1, 0, 0, 0, .null)]), (44, [(.iload_n 3, 1, 0, 0, 0, .null), (.aload_n 0, 1, 0, 0, 0, .null), (.getfield 469, 3, 11, 75, 0, .null)]), (52, [(.aload_n 0, 1, 0, 0, 0, .null), (.getfield 409, 3, 11, 59, 0, .null)]), (59, [(.aload_n 0, 1, 0, 0, 0, .null), (.iload_n 1, 1, 0, 0, 0, .null), (.bipush 60, 2, 0, 0, 0, (.int (60 : Int32)))]), (73, [(.aload_n 0, 1, 0, 0, 0, .null), (.getfield 466, 3, 11, 74, 0, .null)]), (66, [(.aload_n 0, 1, 0, 0, 0, .null), (.getfield 463, 3, 11, 73, 0, .null)]), (77, [(.aload_n 0, 1, 0, 0, 0, .null)]), (84, [(.istore 4, 2, 0, 0, 0, .null), (.aload_n 0, 1, 0, 0, 0, .null), (.getfield 409, 3, 11, 59, 0, .null)]), (93, [(.iload_n 1, 1, 0, 0, 0, .null), (.bipush 56, 2, 0, 0, 0, (.int (56 : Int32)))]), (170, [(.iload_n 1, 1, 0, 0, 0, .null), (.bipush 60, 2, 0, 0, 0, (.int (60 : Int32)))]), (216, [(.aload_n 0, 1, 0, 0, 0, .null), (.iload 4, 2, 0, 0, 0, .null)]), (176, [(.aload_n 0, 1, 0, 0, 0, .null), (.aload_n 0, 1, 0, 0, 0, .null), (.getfield 460, 3, 11, 72, 0, .null), (.aload_n 0, 1, 0, 0, 0, .null), (.getfield 451, 3, 11, 69, 0, .null)]), (188, [(.istore 5, 2, 0, 0, 0, .null), (.aload_n 0, 1, 0, 0, 0, .null), (.getfield 409, 3, 11, 59, 0, .null)]), (197, [(.aload_n 0, 1, 0, 0, 0, .null), (.iload 4, 2, 0, 0, 0, .null), (.aload_n 0, 1, 0, 0, 0, .null), (.iload 4, 2, 0, 0, 0, .null), (.iload 5, 2, 0, 0, 0, .null)]), (208, [(.i2l, 1, 0, 0, 0, .null), (.lneg, 1, 0, 0, 0, .null)]), (99, [(.aload_n 0, 1, 0, 0, 0, .null), (.getfield 76, 3, 11, 48, 4, .null), (.iload 4, 2, 0, 0, 0, .null), (.aload_n 0, 1, 0, 0, 0, .null), (.getfield 76, 3, 11, 48, 4, .null), (.iload 4, 2, 0, 0, 0, .null), (.iaload, 1, 0, 0, 0, .null), (.i2l, 1, 0, 0, 0, .null), (.iload_n 2, 1, 0, 0, 0, .null), (.i2l, 1, 0, 0, 0, .null), (.aload_n 0, 1, 0, 0, 0, .null), (.getfield 433, 3, 11, 63, 0, .null), (.i2l, 1, 0, 0, 0, .null), (.lmul, 1, 0, 0, 0, .null), (.ldc2_w 310, 3, 0, 0, 0, (.long (16384 : Int64)))]), (127, [(.ladd, 1, 0, 0, 0, .null), (.l2i, 1, 0, 0, 0, .null), (.iastore, 1, 0, 0, 0, .null)]), (130, [(.aload_n 0, 1, 0, 0, 0, .null), (.getfield 79, 3, 11, 49, 4, .null), (.iload 4, 2, 0, 0, 0, .null), (.aload_n 0, 1, 0, 0, 0, .null), (.getfield 79, 3, 11, 49, 4, .null), (.iload 4, 2, 0, 0, 0, .null), (.iaload, 1, 0, 0, 0, .null), (.i2l, 1, 0, 0, 0, .null), (.iload_n 2, 1, 0, 0, 0, .null), (.i2l, 1, 0, 0, 0, .null), (.aload_n 0, 1, 0, 0, 0, .null), (.getfield 436, 3, 11, 64, 0, .null), (.i2l, 1, 0, 0, 0, .null), (.lmul, 1, 0, 0, 0, .null), (.ldc2_w 310, 3, 0, 0, 0, (.long (16384 : Int64)))]), (158, [(.ladd, 1, 0, 0, 0, .null), (.l2i, 1, 0, 0, 0, .null), (.iastore, 1, 0, 0, 0, .null)]), (161, [(.aload_n 0, 1, 0, 0, 0, .null), (.iload 4, 2, 0, 0, 0, .null)]), (222, [(.iinc 3 1, 3, 0, 0, 0, (.int (1 : Int32)))]), (228, [(.aload_n 0, 1, 0, 0, 0, .null), (.iconst 1, 1, 0, 0, 0, (.int (1 : Int32))), (.putfield 469, 3, 11, 75, 0, .null)])], [(13, .goto 7, 3), (4, .if_icmp .ne 12, 3), (20, .invokevirtual 576, 3), (34, .invokevirtual 579, 3), (37, .goto 4, 3), (30, .if_icmp .ne 10, 3), (56, .ifCond .ne 172, 3), (49, .if_icmp .ge 179, 3), (70, .goto 7, 3), (63, .if_icmp .ne 10, 3), (78, .invokevirtual 579, 3), (81, .invokevirtual 582, 3), (219, .invokevirtual 713, 3), (185, .invokevirtual 582, 3), (205, .invokevirtual 627, 3), (210, .invokevirtual 630, 3), (194, .ifCond .ne 19, 3), (213, .goto 9, 3), (173, .if_icmp .ne 43, 3), (124, .invokestatic 517, 3), (155, .invokestatic 517, 3), (164, .invokevirtual 526, 3), (167, .goto 55, 3), (96, .if_icmp .ne 74, 3), (90, .ifCond .ne 132, 3), (225, .goto (-181), 3), (233, .return_, 1), (26, .return_, 1), (23, .ifCond .ne 4, 3)])
set_option maxRecDepth 100000 in
theorem m_Mo_loops : hx_mok M_Mo_loops = true := by decide +kernel
theorem pd_Mo_loops : (parseMethodDescriptor M_Mo_loops.2.1.desc).map (fun q => q.parameters.length) = some 1 := by decide +kernel
theorem y_Mo_loops : hx_okV M_Mo_loops := ⟨⟨lw_g (lw_at lw_m10 174 rfl) rfl, lw_g (lw_at lw_m10 173 rfl) rfl, qs170, lw_g (lw_at lw_m1 12 rfl) rfl, rfl, by decide, by decide, by decide⟩, rfl, by decide, plainFor_of_name (by decide)⟩
noncomputable def f_Mo_loops (x1 : Int32) (h : hH) : Option (Unit × hH) :=
  lz (A := Int32) (if x1 = (56 : Int32) then ((rdI h 192 75) + (1 : Int32)) else (rdI h 192 75)) fun p1 =>
  bS (f_Mo_has p1 h) fun a3 h1 =>
  if a3 = 0 then (
    some ((), h1)
  ) else (
    bP (A := (Int32 × hH)) (
      if x1 = (56 : Int32) then (
        bS (f_Mo_pop h1) fun a5 h2 =>
        some (a5, h2)
      ) else (
        some ((0 : Int32), h1)
      )
    ) fun p4 =>
    bP (A := hH) (
      wh (A := (Int32 × hH)) (B := hH) (fun p7 =>
          if (¬ ((rdI p7.2 192 75) ≤ p7.1) ∧ (rdI p7.2 192 59) = 0) then (
            lz (A := Int32) (if x1 = (60 : Int32) then (rdI p7.2 192 73) else (rdI p7.2 192 74)) fun p14 =>
            bS (f_Mo_pop p7.2) fun a16 h3 =>
            bS (f_Mo_pointOf p14 a16 h3) fun a17 h4 =>
            bP (A := hH) (
              if (rdI h4 192 59) = 0 then (
                if x1 = (56 : Int32) then (
                  gd (vp_in a17 204) <|
                  bP (f_Mo_over ((Int32.toInt64 p4.1) * (Int32.toInt64 (rdI h4 192 63))) (16384 : Int64)) fun a25 =>
                  gd (vp_in a17 204) <|
                  lz (wrI h4 214 (Int32.toNatClampNeg a17) (Int64.toInt32 ((Int32.toInt64 (rdI h4 214 (Int32.toNatClampNeg a17))) + a25))) fun h8 =>
                  gd (vp_in a17 204) <|
                  bP (f_Mo_over ((Int32.toInt64 p4.1) * (Int32.toInt64 (rdI h8 192 64))) (16384 : Int64)) fun a28 =>
                  gd (vp_in a17 204) <|
                  lz (wrI h8 215 (Int32.toNatClampNeg a17) (Int64.toInt32 ((Int32.toInt64 (rdI h8 215 (Int32.toNatClampNeg a17))) + a28))) fun h9 =>
                  bS (f_Mo_touch a17 h9) fun _ h10 =>
                  some h10
                ) else (
                  if x1 = (60 : Int32) then (
                    bS (f_Mo_pointOf (rdI h4 192 72) (rdI h4 192 69) h4) fun a19 h6 =>
                    bP (A := hH) (
                      if (rdI h6 192 59) = 0 then (
                        bP (f_Mo_between a17 a19 h6) fun a21 =>
                        bS (f_Mo_move a17 (-(Int32.toInt64 a21)) h6) fun _ h7 =>
                        some h7
                      ) else (
                        some h6
                      )
                    ) fun p20 =>
                    some p20
                  ) else (
                    bS (f_Mo_inBetween a17 h4) fun _ h5 =>
                    some h5
                  )
                )
              ) else (
                some h4
              )
            ) fun p18 =>
            lz (A := Int32) (p7.1 + (1 : Int32)) fun v32 =>
            some (.inl (v32, p18))
          ) else (
            some (.inr p7.2)
          )
      ) ((0 : Int32), p4.2)
    ) fun p8 =>
    lz (wrI p8 192 75 (1 : Int32)) fun h11 =>
    some ((), h11)
  )
set_option maxRecDepth 20000 in
theorem k_Mo_loops (x1 : Int32) (h : hH) : hx_kS S0 M_Mo_loops 7 NT [(.ref 192), (.int x1)] h (f_Mo_loops x1 h) cvU := by
  have hm := m_Mo_loops
  show hx_P S0 M_Mo_loops 7 0 [(0, (.ref 192)), (1, (.int x1))] [] NT h (f_Mo_loops x1 h) (hx_Rc cvU NT)
  unfold f_Mo_loops
  refine hp_JZ 20 (fun (p1 : Int32) => [(0, (.ref 192)), (1, (.int x1))]) (fun (p1 : Int32) => [(.int p1), (.ref 192)]) (fun (p1 : Int32) => h) ?_ (fun p1 => ?_)
  · refine hp_sv0 ?_
    refine hp_ic_ne hm (at1 0 rfl) rfl (by exact trivial) (pc' := 4) rfl 1 rfl (tgt := 16) rfl (fun c2 => ?_) (fun c2 => ?_)
    · refine hp_b hm (at1 1 rfl) (L' := [(0, (.ref 192)), (1, (.int x1))]) (st' := [(.int (rdI h 192 75)), (.ref 192)]) rfl (by exact og_192) (pc' := 20) rfl ?_
      exact hp_lf [0, 1] rfl (fun _ e => e)
    · refine hp_b hm (at1 2 rfl) (L' := [(0, (.ref 192)), (1, (.int x1))]) (st' := [(.int ((rdI h 192 75) + (1 : Int32))), (.ref 192)]) rfl (by exact og_192) (pc' := 13) rfl ?_
      refine hp_goto hm 0 rfl (tgt := 20) rfl ?_
      exact hp_lf [0, 1] rfl (fun _ e => e)
  · refine hp_cVS (M2 := M_Mo_has) hm at0 (as := [(.int p1)]) (rest := []) (z := 192) rfl (by exact trivial) (pc' := 20) rfl 2 rfl (lw_g (lw_at lw_m10 20 rfl) rfl) y_Mo_has rfl (d2 := 2) ⟨le_b rfl, pd_Mo_has, le_b rfl⟩ (le_b rfl) og_192 (k_Mo_has p1 h) (fun a3 h1 => ?_)
    refine hp_if_ne hm at0 rfl (by exact trivial) (pc' := 23) rfl 28 rfl (tgt := 27) rfl (fun c33 => ?_) (fun c33 => ?_)
    · refine hp_J 41 (fun (p4 : (Int32 × hH)) => [(0, (.ref 192)), (1, (.int x1))]) (fun (p4 : (Int32 × hH)) => [(.int p4.1)]) (fun (p4 : (Int32 × hH)) => p4.2) ?_ (fun p4 => ?_)
      · refine hp_ic_ne hm (at1 3 rfl) rfl (by exact trivial) (pc' := 30) rfl 5 rfl (tgt := 40) rfl (fun c6 => ?_) (fun c6 => ?_)
        · refine hp_b hm (at1 4 rfl) (L' := [(0, (.ref 192)), (1, (.int x1))]) (st' := [(.int (0 : Int32))]) rfl (by exact trivial) (pc' := 41) rfl ?_
          exact hp_lf [0, 1] rfl (fun _ e => e)
        · refine hp_cVS (M2 := M_Mo_pop) hm (at1 5 rfl) (as := []) (rest := []) (z := 192) rfl (by exact trivial) (pc' := 34) rfl 3 rfl (lw_g (lw_at lw_m10 24 rfl) rfl) y_Mo_pop rfl (d2 := 1) ⟨le_b rfl, pd_Mo_pop, le_b rfl⟩ (le_b rfl) og_192 (k_Mo_pop h1) (fun a5 h2 => ?_)
          refine hp_goto hm 4 rfl (tgt := 41) rfl ?_
          exact hp_lf [0, 1] rfl (fun _ e => e)
      · refine hp_b hm (at1 6 rfl) (L' := [(3, (.int (0 : Int32))), (2, (.int p4.1)), (0, (.ref 192)), (1, (.int x1))]) (st' := []) rfl (by exact trivial) (pc' := 44) rfl ?_
        refine hp_J 228 (fun (p8 : hH) => [(0, (.ref 192))]) (fun (p8 : hH) => []) (fun (p8 : hH) => p8) ?_ (fun p8 => ?_)
        · refine hp_s [2, 3, 1, 0] rfl (L' := [(0, (.ref 192)), (1, (.int x1)), (2, (.int p4.1)), (3, (.int (0 : Int32)))]) ?_
          refine hp_wh (fun (p7 : (Int32 × hH)) => [(0, (.ref 192)), (1, (.int x1)), (2, (.int p4.1)), (3, (.int p7.1))]) [] (fun (p7 : (Int32 × hH)) => p7.2) (fun p7 => ?_) ((0 : Int32), p4.2)
          refine hp_cI (L0 := [(0, (.ref 192)), (1, (.int x1)), (2, (.int p4.1)), (3, (.int p7.1))]) (s0 := []) 59 228 ?_ (fun c13 => ?_) (fun c13 => ?_)
          · refine hp_nand ?_
            refine hp_ic_ge hm (at1 7 rfl) rfl (by exact og_192) (pc' := 49) rfl 7 rfl (tgt := 228) rfl (fun c10 => ?_) (fun c10 => ?_)
            · exact hp_l0 (fun _ e => e)
            · refine hp_dec ?_
              refine hp_if_ne hm (at1 8 rfl) rfl (by exact og_192) (pc' := 56) rfl 6 rfl (tgt := 228) rfl (fun c9 => ?_) (fun c9 => ?_)
              · exact hp_l0 (fun _ e => e)
              · exact hp_l0 (fun _ e => e)
          · refine hp_JZ 77 (fun (p14 : Int32) => [(0, (.ref 192)), (1, (.int x1)), (2, (.int p4.1)), (3, (.int p7.1))]) (fun (p14 : Int32) => [(.int p14), (.ref 192)]) (fun (p14 : Int32) => p7.2) ?_ (fun p14 => ?_)
            · refine hp_sv0 ?_
              refine hp_ic_ne hm (at1 9 rfl) rfl (by exact trivial) (pc' := 63) rfl 9 rfl (tgt := 73) rfl (fun c15 => ?_) (fun c15 => ?_)
              · refine hp_b hm (at1 10 rfl) (L' := [(0, (.ref 192)), (1, (.int x1)), (2, (.int p4.1)), (3, (.int p7.1))]) (st' := [(.int (rdI p7.2 192 74)), (.ref 192)]) rfl (by exact og_192) (pc' := 77) rfl ?_
                exact hp_lf [0, 1, 2, 3] rfl (fun _ e => e)
              · refine hp_b hm (at1 11 rfl) (L' := [(0, (.ref 192)), (1, (.int x1)), (2, (.int p4.1)), (3, (.int p7.1))]) (st' := [(.int (rdI p7.2 192 73)), (.ref 192)]) rfl (by exact og_192) (pc' := 70) rfl ?_
                refine hp_goto hm 8 rfl (tgt := 77) rfl ?_
                exact hp_lf [0, 1, 2, 3] rfl (fun _ e => e)
            · refine hp_cVS (M2 := M_Mo_pop) hm (at1 12 rfl) (as := []) (rest := [(.int p14), (.ref 192)]) (z := 192) rfl (by exact trivial) (pc' := 78) rfl 10 rfl (lw_g (lw_at lw_m10 24 rfl) rfl) y_Mo_pop rfl (d2 := 1) ⟨le_b rfl, pd_Mo_pop, le_b rfl⟩ (le_b rfl) og_192 (k_Mo_pop p7.2) (fun a16 h3 => ?_)
              refine hp_cVS (M2 := M_Mo_pointOf) hm at0 (as := [(.int p14), (.int a16)]) (rest := []) (z := 192) rfl (by exact trivial) (pc' := 81) rfl 11 rfl (lw_g (lw_at lw_m10 28 rfl) rfl) y_Mo_pointOf rfl (d2 := 2) ⟨le_b rfl, pd_Mo_pointOf, le_b rfl⟩ (le_b rfl) og_192 (k_Mo_pointOf p14 a16 h3) (fun a17 h4 => ?_)
              refine hp_b hm (at1 13 rfl) (L' := [(4, (.int a17)), (0, (.ref 192)), (1, (.int x1)), (2, (.int p4.1)), (3, (.int p7.1))]) (st' := [(.int (rdI h4 192 59))]) rfl (by exact og_192) (pc' := 90) rfl ?_
              refine hp_J 222 (fun (p18 : hH) => [(0, (.ref 192)), (1, (.int x1)), (2, (.int p4.1)), (3, (.int p7.1))]) (fun (p18 : hH) => []) (fun (p18 : hH) => p18) ?_ (fun p18 => ?_)
              · refine hp_if_ne hm at0 rfl (by exact trivial) (pc' := 90) rfl 24 rfl (tgt := 222) rfl (fun c31 => ?_) (fun c31 => ?_)
                · exact hp_lf [1, 2, 3, 4] rfl (fun _ e => e)
                · refine hp_ic_ne hm (at1 14 rfl) rfl (by exact trivial) (pc' := 96) rfl 23 rfl (tgt := 170) rfl (fun c30 => ?_) (fun c30 => ?_)
                  · refine hp_ic_ne hm (at1 15 rfl) rfl (by exact trivial) (pc' := 173) rfl 18 rfl (tgt := 216) rfl (fun c23 => ?_) (fun c23 => ?_)
                    · refine hp_cVS (M2 := M_Mo_inBetween) hm (at1 16 rfl) (as := [(.int a17)]) (rest := []) (z := 192) rfl (by exact trivial) (pc' := 219) rfl 12 rfl (lw_g (lw_at lw_m10 175 rfl) rfl) y_Mo_inBetween rfl (d2 := 6) ⟨le_b rfl, pd_Mo_inBetween, le_b rfl⟩ (le_b rfl) og_192 (k_Mo_inBetween a17 h4) (fun _ h5 => ?_)
                      exact hp_lf [1, 2, 3, 4] rfl (fun _ e => e)
                    · refine hp_cVS (M2 := M_Mo_pointOf) hm (at1 17 rfl) (as := [(.int (rdI h4 192 72)), (.int (rdI h4 192 69))]) (rest := []) (z := 192) rfl (by exact ⟨og_192, og_192⟩) (pc' := 185) rfl 13 rfl (lw_g (lw_at lw_m10 28 rfl) rfl) y_Mo_pointOf rfl (d2 := 2) ⟨le_b rfl, pd_Mo_pointOf, le_b rfl⟩ (le_b rfl) og_192 (k_Mo_pointOf (rdI h4 192 72) (rdI h4 192 69) h4) (fun a19 h6 => ?_)
                      refine hp_b hm (at1 18 rfl) (L' := [(5, (.int a19)), (4, (.int a17)), (0, (.ref 192)), (1, (.int x1)), (2, (.int p4.1)), (3, (.int p7.1))]) (st' := [(.int (rdI h6 192 59))]) rfl (by exact og_192) (pc' := 194) rfl ?_
                      refine hp_J 213 (fun (p20 : hH) => [(0, (.ref 192)), (1, (.int x1)), (2, (.int p4.1)), (3, (.int p7.1))]) (fun (p20 : hH) => []) (fun (p20 : hH) => p20) ?_ (fun p20 => ?_)
                      · refine hp_if_ne hm at0 rfl (by exact trivial) (pc' := 194) rfl 16 rfl (tgt := 213) rfl (fun c22 => ?_) (fun c22 => ?_)
                        · exact hp_lf [2, 3, 4, 5] rfl (fun _ e => e)
                        · refine hp_cVP (M2 := M_Mo_between) hm (at1 19 rfl) (as := [(.int a17), (.int a19)]) (rest := [(.int a17), (.ref 192)]) (z := 192) rfl (by exact trivial) (pc' := 205) rfl 14 rfl (lw_g (lw_at lw_m10 57 rfl) rfl) y_Mo_between rfl (d2 := 5) ⟨le_b rfl, pd_Mo_between, le_b rfl⟩ (le_b rfl) og_192 (k_Mo_between a17 a19 h6) (fun a21 => ?_)
                          refine hp_cVS (M2 := M_Mo_move) hm (at1 20 rfl) (as := [(.int a17), (.long (-(Int32.toInt64 a21)))]) (rest := []) (z := 192) rfl (by exact trivial) (pc' := 210) rfl 15 rfl (lw_g (lw_at lw_m10 61 rfl) rfl) y_Mo_move rfl (d2 := 5) ⟨le_b rfl, pd_Mo_move, le_b rfl⟩ (le_b rfl) og_192 (k_Mo_move a17 (-(Int32.toInt64 a21)) h6) (fun _ h7 => ?_)
                          exact hp_lf [2, 3, 4, 5] rfl (fun _ e => e)
                      · refine hp_goto hm 17 rfl (tgt := 222) rfl ?_
                        exact hp_lf [0, 1, 2, 3] rfl (fun _ e => e)
                  · refine hp_G hm (at1 21 rfl) (L' := [(4, (.int a17)), (0, (.ref 192)), (1, (.int x1)), (2, (.int p4.1)), (3, (.int p7.1))]) (st' := [(.long (16384 : Int64)), (.long ((Int32.toInt64 p4.1) * (Int32.toInt64 (rdI h4 192 63)))), (.long (Int32.toInt64 (rdI h4 214 (Int32.toNatClampNeg a17)))), (.int a17), (.ref 214)]) rfl (fun hP => (by exact ⟨⟨⟨og_192, og_192⟩, ⟨og_214, hP⟩⟩, og_192⟩)) (pc' := 124) rfl (fun q24 => ?_)
                    refine hp_cSP (M2 := M_Mo_over) hm at0 (as := [(.long ((Int32.toInt64 p4.1) * (Int32.toInt64 (rdI h4 192 63)))), (.long (16384 : Int64))]) (rest := [(.long (Int32.toInt64 (rdI h4 214 (Int32.toNatClampNeg a17)))), (.int a17), (.ref 214)]) rfl (by exact trivial) (pc' := 124) rfl 19 rfl (lw_g (lw_at lw_m9 217 rfl) rfl) y_Mo_over rfl (d2 := 3) ⟨le_b rfl, pd_Mo_over, le_b rfl⟩ (le_b rfl) (k_Mo_over ((Int32.toInt64 p4.1) * (Int32.toInt64 (rdI h4 192 63))) (16384 : Int64) h4) (fun a25 => ?_)
                    refine hp_GW hm (at1 22 rfl) (L' := [(4, (.int a17)), (0, (.ref 192)), (1, (.int x1)), (2, (.int p4.1)), (3, (.int p7.1))]) rfl (fun hP => (by exact ⟨og_214, hP⟩)) (pc' := 130) rfl (fun q26 h8 => ?_)
                    refine hp_G hm (at1 23 rfl) (L' := [(4, (.int a17)), (0, (.ref 192)), (1, (.int x1)), (2, (.int p4.1)), (3, (.int p7.1))]) (st' := [(.long (16384 : Int64)), (.long ((Int32.toInt64 p4.1) * (Int32.toInt64 (rdI h8 192 64)))), (.long (Int32.toInt64 (rdI h8 215 (Int32.toNatClampNeg a17)))), (.int a17), (.ref 215)]) rfl (fun hP => (by exact ⟨⟨⟨og_192, og_192⟩, ⟨og_215, hP⟩⟩, og_192⟩)) (pc' := 155) rfl (fun q27 => ?_)
                    refine hp_cSP (M2 := M_Mo_over) hm at0 (as := [(.long ((Int32.toInt64 p4.1) * (Int32.toInt64 (rdI h8 192 64)))), (.long (16384 : Int64))]) (rest := [(.long (Int32.toInt64 (rdI h8 215 (Int32.toNatClampNeg a17)))), (.int a17), (.ref 215)]) rfl (by exact trivial) (pc' := 155) rfl 20 rfl (lw_g (lw_at lw_m9 217 rfl) rfl) y_Mo_over rfl (d2 := 3) ⟨le_b rfl, pd_Mo_over, le_b rfl⟩ (le_b rfl) (k_Mo_over ((Int32.toInt64 p4.1) * (Int32.toInt64 (rdI h8 192 64))) (16384 : Int64) h8) (fun a28 => ?_)
                    refine hp_GW hm (at1 24 rfl) (L' := [(4, (.int a17)), (0, (.ref 192)), (1, (.int x1)), (2, (.int p4.1)), (3, (.int p7.1))]) rfl (fun hP => (by exact ⟨og_215, hP⟩)) (pc' := 161) rfl (fun q29 h9 => ?_)
                    refine hp_cVS (M2 := M_Mo_touch) hm (at1 25 rfl) (as := [(.int a17)]) (rest := []) (z := 192) rfl (by exact trivial) (pc' := 164) rfl 21 rfl (lw_g (lw_at lw_m10 70 rfl) rfl) y_Mo_touch rfl (d2 := 1) ⟨le_b rfl, pd_Mo_touch, le_b rfl⟩ (le_b rfl) og_192 (k_Mo_touch a17 h9) (fun _ h10 => ?_)
                    refine hp_goto hm 22 rfl (tgt := 222) rfl ?_
                    exact hp_lf [1, 2, 3, 4] rfl (fun _ e => e)
              · refine hp_z hm (at1 26 rfl) (fun (v32 : Int32) => [(3, (.int v32)), (0, (.ref 192)), (1, (.int x1)), (2, (.int p4.1))]) (fun (v32 : Int32) => []) rfl (by exact trivial) (pc' := 225) rfl (fun v32 => ?_)
                refine hp_goto hm 25 rfl (tgt := 44) rfl ?_
                exact hp_lf [1, 2, 3, 0] rfl (fun _ e => e)
          · exact hp_lf [0] rfl (fun _ e => e)
        · refine hp_w hm (at1 27 rfl) (L' := [(0, (.ref 192))]) rfl (by exact og_192) (pc' := 233) rfl (fun h11 => ?_)
          exact hp_vr hm 26 rfl rfl (fun _ e => e)
    · exact hp_vr hm 27 rfl rfl (fun _ e => e)
/-! HintHouseModel.toDistance(I)V -/
def M_Mo_toDistance : hM := (11, ⟨"HintHouseModel", "toDistance", "(I)V"⟩, prog_13_method_86_code, 6, (Option.none : Option Jvm.ClassFile.FieldType), [], [(0, [(.aload_n 0, 1, 0, 0, 0, .null), (.iconst 2, 1, 0, 0, 0, (.int (2 : Int32)))]), (9, [(.aload_n 0, 1, 0, 0, 0, .null)]), (13, [(.istore_n 2, 1, 0, 0, 0, .null), (.aload_n 0, 1, 0, 0, 0, .null)]), (18, [(.istore_n 3, 1, 0, 0, 0, .null), (.aload_n 0, 1, 0, 0, 0, .null), (.aload_n 0, 1, 0, 0, 0, .null), (.getfield 463, 3, 11, 73, 0, .null), (.iload_n 3, 1, 0, 0, 0, .null)]), (28, [(.istore 4, 2, 0, 0, 0, .null), (.aload_n 0, 1, 0, 0, 0, .null), (.aload_n 0, 1, 0, 0, 0, .null), (.getfield 460, 3, 11, 72, 0, .null), (.aload_n 0, 1, 0, 0, 0, .null), (.getfield 451, 3, 11, 69, 0, .null)]), (42, [(.istore 5, 2, 0, 0, 0, .null), (.aload_n 0, 1, 0, 0, 0, .null), (.getfield 409, 3, 11, 59, 0, .null)]), (52, [(.aload_n 0, 1, 0, 0, 0, .null), (.getfield 463, 3, 11, 73, 0, .null)]), (59, [(.aload_n 0, 1, 0, 0, 0, .null), (.iload 4, 2, 0, 0, 0, .null), (.aload_n 0, 1, 0, 0, 0, .null), (.getfield 70, 3, 11, 46, 4, .null), (.iload 5, 2, 0, 0, 0, .null), (.iaload, 1, 0, 0, 0, .null), (.i2l, 1, 0, 0, 0, .null), (.iload_n 2, 1, 0, 0, 0, .null), (.i2l, 1, 0, 0, 0, .null), (.aload_n 0, 1, 0, 0, 0, .null), (.getfield 433, 3, 11, 63, 0, .null), (.i2l, 1, 0, 0, 0, .null), (.lmul, 1, 0, 0, 0, .null), (.ldc2_w 310, 3, 0, 0, 0, (.long (16384 : Int64)))]), (84, [(.ladd, 1, 0, 0, 0, .null), (.aload_n 0, 1, 0, 0, 0, .null), (.getfield 73, 3, 11, 47, 4, .null), (.iload 5, 2, 0, 0, 0, .null), (.iaload, 1, 0, 0, 0, .null), (.i2l, 1, 0, 0, 0, .null), (.iload_n 2, 1, 0, 0, 0, .null), (.i2l, 1, 0, 0, 0, .null), (.aload_n 0, 1, 0, 0, 0, .null), (.getfield 436, 3, 11, 64, 0, .null), (.i2l, 1, 0, 0, 0, .null), (.lmul, 1, 0, 0, 0, .null), (.ldc2_w 310, 3, 0, 0, 0, (.long (16384 : Int64)))]), (107, [(.ladd, 1, 0, 0, 0, .null)]), (111, [(.aload_n 0, 1, 0, 0, 0, .null), (.iload 4, 2, 0, 0, 0, .null), (.iload_n 2, 1, 0, 0, 0, .null), (.i2l, 1, 0, 0, 0, .null), (.aload_n 0, 1, 0, 0, 0, .null), (.iload 4, 2, 0, 0, 0, .null), (.iload 5, 2, 0, 0, 0, .null)]), (124, [(.i2l, 1, 0, 0, 0, .null), (.lsub, 1, 0, 0, 0, .null)]), (129, [(.aload_n 0, 1, 0, 0, 0, .null), (.aload_n 0, 1, 0, 0, 0, .null), (.getfield 451, 3, 11, 69, 0, .null), (.putfield 454, 3, 11, 70, 0, .null)]), (137, [(.aload_n 0, 1, 0, 0, 0, .null), (.iload_n 3, 1, 0, 0, 0, .null), (.putfield 457, 3, 11, 71, 0, .null)]), (142, [(.aload_n 0, 1, 0, 0, 0, .null), (.iload_n 1, 1, 0, 0, 0, .null), (.bipush 59, 2, 0, 0, 0, (.int (59 : Int32)))]), (153, [(.aload_n 0, 1, 0, 0, 0, .null), (.getfield 451, 3, 11, 69, 0, .null)]), (149, [(.iload_n 3, 1, 0, 0, 0, .null)]), (157, [(.putfield 451, 3, 11, 69, 0, .null)])], [(2, .invokevirtual 576, 3), (10, .invokevirtual 579, 3), (15, .invokevirtual 579, 3), (25, .invokevirtual 582, 3), (39, .invokevirtual 582, 3), (81, .invokestatic 517, 3), (104, .invokestatic 517, 3), (108, .invokevirtual 716, 3), (56, .ifCond .ne 55, 3), (121, .invokevirtual 627, 3), (126, .invokevirtual 630, 3), (150, .goto 7, 3), (146, .if_icmp .ne 7, 3), (160, .return_, 1), (51, .return_, 1), (48, .ifCond .le 4, 3), (8, .return_, 1), (5, .ifCond .ne 4, 3)])
set_option maxRecDepth 100000 in
theorem m_Mo_toDistance : hx_mok M_Mo_toDistance = true := by decide +kernel
theorem pd_Mo_toDistance : (parseMethodDescriptor M_Mo_toDistance.2.1.desc).map (fun q => q.parameters.length) = some 1 := by decide +kernel
theorem y_Mo_toDistance : hx_okV M_Mo_toDistance := ⟨⟨lw_g (lw_at lw_m10 182 rfl) rfl, lw_g (lw_at lw_m10 181 rfl) rfl, qs172, lw_g (lw_at lw_m1 12 rfl) rfl, rfl, by decide, by decide, by decide⟩, rfl, by decide, plainFor_of_name (by decide)⟩
noncomputable def f_Mo_toDistance (x1 : Int32) (h : hH) : Option (Unit × hH) :=
  bS (f_Mo_has (2 : Int32) h) fun a1 h1 =>
  if a1 = 0 then (
    some ((), h1)
  ) else (
    bS (f_Mo_pop h1) fun a2 h2 =>
    bS (f_Mo_pop h2) fun a3 h3 =>
    bS (f_Mo_pointOf (rdI h3 192 73) a3 h3) fun a4 h4 =>
    bS (f_Mo_pointOf (rdI h4 192 72) (rdI h4 192 69) h4) fun a5 h5 =>
    if (rdI h5 192 59) ≤ 0 then (
      bP (A := hH) (
        if (rdI h5 192 73) = 0 then (
          gd (vp_in a5 204) <|
          bP (f_Mo_over ((Int32.toInt64 a2) * (Int32.toInt64 (rdI h5 192 63))) (16384 : Int64)) fun a8 =>
          gd (vp_in a5 204) <|
          bP (f_Mo_over ((Int32.toInt64 a2) * (Int32.toInt64 (rdI h5 192 64))) (16384 : Int64)) fun a10 =>
          bS (f_Mo_put a4 ((Int32.toInt64 (rdI h5 212 (Int32.toNatClampNeg a5))) + a8) ((Int32.toInt64 (rdI h5 213 (Int32.toNatClampNeg a5))) + a10) h5) fun _ h6 =>
          some h6
        ) else (
          some h5
        )
      ) fun p6 =>
      bP (f_Mo_between a4 a5 p6) fun a12 =>
      bS (f_Mo_move a4 ((Int32.toInt64 a2) - (Int32.toInt64 a12)) p6) fun _ h7 =>
      lz (wrI h7 192 70 (rdI h7 192 69)) fun h8 =>
      lz (wrI h8 192 71 a3) fun h9 =>
      lz (A := Int32) (if x1 = (59 : Int32) then a3 else (rdI h9 192 69)) fun p13 =>
      lz (wrI h9 192 69 p13) fun h10 =>
      some ((), h10)
    ) else (
      some ((), h5)
    )
  )
set_option maxRecDepth 20000 in
theorem k_Mo_toDistance (x1 : Int32) (h : hH) : hx_kS S0 M_Mo_toDistance 6 NT [(.ref 192), (.int x1)] h (f_Mo_toDistance x1 h) cvU := by
  have hm := m_Mo_toDistance
  show hx_P S0 M_Mo_toDistance 6 0 [(0, (.ref 192)), (1, (.int x1))] [] NT h (f_Mo_toDistance x1 h) (hx_Rc cvU NT)
  unfold f_Mo_toDistance
  refine hp_cVS (M2 := M_Mo_has) hm (at1 0 rfl) (as := [(.int (2 : Int32))]) (rest := []) (z := 192) rfl (by exact trivial) (pc' := 2) rfl 0 rfl (lw_g (lw_at lw_m10 20 rfl) rfl) y_Mo_has rfl (d2 := 2) ⟨le_b rfl, pd_Mo_has, le_b rfl⟩ (le_b rfl) og_192 (k_Mo_has (2 : Int32) h) (fun a1 h1 => ?_)
  refine hp_if_ne hm at0 rfl (by exact trivial) (pc' := 5) rfl 17 rfl (tgt := 9) rfl (fun c16 => ?_) (fun c16 => ?_)
  · refine hp_cVS (M2 := M_Mo_pop) hm (at1 1 rfl) (as := []) (rest := []) (z := 192) rfl (by exact trivial) (pc' := 10) rfl 1 rfl (lw_g (lw_at lw_m10 24 rfl) rfl) y_Mo_pop rfl (d2 := 1) ⟨le_b rfl, pd_Mo_pop, le_b rfl⟩ (le_b rfl) og_192 (k_Mo_pop h1) (fun a2 h2 => ?_)
    refine hp_b hm (at1 2 rfl) (L' := [(2, (.int a2)), (0, (.ref 192)), (1, (.int x1))]) (st' := [(.ref 192)]) rfl (by exact trivial) (pc' := 15) rfl ?_
    refine hp_cVS (M2 := M_Mo_pop) hm at0 (as := []) (rest := []) (z := 192) rfl (by exact trivial) (pc' := 15) rfl 2 rfl (lw_g (lw_at lw_m10 24 rfl) rfl) y_Mo_pop rfl (d2 := 1) ⟨le_b rfl, pd_Mo_pop, le_b rfl⟩ (le_b rfl) og_192 (k_Mo_pop h2) (fun a3 h3 => ?_)
    refine hp_b hm (at1 3 rfl) (L' := [(3, (.int a3)), (2, (.int a2)), (0, (.ref 192)), (1, (.int x1))]) (st' := [(.int a3), (.int (rdI h3 192 73)), (.ref 192)]) rfl (by exact og_192) (pc' := 25) rfl ?_
    refine hp_cVS (M2 := M_Mo_pointOf) hm at0 (as := [(.int (rdI h3 192 73)), (.int a3)]) (rest := []) (z := 192) rfl (by exact trivial) (pc' := 25) rfl 3 rfl (lw_g (lw_at lw_m10 28 rfl) rfl) y_Mo_pointOf rfl (d2 := 2) ⟨le_b rfl, pd_Mo_pointOf, le_b rfl⟩ (le_b rfl) og_192 (k_Mo_pointOf (rdI h3 192 73) a3 h3) (fun a4 h4 => ?_)
    refine hp_b hm (at1 4 rfl) (L' := [(4, (.int a4)), (3, (.int a3)), (2, (.int a2)), (0, (.ref 192)), (1, (.int x1))]) (st' := [(.int (rdI h4 192 69)), (.int (rdI h4 192 72)), (.ref 192)]) rfl (by exact ⟨og_192, og_192⟩) (pc' := 39) rfl ?_
    refine hp_cVS (M2 := M_Mo_pointOf) hm at0 (as := [(.int (rdI h4 192 72)), (.int (rdI h4 192 69))]) (rest := []) (z := 192) rfl (by exact trivial) (pc' := 39) rfl 4 rfl (lw_g (lw_at lw_m10 28 rfl) rfl) y_Mo_pointOf rfl (d2 := 2) ⟨le_b rfl, pd_Mo_pointOf, le_b rfl⟩ (le_b rfl) og_192 (k_Mo_pointOf (rdI h4 192 72) (rdI h4 192 69) h4) (fun a5 h5 => ?_)
    refine hp_b hm (at1 5 rfl) (L' := [(5, (.int a5)), (4, (.int a4)), (3, (.int a3)), (2, (.int a2)), (0, (.ref 192)), (1, (.int x1))]) (st' := [(.int (rdI h5 192 59))]) rfl (by exact og_192) (pc' := 48) rfl ?_
    refine hp_if_le hm at0 rfl (by exact trivial) (pc' := 48) rfl 15 rfl (tgt := 52) rfl (fun c15 => ?_) (fun c15 => ?_)
    · refine hp_J 111 (fun (p6 : hH) => [(0, (.ref 192)), (1, (.int x1)), (2, (.int a2)), (3, (.int a3)), (4, (.int a4)), (5, (.int a5))]) (fun (p6 : hH) => []) (fun (p6 : hH) => p6) ?_ (fun p6 => ?_)
      · refine hp_if_ne hm (at1 6 rfl) rfl (by exact og_192) (pc' := 56) rfl 8 rfl (tgt := 111) rfl (fun c11 => ?_) (fun c11 => ?_)
        · exact hp_lf [4, 5, 3, 2, 1, 0] rfl (fun _ e => e)
        · refine hp_G hm (at1 7 rfl) (L' := [(5, (.int a5)), (4, (.int a4)), (3, (.int a3)), (2, (.int a2)), (0, (.ref 192)), (1, (.int x1))]) (st' := [(.long (16384 : Int64)), (.long ((Int32.toInt64 a2) * (Int32.toInt64 (rdI h5 192 63)))), (.long (Int32.toInt64 (rdI h5 212 (Int32.toNatClampNeg a5)))), (.int a4), (.ref 192)]) rfl (fun hP => (by exact ⟨⟨og_192, ⟨og_212, hP⟩⟩, og_192⟩)) (pc' := 81) rfl (fun q7 => ?_)
          refine hp_cSP (M2 := M_Mo_over) hm at0 (as := [(.long ((Int32.toInt64 a2) * (Int32.toInt64 (rdI h5 192 63)))), (.long (16384 : Int64))]) (rest := [(.long (Int32.toInt64 (rdI h5 212 (Int32.toNatClampNeg a5)))), (.int a4), (.ref 192)]) rfl (by exact trivial) (pc' := 81) rfl 5 rfl (lw_g (lw_at lw_m9 217 rfl) rfl) y_Mo_over rfl (d2 := 3) ⟨le_b rfl, pd_Mo_over, le_b rfl⟩ (le_b rfl) (k_Mo_over ((Int32.toInt64 a2) * (Int32.toInt64 (rdI h5 192 63))) (16384 : Int64) h5) (fun a8 => ?_)
          refine hp_G hm (at1 8 rfl) (L' := [(5, (.int a5)), (4, (.int a4)), (3, (.int a3)), (2, (.int a2)), (0, (.ref 192)), (1, (.int x1))]) (st' := [(.long (16384 : Int64)), (.long ((Int32.toInt64 a2) * (Int32.toInt64 (rdI h5 192 64)))), (.long (Int32.toInt64 (rdI h5 213 (Int32.toNatClampNeg a5)))), (.long ((Int32.toInt64 (rdI h5 212 (Int32.toNatClampNeg a5))) + a8)), (.int a4), (.ref 192)]) rfl (fun hP => (by exact ⟨⟨og_192, ⟨og_213, hP⟩⟩, og_192⟩)) (pc' := 104) rfl (fun q9 => ?_)
          refine hp_cSP (M2 := M_Mo_over) hm at0 (as := [(.long ((Int32.toInt64 a2) * (Int32.toInt64 (rdI h5 192 64)))), (.long (16384 : Int64))]) (rest := [(.long (Int32.toInt64 (rdI h5 213 (Int32.toNatClampNeg a5)))), (.long ((Int32.toInt64 (rdI h5 212 (Int32.toNatClampNeg a5))) + a8)), (.int a4), (.ref 192)]) rfl (by exact trivial) (pc' := 104) rfl 6 rfl (lw_g (lw_at lw_m9 217 rfl) rfl) y_Mo_over rfl (d2 := 3) ⟨le_b rfl, pd_Mo_over, le_b rfl⟩ (le_b rfl) (k_Mo_over ((Int32.toInt64 a2) * (Int32.toInt64 (rdI h5 192 64))) (16384 : Int64) h5) (fun a10 => ?_)
          refine hp_cVS (M2 := M_Mo_put) hm (at1 9 rfl) (as := [(.int a4), (.long ((Int32.toInt64 (rdI h5 212 (Int32.toNatClampNeg a5))) + a8)), (.long ((Int32.toInt64 (rdI h5 213 (Int32.toNatClampNeg a5))) + a10))]) (rest := []) (z := 192) rfl (by exact trivial) (pc' := 108) rfl 7 rfl (lw_g (lw_at lw_m9 187 rfl) rfl) y_Mo_put rfl (d2 := 1) ⟨le_b rfl, pd_Mo_put, le_b rfl⟩ (le_b rfl) og_192 (k_Mo_put a4 ((Int32.toInt64 (rdI h5 212 (Int32.toNatClampNeg a5))) + a8) ((Int32.toInt64 (rdI h5 213 (Int32.toNatClampNeg a5))) + a10) h5) (fun _ h6 => ?_)
          exact hp_lf [4, 5, 3, 2, 1, 0] rfl (fun _ e => e)
      · refine hp_cVP (M2 := M_Mo_between) hm (at1 10 rfl) (as := [(.int a4), (.int a5)]) (rest := [(.long (Int32.toInt64 a2)), (.int a4), (.ref 192)]) (z := 192) rfl (by exact trivial) (pc' := 121) rfl 9 rfl (lw_g (lw_at lw_m10 57 rfl) rfl) y_Mo_between rfl (d2 := 5) ⟨le_b rfl, pd_Mo_between, le_b rfl⟩ (le_b rfl) og_192 (k_Mo_between a4 a5 p6) (fun a12 => ?_)
        refine hp_cVS (M2 := M_Mo_move) hm (at1 11 rfl) (as := [(.int a4), (.long ((Int32.toInt64 a2) - (Int32.toInt64 a12)))]) (rest := []) (z := 192) rfl (by exact trivial) (pc' := 126) rfl 10 rfl (lw_g (lw_at lw_m10 61 rfl) rfl) y_Mo_move rfl (d2 := 5) ⟨le_b rfl, pd_Mo_move, le_b rfl⟩ (le_b rfl) og_192 (k_Mo_move a4 ((Int32.toInt64 a2) - (Int32.toInt64 a12)) p6) (fun _ h7 => ?_)
        refine hp_w hm (at1 12 rfl) (L' := [(0, (.ref 192)), (1, (.int x1)), (2, (.int a2)), (3, (.int a3)), (4, (.int a4)), (5, (.int a5))]) rfl (by exact ⟨og_192, og_192⟩) (pc' := 137) rfl (fun h8 => ?_)
        refine hp_w hm (at1 13 rfl) (L' := [(0, (.ref 192)), (1, (.int x1)), (2, (.int a2)), (3, (.int a3)), (4, (.int a4)), (5, (.int a5))]) rfl (by exact og_192) (pc' := 142) rfl (fun h9 => ?_)
        refine hp_JZ 157 (fun (p13 : Int32) => []) (fun (p13 : Int32) => [(.int p13), (.ref 192)]) (fun (p13 : Int32) => h9) ?_ (fun p13 => ?_)
        · refine hp_sv0 ?_
          refine hp_ic_ne hm (at1 14 rfl) rfl (by exact trivial) (pc' := 146) rfl 12 rfl (tgt := 153) rfl (fun c14 => ?_) (fun c14 => ?_)
          · refine hp_b hm (at1 15 rfl) (L' := [(0, (.ref 192)), (1, (.int x1)), (2, (.int a2)), (3, (.int a3)), (4, (.int a4)), (5, (.int a5))]) (st' := [(.int (rdI h9 192 69)), (.ref 192)]) rfl (by exact og_192) (pc' := 157) rfl ?_
            exact hp_lf [] rfl (fun _ e => e)
          · refine hp_b hm (at1 16 rfl) (L' := [(0, (.ref 192)), (1, (.int x1)), (2, (.int a2)), (3, (.int a3)), (4, (.int a4)), (5, (.int a5))]) (st' := [(.int a3), (.ref 192)]) rfl (by exact trivial) (pc' := 150) rfl ?_
            refine hp_goto hm 11 rfl (tgt := 157) rfl ?_
            exact hp_lf [] rfl (fun _ e => e)
        · refine hp_w hm (at1 17 rfl) (L' := []) rfl (by exact og_192) (pc' := 160) rfl (fun h10 => ?_)
          exact hp_vr hm 13 rfl rfl (fun _ e => e)
    · exact hp_vr hm 14 rfl rfl (fun _ e => e)
  · exact hp_vr hm 16 rfl rfl (fun _ e => e)
/-! HintHouseModel.toCvt(I)V -/
def M_Mo_toCvt : hM := (11, ⟨"HintHouseModel", "toCvt", "(I)V"⟩, prog_13_method_87_code, 8, (Option.none : Option Jvm.ClassFile.FieldType), [], [(0, [(.aload_n 0, 1, 0, 0, 0, .null), (.iconst 2, 1, 0, 0, 0, (.int (2 : Int32)))]), (9, [(.aload_n 0, 1, 0, 0, 0, .null)]), (13, [(.istore_n 2, 1, 0, 0, 0, .null), (.aload_n 0, 1, 0, 0, 0, .null)]), (18, [(.istore_n 3, 1, 0, 0, 0, .null), (.aload_n 0, 1, 0, 0, 0, .null), (.aload_n 0, 1, 0, 0, 0, .null), (.getfield 460, 3, 11, 72, 0, .null), (.iload_n 3, 1, 0, 0, 0, .null)]), (28, [(.istore 4, 2, 0, 0, 0, .null), (.aload_n 0, 1, 0, 0, 0, .null), (.iload_n 2, 1, 0, 0, 0, .null)]), (35, [(.i2l, 1, 0, 0, 0, .null), (.lstore 5, 2, 0, 0, 0, .null)]), (38, [(.aload_n 0, 1, 0, 0, 0, .null), (.getfield 409, 3, 11, 59, 0, .null)]), (46, [(.aload_n 0, 1, 0, 0, 0, .null), (.getfield 460, 3, 11, 72, 0, .null)]), (53, [(.aload_n 0, 1, 0, 0, 0, .null), (.iload 4, 2, 0, 0, 0, .null), (.lload 5, 2, 0, 0, 0, .null), (.aload_n 0, 1, 0, 0, 0, .null), (.getfield 433, 3, 11, 63, 0, .null), (.i2l, 1, 0, 0, 0, .null), (.lmul, 1, 0, 0, 0, .null), (.ldc2_w 310, 3, 0, 0, 0, (.long (16384 : Int64)))]), (70, [(.lload 5, 2, 0, 0, 0, .null), (.aload_n 0, 1, 0, 0, 0, .null), (.getfield 436, 3, 11, 64, 0, .null), (.i2l, 1, 0, 0, 0, .null), (.lmul, 1, 0, 0, 0, .null), (.ldc2_w 310, 3, 0, 0, 0, (.long (16384 : Int64)))]), (87, [(.aload_n 0, 1, 0, 0, 0, .null), (.iload 4, 2, 0, 0, 0, .null)]), (93, [(.istore 7, 2, 0, 0, 0, .null), (.iload_n 1, 1, 0, 0, 0, .null), (.bipush 63, 2, 0, 0, 0, (.int (63 : Int32)))]), (101, [(.lload 5, 2, 0, 0, 0, .null), (.iload 7, 2, 0, 0, 0, .null), (.i2l, 1, 0, 0, 0, .null), (.lsub, 1, 0, 0, 0, .null)]), (110, [(.aload_n 0, 1, 0, 0, 0, .null), (.getfield 605, 3, 11, 80, 0, .null), (.i2l, 1, 0, 0, 0, .null), (.lcmp, 1, 0, 0, 0, .null)]), (125, [(.lload 5, 2, 0, 0, 0, .null)]), (119, [(.iload 7, 2, 0, 0, 0, .null), (.i2l, 1, 0, 0, 0, .null)]), (127, [(.lstore 5, 2, 0, 0, 0, .null), (.aload_n 0, 1, 0, 0, 0, .null), (.lload 5, 2, 0, 0, 0, .null)]), (135, [(.lstore 5, 2, 0, 0, 0, .null)]), (137, [(.aload_n 0, 1, 0, 0, 0, .null), (.iload 4, 2, 0, 0, 0, .null), (.lload 5, 2, 0, 0, 0, .null), (.iload 7, 2, 0, 0, 0, .null), (.i2l, 1, 0, 0, 0, .null), (.lsub, 1, 0, 0, 0, .null)]), (149, [(.aload_n 0, 1, 0, 0, 0, .null), (.iload_n 3, 1, 0, 0, 0, .null), (.putfield 451, 3, 11, 69, 0, .null)]), (154, [(.aload_n 0, 1, 0, 0, 0, .null), (.iload_n 3, 1, 0, 0, 0, .null), (.putfield 454, 3, 11, 70, 0, .null)])], [(2, .invokevirtual 576, 3), (10, .invokevirtual 579, 3), (15, .invokevirtual 579, 3), (25, .invokevirtual 582, 3), (32, .invokevirtual 677, 3), (67, .invokestatic 517, 3), (81, .invokestatic 517, 3), (84, .invokevirtual 716, 3), (50, .ifCond .ne 37, 3), (90, .invokevirtual 644, 3), (107, .invokestatic 198, 3), (122, .goto 5, 3), (116, .ifCond .le 9, 3), (132, .invokevirtual 647, 3), (98, .if_icmp .ne 39, 3), (146, .invokevirtual 630, 3), (159, .return_, 1), (45, .return_, 1), (42, .ifCond .le 4, 3), (8, .return_, 1), (5, .ifCond .ne 4, 3)])
set_option maxRecDepth 100000 in
theorem m_Mo_toCvt : hx_mok M_Mo_toCvt = true := by decide +kernel
theorem pd_Mo_toCvt : (parseMethodDescriptor M_Mo_toCvt.2.1.desc).map (fun q => q.parameters.length) = some 1 := by decide +kernel
theorem y_Mo_toCvt : hx_okV M_Mo_toCvt := ⟨⟨lw_g (lw_at lw_m10 186 rfl) rfl, lw_g (lw_at lw_m10 185 rfl) rfl, qs173, lw_g (lw_at lw_m1 12 rfl) rfl, rfl, by decide, by decide, by decide⟩, rfl, by decide, plainFor_of_name (by decide)⟩
noncomputable def f_Mo_toCvt (x1 : Int32) (h : hH) : Option (Unit × hH) :=
  bS (f_Mo_has (2 : Int32) h) fun a1 h1 =>
  if a1 = 0 then (
    some ((), h1)
  ) else (
    bS (f_Mo_pop h1) fun a2 h2 =>
    bS (f_Mo_pop h2) fun a3 h3 =>
    bS (f_Mo_pointOf (rdI h3 192 72) a3 h3) fun a4 h4 =>
    bS (f_Mo_cvtOf a2 h4) fun a5 h5 =>
    lz (A := Int64) (Int32.toInt64 a5) fun v6 =>
    if (rdI h5 192 59) ≤ 0 then (
      bP (A := hH) (
        if (rdI h5 192 72) = 0 then (
          bP (f_Mo_over (v6 * (Int32.toInt64 (rdI h5 192 63))) (16384 : Int64)) fun a8 =>
          bP (f_Mo_over (v6 * (Int32.toInt64 (rdI h5 192 64))) (16384 : Int64)) fun a9 =>
          bS (f_Mo_put a4 a8 a9 h5) fun _ h6 =>
          some h6
        ) else (
          some h5
        )
      ) fun p7 =>
      bP (f_Mo_longOf a4 p7) fun a11 =>
      bP (A := Int64) (
        if x1 = (63 : Int32) then (
          bP (f_Mo_sizeOf (v6 - (Int32.toInt64 a11))) fun a13 =>
          lz (A := Int64) (if a13 ≤ (Int32.toInt64 (rdI p7 192 80)) then v6 else (Int32.toInt64 a11)) fun p14 =>
          bP (f_Mo_rounded p14 p7) fun a16 =>
          some a16
        ) else (
          some v6
        )
      ) fun p12 =>
      bS (f_Mo_move a4 (p12 - (Int32.toInt64 a11)) p7) fun _ h7 =>
      lz (wrI h7 192 69 a3) fun h8 =>
      lz (wrI h8 192 70 a3) fun h9 =>
      some ((), h9)
    ) else (
      some ((), h5)
    )
  )
set_option maxRecDepth 20000 in
theorem k_Mo_toCvt (x1 : Int32) (h : hH) : hx_kS S0 M_Mo_toCvt 6 NT [(.ref 192), (.int x1)] h (f_Mo_toCvt x1 h) cvU := by
  have hm := m_Mo_toCvt
  show hx_P S0 M_Mo_toCvt 6 0 [(0, (.ref 192)), (1, (.int x1))] [] NT h (f_Mo_toCvt x1 h) (hx_Rc cvU NT)
  unfold f_Mo_toCvt
  refine hp_cVS (M2 := M_Mo_has) hm (at1 0 rfl) (as := [(.int (2 : Int32))]) (rest := []) (z := 192) rfl (by exact trivial) (pc' := 2) rfl 0 rfl (lw_g (lw_at lw_m10 20 rfl) rfl) y_Mo_has rfl (d2 := 2) ⟨le_b rfl, pd_Mo_has, le_b rfl⟩ (le_b rfl) og_192 (k_Mo_has (2 : Int32) h) (fun a1 h1 => ?_)
  refine hp_if_ne hm at0 rfl (by exact trivial) (pc' := 5) rfl 20 rfl (tgt := 9) rfl (fun c19 => ?_) (fun c19 => ?_)
  · refine hp_cVS (M2 := M_Mo_pop) hm (at1 1 rfl) (as := []) (rest := []) (z := 192) rfl (by exact trivial) (pc' := 10) rfl 1 rfl (lw_g (lw_at lw_m10 24 rfl) rfl) y_Mo_pop rfl (d2 := 1) ⟨le_b rfl, pd_Mo_pop, le_b rfl⟩ (le_b rfl) og_192 (k_Mo_pop h1) (fun a2 h2 => ?_)
    refine hp_b hm (at1 2 rfl) (L' := [(2, (.int a2)), (0, (.ref 192)), (1, (.int x1))]) (st' := [(.ref 192)]) rfl (by exact trivial) (pc' := 15) rfl ?_
    refine hp_cVS (M2 := M_Mo_pop) hm at0 (as := []) (rest := []) (z := 192) rfl (by exact trivial) (pc' := 15) rfl 2 rfl (lw_g (lw_at lw_m10 24 rfl) rfl) y_Mo_pop rfl (d2 := 1) ⟨le_b rfl, pd_Mo_pop, le_b rfl⟩ (le_b rfl) og_192 (k_Mo_pop h2) (fun a3 h3 => ?_)
    refine hp_b hm (at1 3 rfl) (L' := [(3, (.int a3)), (2, (.int a2)), (0, (.ref 192)), (1, (.int x1))]) (st' := [(.int a3), (.int (rdI h3 192 72)), (.ref 192)]) rfl (by exact og_192) (pc' := 25) rfl ?_
    refine hp_cVS (M2 := M_Mo_pointOf) hm at0 (as := [(.int (rdI h3 192 72)), (.int a3)]) (rest := []) (z := 192) rfl (by exact trivial) (pc' := 25) rfl 3 rfl (lw_g (lw_at lw_m10 28 rfl) rfl) y_Mo_pointOf rfl (d2 := 2) ⟨le_b rfl, pd_Mo_pointOf, le_b rfl⟩ (le_b rfl) og_192 (k_Mo_pointOf (rdI h3 192 72) a3 h3) (fun a4 h4 => ?_)
    refine hp_b hm (at1 4 rfl) (L' := [(4, (.int a4)), (3, (.int a3)), (2, (.int a2)), (0, (.ref 192)), (1, (.int x1))]) (st' := [(.int a2), (.ref 192)]) rfl (by exact trivial) (pc' := 32) rfl ?_
    refine hp_cVS (M2 := M_Mo_cvtOf) hm at0 (as := [(.int a2)]) (rest := []) (z := 192) rfl (by exact trivial) (pc' := 32) rfl 4 rfl (lw_g (lw_at lw_m10 78 rfl) rfl) y_Mo_cvtOf rfl (d2 := 2) ⟨le_b rfl, pd_Mo_cvtOf, le_b rfl⟩ (le_b rfl) og_192 (k_Mo_cvtOf a2 h4) (fun a5 h5 => ?_)
    refine hp_z hm (at1 5 rfl) (fun (v6 : Int64) => [(5, (.long v6)), (4, (.int a4)), (3, (.int a3)), (2, (.int a2)), (0, (.ref 192)), (1, (.int x1))]) (fun (v6 : Int64) => []) rfl (by exact trivial) (pc' := 38) rfl (fun v6 => ?_)
    refine hp_if_le hm (at1 6 rfl) rfl (by exact og_192) (pc' := 42) rfl 18 rfl (tgt := 46) rfl (fun c18 => ?_) (fun c18 => ?_)
    · refine hp_J 87 (fun (p7 : hH) => [(0, (.ref 192)), (1, (.int x1)), (3, (.int a3)), (4, (.int a4)), (5, (.long v6))]) (fun (p7 : hH) => []) (fun (p7 : hH) => p7) ?_ (fun p7 => ?_)
      · refine hp_if_ne hm (at1 7 rfl) rfl (by exact og_192) (pc' := 50) rfl 8 rfl (tgt := 87) rfl (fun c10 => ?_) (fun c10 => ?_)
        · exact hp_lf [4, 5, 2, 1, 0] rfl (fun _ e => e)
        · refine hp_cSP (M2 := M_Mo_over) hm (at1 8 rfl) (as := [(.long (v6 * (Int32.toInt64 (rdI h5 192 63)))), (.long (16384 : Int64))]) (rest := [(.int a4), (.ref 192)]) rfl (by exact og_192) (pc' := 67) rfl 5 rfl (lw_g (lw_at lw_m9 217 rfl) rfl) y_Mo_over rfl (d2 := 3) ⟨le_b rfl, pd_Mo_over, le_b rfl⟩ (le_b rfl) (k_Mo_over (v6 * (Int32.toInt64 (rdI h5 192 63))) (16384 : Int64) h5) (fun a8 => ?_)
          refine hp_cSP (M2 := M_Mo_over) hm (at1 9 rfl) (as := [(.long (v6 * (Int32.toInt64 (rdI h5 192 64)))), (.long (16384 : Int64))]) (rest := [(.long a8), (.int a4), (.ref 192)]) rfl (by exact og_192) (pc' := 81) rfl 6 rfl (lw_g (lw_at lw_m9 217 rfl) rfl) y_Mo_over rfl (d2 := 3) ⟨le_b rfl, pd_Mo_over, le_b rfl⟩ (le_b rfl) (k_Mo_over (v6 * (Int32.toInt64 (rdI h5 192 64))) (16384 : Int64) h5) (fun a9 => ?_)
          refine hp_cVS (M2 := M_Mo_put) hm at0 (as := [(.int a4), (.long a8), (.long a9)]) (rest := []) (z := 192) rfl (by exact trivial) (pc' := 84) rfl 7 rfl (lw_g (lw_at lw_m9 187 rfl) rfl) y_Mo_put rfl (d2 := 1) ⟨le_b rfl, pd_Mo_put, le_b rfl⟩ (le_b rfl) og_192 (k_Mo_put a4 a8 a9 h5) (fun _ h6 => ?_)
          exact hp_lf [4, 5, 2, 1, 0] rfl (fun _ e => e)
      · refine hp_cVP (M2 := M_Mo_longOf) hm (at1 10 rfl) (as := [(.int a4)]) (rest := []) (z := 192) rfl (by exact trivial) (pc' := 90) rfl 9 rfl (lw_g (lw_at lw_m10 148 rfl) rfl) y_Mo_longOf rfl (d2 := 5) ⟨le_b rfl, pd_Mo_longOf, le_b rfl⟩ (le_b rfl) og_192 (k_Mo_longOf a4 p7) (fun a11 => ?_)
        refine hp_b hm (at1 11 rfl) (L' := [(7, (.int a11)), (0, (.ref 192)), (1, (.int x1)), (3, (.int a3)), (4, (.int a4)), (5, (.long v6))]) (st' := [(.int (63 : Int32)), (.int x1)]) rfl (by exact trivial) (pc' := 98) rfl ?_
        refine hp_J 137 (fun (p12 : Int64) => [(0, (.ref 192)), (3, (.int a3)), (4, (.int a4)), (5, (.long p12)), (7, (.int a11))]) (fun (p12 : Int64) => []) (fun (p12 : Int64) => p7) ?_ (fun p12 => ?_)
        · refine hp_ic_ne hm at0 rfl (by exact trivial) (pc' := 98) rfl 14 rfl (tgt := 137) rfl (fun c17 => ?_) (fun c17 => ?_)
          · exact hp_lf [1, 3, 4, 5, 0] rfl (fun _ e => e)
          · refine hp_cSP (M2 := M_Mo_sizeOf) hm (at1 12 rfl) (as := [(.long (v6 - (Int32.toInt64 a11)))]) (rest := []) rfl (by exact trivial) (pc' := 107) rfl 10 rfl (lw_g (lw_at lw_m9 223 rfl) rfl) y_Mo_sizeOf rfl (d2 := 1) ⟨le_b rfl, pd_Mo_sizeOf, le_b rfl⟩ (le_b rfl) (k_Mo_sizeOf (v6 - (Int32.toInt64 a11)) p7) (fun a13 => ?_)
            refine hp_JZ 127 (fun (p14 : Int64) => [(0, (.ref 192)), (3, (.int a3)), (4, (.int a4)), (7, (.int a11))]) (fun (p14 : Int64) => [(.long p14)]) (fun (p14 : Int64) => p7) ?_ (fun p14 => ?_)
            · refine hp_sv0 ?_
              refine hp_lc_le hm (at1 13 rfl) rfl (by exact og_192) (pc' := 116) rfl 12 rfl (tgt := 125) rfl (fun c15 => ?_) (fun c15 => ?_)
              · refine hp_b hm (at1 14 rfl) (L' := [(7, (.int a11)), (0, (.ref 192)), (1, (.int x1)), (3, (.int a3)), (4, (.int a4)), (5, (.long v6))]) (st' := [(.long v6)]) rfl (by exact trivial) (pc' := 127) rfl ?_
                exact hp_lf [1, 3, 4, 0] rfl (fun _ e => e)
              · refine hp_b hm (at1 15 rfl) (L' := [(7, (.int a11)), (0, (.ref 192)), (1, (.int x1)), (3, (.int a3)), (4, (.int a4)), (5, (.long v6))]) (st' := [(.long (Int32.toInt64 a11))]) rfl (by exact trivial) (pc' := 122) rfl ?_
                refine hp_goto hm 11 rfl (tgt := 127) rfl ?_
                exact hp_lf [1, 3, 4, 0] rfl (fun _ e => e)
            · refine hp_b hm (at1 16 rfl) (L' := [(5, (.long p14)), (0, (.ref 192)), (3, (.int a3)), (4, (.int a4)), (7, (.int a11))]) (st' := [(.long p14), (.ref 192)]) rfl (by exact trivial) (pc' := 132) rfl ?_
              refine hp_cVP (M2 := M_Mo_rounded) hm at0 (as := [(.long p14)]) (rest := []) (z := 192) rfl (by exact trivial) (pc' := 132) rfl 13 rfl (lw_g (lw_at lw_m10 44 rfl) rfl) y_Mo_rounded rfl (d2 := 2) ⟨le_b rfl, pd_Mo_rounded, le_b rfl⟩ (le_b rfl) og_192 (k_Mo_rounded p14 p7) (fun a16 => ?_)
              refine hp_b hm (at1 17 rfl) (L' := [(5, (.long a16)), (0, (.ref 192)), (3, (.int a3)), (4, (.int a4)), (7, (.int a11))]) (st' := []) rfl (by exact trivial) (pc' := 137) rfl ?_
              exact hp_lf [1, 2, 3, 0, 4] rfl (fun _ e => e)
        · refine hp_cVS (M2 := M_Mo_move) hm (at1 18 rfl) (as := [(.int a4), (.long (p12 - (Int32.toInt64 a11)))]) (rest := []) (z := 192) rfl (by exact trivial) (pc' := 146) rfl 15 rfl (lw_g (lw_at lw_m10 61 rfl) rfl) y_Mo_move rfl (d2 := 5) ⟨le_b rfl, pd_Mo_move, le_b rfl⟩ (le_b rfl) og_192 (k_Mo_move a4 (p12 - (Int32.toInt64 a11)) p7) (fun _ h7 => ?_)
          refine hp_w hm (at1 19 rfl) (L' := [(0, (.ref 192)), (3, (.int a3)), (4, (.int a4)), (5, (.long p12)), (7, (.int a11))]) rfl (by exact og_192) (pc' := 154) rfl (fun h8 => ?_)
          refine hp_w hm (at1 20 rfl) (L' := [(0, (.ref 192)), (3, (.int a3)), (4, (.int a4)), (5, (.long p12)), (7, (.int a11))]) rfl (by exact og_192) (pc' := 159) rfl (fun h9 => ?_)
          exact hp_vr hm 16 rfl rfl (fun _ e => e)
    · exact hp_vr hm 17 rfl rfl (fun _ e => e)
  · exact hp_vr hm 19 rfl rfl (fun _ e => e)
/-! HintHouseModel.setCvt(Z)V -/
def M_Mo_setCvt : hM := (11, ⟨"HintHouseModel", "setCvt", "(Z)V"⟩, prog_13_method_78_code, 5, (Option.none : Option Jvm.ClassFile.FieldType), [], [(0, [(.aload_n 0, 1, 0, 0, 0, .null), (.iconst 2, 1, 0, 0, 0, (.int (2 : Int32)))]), (9, [(.aload_n 0, 1, 0, 0, 0, .null)]), (13, [(.istore_n 2, 1, 0, 0, 0, .null), (.aload_n 0, 1, 0, 0, 0, .null)]), (18, [(.istore_n 3, 1, 0, 0, 0, .null), (.aload_n 0, 1, 0, 0, 0, .null), (.iload_n 3, 1, 0, 0, 0, .null)]), (24, [(.istore 4, 2, 0, 0, 0, .null), (.aload_n 0, 1, 0, 0, 0, .null), (.getfield 409, 3, 11, 59, 0, .null)]), (33, [(.aload_n 0, 1, 0, 0, 0, .null), (.getfield 64, 3, 11, 44, 4, .null), (.iload_n 3, 1, 0, 0, 0, .null), (.iload_n 1, 1, 0, 0, 0, .null)]), (51, [(.iload_n 2, 1, 0, 0, 0, .null)]), (42, [(.aload_n 0, 1, 0, 0, 0, .null), (.iload_n 2, 1, 0, 0, 0, .null), (.i2l, 1, 0, 0, 0, .null)]), (52, [(.iastore, 1, 0, 0, 0, .null)])], [(2, .invokevirtual 576, 3), (10, .invokevirtual 579, 3), (15, .invokevirtual 579, 3), (21, .invokevirtual 677, 3), (53, .return_, 1), (45, .invokevirtual 611, 3), (48, .goto 4, 3), (39, .ifCond .eq 12, 3), (30, .ifCond .ne 23, 3), (8, .return_, 1), (5, .ifCond .ne 4, 3)])
set_option maxRecDepth 100000 in
theorem m_Mo_setCvt : hx_mok M_Mo_setCvt = true := by decide +kernel
theorem pd_Mo_setCvt : (parseMethodDescriptor M_Mo_setCvt.2.1.desc).map (fun q => q.parameters.length) = some 1 := by decide +kernel
theorem y_Mo_setCvt : hx_okV M_Mo_setCvt := ⟨⟨lw_g (lw_at lw_m10 190 rfl) rfl, lw_g (lw_at lw_m10 189 rfl) rfl, qs174, lw_g (lw_at lw_m1 12 rfl) rfl, rfl, by decide, by decide, by decide⟩, rfl, by decide, plainFor_of_name (by decide)⟩
noncomputable def f_Mo_setCvt (x1 : Int32) (h : hH) : Option (Unit × hH) :=
  bS (f_Mo_has (2 : Int32) h) fun a1 h1 =>
  if a1 = 0 then (
    some ((), h1)
  ) else (
    bS (f_Mo_pop h1) fun a2 h2 =>
    bS (f_Mo_pop h2) fun a3 h3 =>
    bS (f_Mo_cvtOf a3 h3) fun a4 h4 =>
    if (rdI h4 192 59) = 0 then (
      bP (A := Int32) (
        if x1 = 0 then (
          some a2
        ) else (
          bP (f_Mo_scaled (Int32.toInt64 a2) h4) fun a6 =>
          some a6
        )
      ) fun p5 =>
      gd (vp_in a3 256) <|
      lz (wrI h4 210 (Int32.toNatClampNeg a3) p5) fun h5 =>
      some ((), h5)
    ) else (
      some ((), h4)
    )
  )
set_option maxRecDepth 20000 in
theorem k_Mo_setCvt (x1 : Int32) (h : hH) : hx_kS S0 M_Mo_setCvt 5 NT [(.ref 192), (.int x1)] h (f_Mo_setCvt x1 h) cvU := by
  have hm := m_Mo_setCvt
  show hx_P S0 M_Mo_setCvt 5 0 [(0, (.ref 192)), (1, (.int x1))] [] NT h (f_Mo_setCvt x1 h) (hx_Rc cvU NT)
  unfold f_Mo_setCvt
  refine hp_cVS (M2 := M_Mo_has) hm (at1 0 rfl) (as := [(.int (2 : Int32))]) (rest := []) (z := 192) rfl (by exact trivial) (pc' := 2) rfl 0 rfl (lw_g (lw_at lw_m10 20 rfl) rfl) y_Mo_has rfl (d2 := 2) ⟨le_b rfl, pd_Mo_has, le_b rfl⟩ (le_b rfl) og_192 (k_Mo_has (2 : Int32) h) (fun a1 h1 => ?_)
  refine hp_if_ne hm at0 rfl (by exact trivial) (pc' := 5) rfl 10 rfl (tgt := 9) rfl (fun c10 => ?_) (fun c10 => ?_)
  · refine hp_cVS (M2 := M_Mo_pop) hm (at1 1 rfl) (as := []) (rest := []) (z := 192) rfl (by exact trivial) (pc' := 10) rfl 1 rfl (lw_g (lw_at lw_m10 24 rfl) rfl) y_Mo_pop rfl (d2 := 1) ⟨le_b rfl, pd_Mo_pop, le_b rfl⟩ (le_b rfl) og_192 (k_Mo_pop h1) (fun a2 h2 => ?_)
    refine hp_b hm (at1 2 rfl) (L' := [(2, (.int a2)), (0, (.ref 192)), (1, (.int x1))]) (st' := [(.ref 192)]) rfl (by exact trivial) (pc' := 15) rfl ?_
    refine hp_cVS (M2 := M_Mo_pop) hm at0 (as := []) (rest := []) (z := 192) rfl (by exact trivial) (pc' := 15) rfl 2 rfl (lw_g (lw_at lw_m10 24 rfl) rfl) y_Mo_pop rfl (d2 := 1) ⟨le_b rfl, pd_Mo_pop, le_b rfl⟩ (le_b rfl) og_192 (k_Mo_pop h2) (fun a3 h3 => ?_)
    refine hp_b hm (at1 3 rfl) (L' := [(3, (.int a3)), (2, (.int a2)), (0, (.ref 192)), (1, (.int x1))]) (st' := [(.int a3), (.ref 192)]) rfl (by exact trivial) (pc' := 21) rfl ?_
    refine hp_cVS (M2 := M_Mo_cvtOf) hm at0 (as := [(.int a3)]) (rest := []) (z := 192) rfl (by exact trivial) (pc' := 21) rfl 3 rfl (lw_g (lw_at lw_m10 78 rfl) rfl) y_Mo_cvtOf rfl (d2 := 2) ⟨le_b rfl, pd_Mo_cvtOf, le_b rfl⟩ (le_b rfl) og_192 (k_Mo_cvtOf a3 h3) (fun a4 h4 => ?_)
    refine hp_b hm (at1 4 rfl) (L' := [(4, (.int a4)), (3, (.int a3)), (2, (.int a2)), (0, (.ref 192)), (1, (.int x1))]) (st' := [(.int (rdI h4 192 59))]) rfl (by exact og_192) (pc' := 30) rfl ?_
    refine hp_if_ne hm at0 rfl (by exact trivial) (pc' := 30) rfl 8 rfl (tgt := 53) rfl (fun c9 => ?_) (fun c9 => ?_)
    · exact hp_vr hm 4 rfl rfl (fun _ e => e)
    · refine hp_J 52 (fun (p5 : Int32) => []) (fun (p5 : Int32) => [(.int p5), (.int a3), (.ref 210)]) (fun (p5 : Int32) => h4) ?_ (fun p5 => ?_)
      · refine hp_if_eq hm (at1 5 rfl) rfl (by exact og_192) (pc' := 39) rfl 7 rfl (tgt := 51) rfl (fun c7 => ?_) (fun c7 => ?_)
        · refine hp_b hm (at1 6 rfl) (L' := [(4, (.int a4)), (3, (.int a3)), (2, (.int a2)), (0, (.ref 192)), (1, (.int x1))]) (st' := [(.int a2), (.int a3), (.ref 210)]) rfl (by exact trivial) (pc' := 52) rfl ?_
          exact hp_lf [] rfl (fun _ e => e)
        · refine hp_cVP (M2 := M_Mo_scaled) hm (at1 7 rfl) (as := [(.long (Int32.toInt64 a2))]) (rest := [(.int a3), (.ref 210)]) (z := 192) rfl (by exact trivial) (pc' := 45) rfl 5 rfl (lw_g (lw_at lw_m9 212 rfl) rfl) y_Mo_scaled rfl (d2 := 4) ⟨le_b rfl, pd_Mo_scaled, le_b rfl⟩ (le_b rfl) og_192 (k_Mo_scaled (Int32.toInt64 a2) h4) (fun a6 => ?_)
          refine hp_goto hm 6 rfl (tgt := 52) rfl ?_
          exact hp_lf [] rfl (fun _ e => e)
      · refine hp_GW hm (at1 8 rfl) (L' := []) rfl (fun hP => (by exact ⟨og_210, hP⟩)) (pc' := 53) rfl (fun q8 h5 => ?_)
        exact hp_vr hm 4 rfl rfl (fun _ e => e)
  · exact hp_vr hm 9 rfl rfl (fun _ e => e)
/-! HintHouseModel.one(Z)I -/
def M_Mo_one : hM := (11, ⟨"HintHouseModel", "one", "(Z)I"⟩, prog_13_method_79_code, 1, (Option.some Jvm.ClassFile.FieldType.int), [], [(0, [(.iload_n 0, 1, 0, 0, 0, .null)]), (8, [(.iconst 0, 1, 0, 0, 0, (.int (0 : Int32)))]), (4, [(.iconst 1, 1, 0, 0, 0, (.int (1 : Int32)))])], [(9, .ireturn, 1), (5, .goto 4, 3), (1, .ifCond .eq 7, 3)])
set_option maxRecDepth 100000 in
theorem m_Mo_one : hx_mok M_Mo_one = true := by decide +kernel
theorem pd_Mo_one : (parseMethodDescriptor M_Mo_one.2.1.desc).map (fun q => q.parameters.length) = some 1 := by decide +kernel
theorem y_Mo_one : hx_okS M_Mo_one := ⟨⟨lw_g (lw_at lw_m10 197 rfl) rfl, lw_g (lw_at lw_m10 196 rfl) rfl, lw_g (lw_at lw_m1 12 rfl) rfl, by decide, by decide⟩, rfl, by decide, plainFor_of_name (by decide), rfl⟩
noncomputable def f_Mo_one (x1 : Int32) : Option Int32 :=
  if x1 = 0 then (
    some (0 : Int32)
  ) else (
    some (1 : Int32)
  )
set_option maxRecDepth 20000 in
theorem k_Mo_one (x1 : Int32) (h : hH) : hx_kP S0 M_Mo_one 1 NT [(.int x1)] h (f_Mo_one x1) cvI := by
  have hm := m_Mo_one
  show hx_P S0 M_Mo_one 1 0 [(0, (.int x1))] [] NT h (f_Mo_one x1) (hx_Rp cvI NT h)
  unfold f_Mo_one
  refine hp_if_eq hm (at1 0 rfl) rfl (by exact trivial) (pc' := 1) rfl 2 rfl (tgt := 8) rfl (fun c1 => ?_) (fun c1 => ?_)
  · refine hp_b hm (at1 1 rfl) (L' := [(0, (.int x1))]) (st' := [(.int (0 : Int32))]) rfl (by exact trivial) (pc' := 9) rfl ?_
    exact hp_ir hm at0 rfl (by exact trivial) (pc' := 9) rfl 0 rfl rfl (vp_nar_int _) (fun _ e => e)
  · refine hp_b hm (at1 2 rfl) (L' := [(0, (.int x1))]) (st' := [(.int (1 : Int32))]) rfl (by exact trivial) (pc' := 5) rfl ?_
    refine hp_goto hm 1 rfl (tgt := 9) rfl ?_
    exact hp_ir hm at0 rfl (by exact trivial) (pc' := 9) rfl 0 rfl rfl (vp_nar_int _) (fun _ e => e)
/-! HintHouseModel.deltas(IZ)V -/
def M_Mo_deltas : hM := (11, ⟨"HintHouseModel", "deltas", "(IZ)V"⟩, prog_13_method_93_code, 10, (Option.none : Option Jvm.ClassFile.FieldType), [], [(0, [(.aload_n 0, 1, 0, 0, 0, .null), (.iconst 1, 1, 0, 0, 0, (.int (1 : Int32)))]), (9, [(.aload_n 0, 1, 0, 0, 0, .null)]), (13, [(.istore_n 3, 1, 0, 0, 0, .null), (.iload_n 3, 1, 0, 0, 0, .null)]), (25, [(.iload_n 3, 1, 0, 0, 0, .null), (.sipush 128, 3, 0, 0, 0, (.int (128 : Int32)))]), (32, [(.aload_n 0, 1, 0, 0, 0, .null), (.getfield 418, 3, 11, 56, 0, .null), (.iconst 2, 1, 0, 0, 0, (.int (2 : Int32))), (.iload_n 3, 1, 0, 0, 0, .null), (.imul, 1, 0, 0, 0, .null)]), (42, [(.aload_n 0, 1, 0, 0, 0, .null), (.iconst 1, 1, 0, 0, 0, (.int (1 : Int32)))]), (48, [(.iconst 0, 1, 0, 0, 0, (.int (0 : Int32))), (.istore 4, 2, 0, 0, 0, .null)]), (51, [(.iload 4, 2, 0, 0, 0, .null), (.iload_n 3, 1, 0, 0, 0, .null)]), (57, [(.aload_n 0, 1, 0, 0, 0, .null), (.getfield 409, 3, 11, 59, 0, .null)]), (64, [(.aload_n 0, 1, 0, 0, 0, .null)]), (68, [(.istore 5, 2, 0, 0, 0, .null), (.aload_n 0, 1, 0, 0, 0, .null)]), (74, [(.istore 6, 2, 0, 0, 0, .null), (.aload_n 0, 1, 0, 0, 0, .null), (.getfield 621, 3, 11, 62, 0, .null), (.aload_n 0, 1, 0, 0, 0, .null), (.getfield 700, 3, 11, 85, 0, .null), (.iload 6, 2, 0, 0, 0, .null), (.iconst 4, 1, 0, 0, 0, (.int (4 : Int32))), (.ishr, 1, 0, 0, 0, .null), (.bipush 15, 2, 0, 0, 0, (.int (15 : Int32))), (.iand, 1, 0, 0, 0, .null), (.iadd, 1, 0, 0, 0, .null), (.iload_n 1, 1, 0, 0, 0, .null), (.iadd, 1, 0, 0, 0, .null)]), (100, [(.iload 6, 2, 0, 0, 0, .null), (.bipush 15, 2, 0, 0, 0, (.int (15 : Int32))), (.iand, 1, 0, 0, 0, .null), (.iload 6, 2, 0, 0, 0, .null), (.bipush 15, 2, 0, 0, 0, (.int (15 : Int32))), (.iand, 1, 0, 0, 0, .null), (.bipush 8, 2, 0, 0, 0, (.int (8 : Int32)))]), (120, [(.bipush 8, 2, 0, 0, 0, (.int (8 : Int32)))]), (115, [(.bipush 7, 2, 0, 0, 0, (.int (7 : Int32)))]), (122, [(.isub, 1, 0, 0, 0, .null), (.i2l, 1, 0, 0, 0, .null), (.lstore 7, 2, 0, 0, 0, .null)]), (126, [(.lload 7, 2, 0, 0, 0, .null), (.lconst 1, 1, 0, 0, 0, (.long (1 : Int64))), (.bipush 6, 2, 0, 0, 0, (.int (6 : Int32))), (.aload_n 0, 1, 0, 0, 0, .null), (.getfield 703, 3, 11, 86, 0, .null), (.isub, 1, 0, 0, 0, .null), (.lshl, 1, 0, 0, 0, .null), (.lmul, 1, 0, 0, 0, .null), (.lstore 7, 2, 0, 0, 0, .null)]), (140, [(.iload_n 2, 1, 0, 0, 0, .null)]), (174, [(.aload_n 0, 1, 0, 0, 0, .null), (.iload 5, 2, 0, 0, 0, .null)]), (180, [(.istore 9, 2, 0, 0, 0, .null), (.aload_n 0, 1, 0, 0, 0, .null), (.getfield 409, 3, 11, 59, 0, .null)]), (189, [(.aload_n 0, 1, 0, 0, 0, .null), (.getfield 64, 3, 11, 44, 4, .null), (.iload 5, 2, 0, 0, 0, .null), (.iload 9, 2, 0, 0, 0, .null), (.i2l, 1, 0, 0, 0, .null), (.lload 7, 2, 0, 0, 0, .null), (.ladd, 1, 0, 0, 0, .null), (.l2i, 1, 0, 0, 0, .null), (.iastore, 1, 0, 0, 0, .null)]), (144, [(.aload_n 0, 1, 0, 0, 0, .null), (.aload_n 0, 1, 0, 0, 0, .null), (.getfield 460, 3, 11, 72, 0, .null), (.iload 5, 2, 0, 0, 0, .null)]), (154, [(.istore 9, 2, 0, 0, 0, .null), (.aload_n 0, 1, 0, 0, 0, .null), (.getfield 409, 3, 11, 59, 0, .null)]), (163, [(.aload_n 0, 1, 0, 0, 0, .null), (.iload 9, 2, 0, 0, 0, .null), (.lload 7, 2, 0, 0, 0, .null)]), (203, [(.iinc 4 1, 3, 0, 0, 0, (.int (1 : Int32)))]), (18, [(.aload_n 0, 1, 0, 0, 0, .null), (.bipush 11, 2, 0, 0, 0, (.int (11 : Int32)))])], [(2, .invokevirtual 576, 3), (10, .invokevirtual 579, 3), (39, .if_icmp .ge 9, 3), (29, .if_icmp .gt 13, 3), (44, .invokevirtual 421, 3), (47, .return_, 1), (209, .return_, 1), (65, .invokevirtual 579, 3), (71, .invokevirtual 579, 3), (117, .goto 5, 3), (112, .if_icmp .lt 8, 3), (177, .invokevirtual 677, 3), (186, .ifCond .ne 17, 3), (151, .invokevirtual 582, 3), (168, .invokevirtual 630, 3), (160, .ifCond .ne 11, 3), (171, .goto 32, 3), (141, .ifCond .eq 33, 3), (97, .goto 106, 3), (94, .if_icmp .eq 6, 3), (206, .goto (-155), 3), (61, .ifCond .ne 148, 3), (54, .if_icmp .ge 155, 3), (21, .invokevirtual 421, 3), (24, .return_, 1), (15, .ifCond .ge 10, 3), (8, .return_, 1), (5, .ifCond .ne 4, 3)])
set_option maxRecDepth 100000 in
theorem m_Mo_deltas : hx_mok M_Mo_deltas = true := by decide +kernel
theorem pd_Mo_deltas : (parseMethodDescriptor M_Mo_deltas.2.1.desc).map (fun q => q.parameters.length) = some 2 := by decide +kernel
theorem y_Mo_deltas : hx_okV M_Mo_deltas := ⟨⟨lw_g (lw_at lw_m10 202 rfl) rfl, lw_g (lw_at lw_m10 201 rfl) rfl, qs176, lw_g (lw_at lw_m1 12 rfl) rfl, rfl, by decide, by decide, by decide⟩, rfl, by decide, plainFor_of_name (by decide)⟩
noncomputable def f_Mo_deltas (x1 : Int32) (x2 : Int32) (h : hH) : Option (Unit × hH) :=
  bS (f_Mo_has (1 : Int32) h) fun a1 h1 =>
  if a1 = 0 then (
    some ((), h1)
  ) else (
    bS (f_Mo_pop h1) fun a2 h2 =>
    if 0 ≤ a2 then (
      if ((128 : Int32) < a2 ∨ ¬ (((2 : Int32) * a2) ≤ (rdI h2 192 56))) then (
        bS (f_Mo_fail (1 : Int32) h2) fun _ h3 =>
        some ((), h3)
      ) else (
        wh (A := (Int32 × hH)) (B := (Unit × hH)) (fun p8 =>
            if a2 ≤ p8.1 then (
              some (.inr ((), p8.2))
            ) else (
              if (rdI p8.2 192 59) = 0 then (
                bS (f_Mo_pop p8.2) fun a9 h4 =>
                bS (f_Mo_pop h4) fun a10 h5 =>
                bP (A := hH) (
                  if (rdI h5 192 62) = (((rdI h5 192 85) + ((a10 >>> ((4 : Int32) &&& 31)) &&& (15 : Int32))) + x1) then (
                    lz (A := Int32) (if (a10 &&& (15 : Int32)) < (8 : Int32) then (8 : Int32) else (7 : Int32)) fun p12 =>
                    lz (A := Int64) (Int32.toInt64 ((a10 &&& (15 : Int32)) - p12)) fun v14 =>
                    lz (A := Int64) (v14 * ((1 : Int64) <<< ((Int32.toInt64 ((6 : Int32) - (rdI h5 192 86))) &&& 63))) fun v15 =>
                    if x2 = 0 then (
                      bS (f_Mo_cvtOf a9 h5) fun a16 h6 =>
                      if (rdI h6 192 59) = 0 then (
                        gd (vp_in a9 256) <|
                        lz (wrI h6 210 (Int32.toNatClampNeg a9) (Int64.toInt32 ((Int32.toInt64 a16) + v15))) fun h7 =>
                        some h7
                      ) else (
                        some h6
                      )
                    ) else (
                      bS (f_Mo_pointOf (rdI h5 192 72) a9 h5) fun a19 h8 =>
                      bP (A := hH) (
                        if (rdI h8 192 59) = 0 then (
                          bS (f_Mo_move a19 v15 h8) fun _ h9 =>
                          some h9
                        ) else (
                          some h8
                        )
                      ) fun p20 =>
                      some p20
                    )
                  ) else (
                    some h5
                  )
                ) fun p11 =>
                lz (A := Int32) (p8.1 + (1 : Int32)) fun v24 =>
                some (.inl (v24, p11))
              ) else (
                some (.inr ((), p8.2))
              )
            )
        ) ((0 : Int32), h2)
      )
    ) else (
      bS (f_Mo_fail (11 : Int32) h2) fun _ h10 =>
      some ((), h10)
    )
  )
set_option maxRecDepth 20000 in
theorem k_Mo_deltas (x1 : Int32) (x2 : Int32) (h : hH) : hx_kS S0 M_Mo_deltas 6 NT [(.ref 192), (.int x1), (.int x2)] h (f_Mo_deltas x1 x2 h) cvU := by
  have hm := m_Mo_deltas
  show hx_P S0 M_Mo_deltas 6 0 [(0, (.ref 192)), (1, (.int x1)), (2, (.int x2))] [] NT h (f_Mo_deltas x1 x2 h) (hx_Rc cvU NT)
  unfold f_Mo_deltas
  refine hp_cVS (M2 := M_Mo_has) hm (at1 0 rfl) (as := [(.int (1 : Int32))]) (rest := []) (z := 192) rfl (by exact trivial) (pc' := 2) rfl 0 rfl (lw_g (lw_at lw_m10 20 rfl) rfl) y_Mo_has rfl (d2 := 2) ⟨le_b rfl, pd_Mo_has, le_b rfl⟩ (le_b rfl) og_192 (k_Mo_has (1 : Int32) h) (fun a1 h1 => ?_)
  refine hp_if_ne hm at0 rfl (by exact trivial) (pc' := 5) rfl 27 rfl (tgt := 9) rfl (fun c28 => ?_) (fun c28 => ?_)
  · refine hp_cVS (M2 := M_Mo_pop) hm (at1 1 rfl) (as := []) (rest := []) (z := 192) rfl (by exact trivial) (pc' := 10) rfl 1 rfl (lw_g (lw_at lw_m10 24 rfl) rfl) y_Mo_pop rfl (d2 := 1) ⟨le_b rfl, pd_Mo_pop, le_b rfl⟩ (le_b rfl) og_192 (k_Mo_pop h1) (fun a2 h2 => ?_)
    refine hp_b hm (at1 2 rfl) (L' := [(3, (.int a2)), (0, (.ref 192)), (1, (.int x1)), (2, (.int x2))]) (st' := [(.int a2)]) rfl (by exact trivial) (pc' := 15) rfl ?_
    refine hp_if_ge hm at0 rfl (by exact trivial) (pc' := 15) rfl 25 rfl (tgt := 25) rfl (fun c27 => ?_) (fun c27 => ?_)
    · refine hp_cI (L0 := [(3, (.int a2)), (0, (.ref 192)), (1, (.int x1)), (2, (.int x2))]) (s0 := []) 42 48 ?_ (fun c7 => ?_) (fun c7 => ?_)
      · refine hp_or ?_
        refine hp_ic_gt hm (at1 3 rfl) rfl (by exact trivial) (pc' := 29) rfl 3 rfl (tgt := 42) rfl (fun c4 => ?_) (fun c4 => ?_)
        · exact hp_l0 (fun _ e => e)
        · refine hp_decn ?_
          refine hp_ic_ge hm (at1 4 rfl) rfl (by exact og_192) (pc' := 39) rfl 2 rfl (tgt := 48) rfl (fun c3 => ?_) (fun c3 => ?_)
          · exact hp_l0 (fun _ e => e)
          · exact hp_l0 (fun _ e => e)
      · refine hp_cVS (M2 := M_Mo_fail) hm (at1 5 rfl) (as := [(.int (1 : Int32))]) (rest := []) (z := 192) rfl (by exact trivial) (pc' := 44) rfl 4 rfl (lw_g (lw_at lw_m10 4 rfl) rfl) y_Mo_fail rfl (d2 := 1) ⟨le_b rfl, pd_Mo_fail, le_b rfl⟩ (le_b rfl) og_192 (k_Mo_fail (1 : Int32) h2) (fun _ h3 => ?_)
        exact hp_vr hm 5 rfl rfl (fun _ e => e)
      · refine hp_b hm (at1 6 rfl) (L' := [(4, (.int (0 : Int32))), (3, (.int a2)), (0, (.ref 192)), (1, (.int x1)), (2, (.int x2))]) (st' := []) rfl (by exact trivial) (pc' := 51) rfl ?_
        refine hp_s [2, 3, 4, 1, 0] rfl (L' := [(0, (.ref 192)), (1, (.int x1)), (2, (.int x2)), (3, (.int a2)), (4, (.int (0 : Int32)))]) ?_
        refine hp_wh (fun (p8 : (Int32 × hH)) => [(0, (.ref 192)), (1, (.int x1)), (2, (.int x2)), (3, (.int a2)), (4, (.int p8.1))]) [] (fun (p8 : (Int32 × hH)) => p8.2) (fun p8 => ?_) ((0 : Int32), h2)
        refine hp_ic_ge hm (at1 7 rfl) rfl (by exact trivial) (pc' := 54) rfl 22 rfl (tgt := 209) rfl (fun c26 => ?_) (fun c26 => ?_)
        · exact hp_vr hm 6 rfl rfl (fun _ e => e)
        · refine hp_if_ne hm (at1 8 rfl) rfl (by exact og_192) (pc' := 61) rfl 21 rfl (tgt := 209) rfl (fun c25 => ?_) (fun c25 => ?_)
          · exact hp_vr hm 6 rfl rfl (fun _ e => e)
          · refine hp_cVS (M2 := M_Mo_pop) hm (at1 9 rfl) (as := []) (rest := []) (z := 192) rfl (by exact trivial) (pc' := 65) rfl 7 rfl (lw_g (lw_at lw_m10 24 rfl) rfl) y_Mo_pop rfl (d2 := 1) ⟨le_b rfl, pd_Mo_pop, le_b rfl⟩ (le_b rfl) og_192 (k_Mo_pop p8.2) (fun a9 h4 => ?_)
            refine hp_b hm (at1 10 rfl) (L' := [(5, (.int a9)), (0, (.ref 192)), (1, (.int x1)), (2, (.int x2)), (3, (.int a2)), (4, (.int p8.1))]) (st' := [(.ref 192)]) rfl (by exact trivial) (pc' := 71) rfl ?_
            refine hp_cVS (M2 := M_Mo_pop) hm at0 (as := []) (rest := []) (z := 192) rfl (by exact trivial) (pc' := 71) rfl 8 rfl (lw_g (lw_at lw_m10 24 rfl) rfl) y_Mo_pop rfl (d2 := 1) ⟨le_b rfl, pd_Mo_pop, le_b rfl⟩ (le_b rfl) og_192 (k_Mo_pop h4) (fun a10 h5 => ?_)
            refine hp_b hm (at1 11 rfl) (L' := [(6, (.int a10)), (5, (.int a9)), (0, (.ref 192)), (1, (.int x1)), (2, (.int x2)), (3, (.int a2)), (4, (.int p8.1))]) (st' := [(.int (((rdI h5 192 85) + ((a10 >>> ((4 : Int32) &&& 31)) &&& (15 : Int32))) + x1)), (.int (rdI h5 192 62))]) rfl (by exact ⟨og_192, og_192⟩) (pc' := 94) rfl ?_
            refine hp_J 203 (fun (p11 : hH) => [(0, (.ref 192)), (1, (.int x1)), (2, (.int x2)), (3, (.int a2)), (4, (.int p8.1))]) (fun (p11 : hH) => []) (fun (p11 : hH) => p11) ?_ (fun p11 => ?_)
            · refine hp_ic_eq hm at0 rfl (by exact trivial) (pc' := 94) rfl 19 rfl (tgt := 100) rfl (fun c23 => ?_) (fun c23 => ?_)
              · refine hp_JZ 122 (fun (p12 : Int32) => [(0, (.ref 192)), (1, (.int x1)), (2, (.int x2)), (3, (.int a2)), (4, (.int p8.1)), (5, (.int a9))]) (fun (p12 : Int32) => [(.int p12), (.int (a10 &&& (15 : Int32)))]) (fun (p12 : Int32) => h5) ?_ (fun p12 => ?_)
                · refine hp_sv0 ?_
                  refine hp_ic_lt hm (at1 12 rfl) rfl (by exact trivial) (pc' := 112) rfl 10 rfl (tgt := 120) rfl (fun c13 => ?_) (fun c13 => ?_)
                  · refine hp_b hm (at1 13 rfl) (L' := [(6, (.int a10)), (5, (.int a9)), (0, (.ref 192)), (1, (.int x1)), (2, (.int x2)), (3, (.int a2)), (4, (.int p8.1))]) (st' := [(.int (8 : Int32)), (.int (a10 &&& (15 : Int32)))]) rfl (by exact trivial) (pc' := 122) rfl ?_
                    exact hp_lf [2, 3, 4, 5, 6, 1] rfl (fun _ e => e)
                  · refine hp_b hm (at1 14 rfl) (L' := [(6, (.int a10)), (5, (.int a9)), (0, (.ref 192)), (1, (.int x1)), (2, (.int x2)), (3, (.int a2)), (4, (.int p8.1))]) (st' := [(.int (7 : Int32)), (.int (a10 &&& (15 : Int32)))]) rfl (by exact trivial) (pc' := 117) rfl ?_
                    refine hp_goto hm 9 rfl (tgt := 122) rfl ?_
                    exact hp_lf [2, 3, 4, 5, 6, 1] rfl (fun _ e => e)
                · refine hp_z hm (at1 15 rfl) (fun (v14 : Int64) => [(7, (.long v14)), (0, (.ref 192)), (1, (.int x1)), (2, (.int x2)), (3, (.int a2)), (4, (.int p8.1)), (5, (.int a9))]) (fun (v14 : Int64) => []) rfl (by exact trivial) (pc' := 126) rfl (fun v14 => ?_)
                  refine hp_z hm (at1 16 rfl) (fun (v15 : Int64) => [(7, (.long v15)), (0, (.ref 192)), (1, (.int x1)), (2, (.int x2)), (3, (.int a2)), (4, (.int p8.1)), (5, (.int a9))]) (fun (v15 : Int64) => []) rfl (by exact og_192) (pc' := 140) rfl (fun v15 => ?_)
                  refine hp_if_eq hm (at1 17 rfl) rfl (by exact trivial) (pc' := 141) rfl 17 rfl (tgt := 174) rfl (fun c22 => ?_) (fun c22 => ?_)
                  · refine hp_cVS (M2 := M_Mo_cvtOf) hm (at1 18 rfl) (as := [(.int a9)]) (rest := []) (z := 192) rfl (by exact trivial) (pc' := 177) rfl 11 rfl (lw_g (lw_at lw_m10 78 rfl) rfl) y_Mo_cvtOf rfl (d2 := 2) ⟨le_b rfl, pd_Mo_cvtOf, le_b rfl⟩ (le_b rfl) og_192 (k_Mo_cvtOf a9 h5) (fun a16 h6 => ?_)
                    refine hp_b hm (at1 19 rfl) (L' := [(9, (.int a16)), (7, (.long v15)), (0, (.ref 192)), (1, (.int x1)), (2, (.int x2)), (3, (.int a2)), (4, (.int p8.1)), (5, (.int a9))]) (st' := [(.int (rdI h6 192 59))]) rfl (by exact og_192) (pc' := 186) rfl ?_
                    refine hp_if_ne hm at0 rfl (by exact trivial) (pc' := 186) rfl 12 rfl (tgt := 203) rfl (fun c18 => ?_) (fun c18 => ?_)
                    · exact hp_lf [2, 3, 4, 5, 6] rfl (fun _ e => e)
                    · refine hp_GW hm (at1 20 rfl) (L' := [(9, (.int a16)), (7, (.long v15)), (0, (.ref 192)), (1, (.int x1)), (2, (.int x2)), (3, (.int a2)), (4, (.int p8.1)), (5, (.int a9))]) rfl (fun hP => (by exact ⟨og_192, ⟨og_210, hP⟩⟩)) (pc' := 203) rfl (fun q17 h7 => ?_)
                      exact hp_lf [2, 3, 4, 5, 6] rfl (fun _ e => e)
                  · refine hp_cVS (M2 := M_Mo_pointOf) hm (at1 21 rfl) (as := [(.int (rdI h5 192 72)), (.int a9)]) (rest := []) (z := 192) rfl (by exact og_192) (pc' := 151) rfl 13 rfl (lw_g (lw_at lw_m10 28 rfl) rfl) y_Mo_pointOf rfl (d2 := 2) ⟨le_b rfl, pd_Mo_pointOf, le_b rfl⟩ (le_b rfl) og_192 (k_Mo_pointOf (rdI h5 192 72) a9 h5) (fun a19 h8 => ?_)
                    refine hp_b hm (at1 22 rfl) (L' := [(9, (.int a19)), (7, (.long v15)), (0, (.ref 192)), (1, (.int x1)), (2, (.int x2)), (3, (.int a2)), (4, (.int p8.1)), (5, (.int a9))]) (st' := [(.int (rdI h8 192 59))]) rfl (by exact og_192) (pc' := 160) rfl ?_
                    refine hp_J 171 (fun (p20 : hH) => [(0, (.ref 192)), (1, (.int x1)), (2, (.int x2)), (3, (.int a2)), (4, (.int p8.1))]) (fun (p20 : hH) => []) (fun (p20 : hH) => p20) ?_ (fun p20 => ?_)
                    · refine hp_if_ne hm at0 rfl (by exact trivial) (pc' := 160) rfl 15 rfl (tgt := 171) rfl (fun c21 => ?_) (fun c21 => ?_)
                      · exact hp_lf [2, 3, 4, 5, 6] rfl (fun _ e => e)
                      · refine hp_cVS (M2 := M_Mo_move) hm (at1 23 rfl) (as := [(.int a19), (.long v15)]) (rest := []) (z := 192) rfl (by exact trivial) (pc' := 168) rfl 14 rfl (lw_g (lw_at lw_m10 61 rfl) rfl) y_Mo_move rfl (d2 := 5) ⟨le_b rfl, pd_Mo_move, le_b rfl⟩ (le_b rfl) og_192 (k_Mo_move a19 v15 h8) (fun _ h9 => ?_)
                        exact hp_lf [2, 3, 4, 5, 6] rfl (fun _ e => e)
                    · refine hp_goto hm 16 rfl (tgt := 203) rfl ?_
                      exact hp_lf [0, 1, 2, 3, 4] rfl (fun _ e => e)
              · refine hp_goto hm 18 rfl (tgt := 203) rfl ?_
                exact hp_lf [2, 3, 4, 5, 6] rfl (fun _ e => e)
            · refine hp_z hm (at1 24 rfl) (fun (v24 : Int32) => [(4, (.int v24)), (0, (.ref 192)), (1, (.int x1)), (2, (.int x2)), (3, (.int a2))]) (fun (v24 : Int32) => []) rfl (by exact trivial) (pc' := 206) rfl (fun v24 => ?_)
              refine hp_goto hm 20 rfl (tgt := 51) rfl ?_
              exact hp_lf [1, 2, 3, 4, 0] rfl (fun _ e => e)
    · refine hp_cVS (M2 := M_Mo_fail) hm (at1 25 rfl) (as := [(.int (11 : Int32))]) (rest := []) (z := 192) rfl (by exact trivial) (pc' := 21) rfl 23 rfl (lw_g (lw_at lw_m10 4 rfl) rfl) y_Mo_fail rfl (d2 := 1) ⟨le_b rfl, pd_Mo_fail, le_b rfl⟩ (le_b rfl) og_192 (k_Mo_fail (11 : Int32) h2) (fun _ h10 => ?_)
      exact hp_vr hm 24 rfl rfl (fun _ e => e)
  · exact hp_vr hm 26 rfl rfl (fun _ e => e)
