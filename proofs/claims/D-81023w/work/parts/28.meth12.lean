/-! LAYER 2b: methods (printed by gen/dec.py): Mo_makePart Mo_makeGlyph Mo_makeIt Mo_make Mo_node Mo_cross Mo_between0 Mo_straight Mo_meetsZero Mo_curve Mo_contour Mo_isInside Mo_isIn Mo_canvas Mo_drawIt Mo_draw -/
/-! HintHouseModel.makeGlyph(II)V -/
def M_Mo_makeGlyph : hM := (11, ⟨"HintHouseModel", "makeGlyph", "(II)V"⟩, prog_13_method_102_code, 9, (Option.none : Option Jvm.ClassFile.FieldType), [], [(0, [(.aload_n 0, 1, 0, 0, 0, .null), (.iload_n 1, 1, 0, 0, 0, .null)]), (5, [(.istore_n 3, 1, 0, 0, 0, .null), (.bipush 102, 2, 0, 0, 0, (.int (102 : Int32))), (.iload_n 2, 1, 0, 0, 0, .null), (.imul, 1, 0, 0, 0, .null), (.istore 4, 2, 0, 0, 0, .null)]), (12, [(.iload_n 3, 1, 0, 0, 0, .null), (.aload_n 0, 1, 0, 0, 0, .null), (.iload_n 1, 1, 0, 0, 0, .null)]), (18, [(.isub, 1, 0, 0, 0, .null), (.istore 5, 2, 0, 0, 0, .null)]), (21, [(.aload_n 0, 1, 0, 0, 0, .null), (.getfield 164, 3, 11, 124, 4, .null), (.iconst 4, 1, 0, 0, 0, (.int (4 : Int32))), (.iload_n 2, 1, 0, 0, 0, .null), (.imul, 1, 0, 0, 0, .null), (.aload_n 0, 1, 0, 0, 0, .null), (.iload 5, 2, 0, 0, 0, .null), (.i2l, 1, 0, 0, 0, .null)]), (35, [(.iastore, 1, 0, 0, 0, .null)]), (36, [(.aload_n 0, 1, 0, 0, 0, .null), (.getfield 164, 3, 11, 124, 4, .null), (.iconst 4, 1, 0, 0, 0, (.int (4 : Int32))), (.iload_n 2, 1, 0, 0, 0, .null), (.imul, 1, 0, 0, 0, .null), (.iconst 1, 1, 0, 0, 0, (.int (1 : Int32))), (.iadd, 1, 0, 0, 0, .null), (.iconst 0, 1, 0, 0, 0, (.int (0 : Int32))), (.iastore, 1, 0, 0, 0, .null)]), (47, [(.aload_n 0, 1, 0, 0, 0, .null), (.getfield 164, 3, 11, 124, 4, .null), (.iconst 4, 1, 0, 0, 0, (.int (4 : Int32))), (.iload_n 2, 1, 0, 0, 0, .null), (.imul, 1, 0, 0, 0, .null), (.iconst 2, 1, 0, 0, 0, (.int (2 : Int32))), (.iadd, 1, 0, 0, 0, .null), (.aload_n 0, 1, 0, 0, 0, .null), (.iload 5, 2, 0, 0, 0, .null), (.i2l, 1, 0, 0, 0, .null), (.aload_n 0, 1, 0, 0, 0, .null), (.iload_n 1, 1, 0, 0, 0, .null)]), (65, [(.i2l, 1, 0, 0, 0, .null), (.ladd, 1, 0, 0, 0, .null)]), (70, [(.iastore, 1, 0, 0, 0, .null)]), (71, [(.aload_n 0, 1, 0, 0, 0, .null), (.getfield 164, 3, 11, 124, 4, .null), (.iconst 4, 1, 0, 0, 0, (.int (4 : Int32))), (.iload_n 2, 1, 0, 0, 0, .null), (.imul, 1, 0, 0, 0, .null), (.iconst 3, 1, 0, 0, 0, (.int (3 : Int32))), (.iadd, 1, 0, 0, 0, .null), (.iconst 0, 1, 0, 0, 0, (.int (0 : Int32))), (.iastore, 1, 0, 0, 0, .null)]), (82, [(.aload_n 0, 1, 0, 0, 0, .null), (.getfield 146, 3, 11, 118, 4, .null), (.iload_n 2, 1, 0, 0, 0, .null), (.iconst 0, 1, 0, 0, 0, (.int (0 : Int32))), (.iastore, 1, 0, 0, 0, .null)]), (89, [(.aload_n 0, 1, 0, 0, 0, .null), (.getfield 149, 3, 11, 119, 4, .null), (.iload_n 2, 1, 0, 0, 0, .null), (.iconst 0, 1, 0, 0, 0, (.int (0 : Int32))), (.iastore, 1, 0, 0, 0, .null)]), (96, [(.aload_n 0, 1, 0, 0, 0, .null), (.iload_n 1, 1, 0, 0, 0, .null)]), (101, [(.istore 6, 2, 0, 0, 0, .null), (.aload_n 0, 1, 0, 0, 0, .null), (.getfield 348, 3, 11, 28, 0, .null), (.iconst (-1), 1, 0, 0, 0, (.int (-1 : Int32)))]), (151, [(.aload_n 0, 1, 0, 0, 0, .null), (.getfield 146, 3, 11, 118, 4, .null), (.iload_n 2, 1, 0, 0, 0, .null), (.aload_n 0, 1, 0, 0, 0, .null), (.getfield 351, 3, 11, 29, 0, .null), (.iastore, 1, 0, 0, 0, .null)]), (161, [(.aload_n 0, 1, 0, 0, 0, .null), (.getfield 149, 3, 11, 119, 4, .null), (.iload_n 2, 1, 0, 0, 0, .null), (.aload_n 0, 1, 0, 0, 0, .null), (.getfield 351, 3, 11, 29, 0, .null)]), (177, [(.aload_n 0, 1, 0, 0, 0, .null), (.getfield 348, 3, 11, 28, 0, .null)]), (173, [(.iconst 0, 1, 0, 0, 0, (.int (0 : Int32)))]), (181, [(.iastore, 1, 0, 0, 0, .null)]), (182, [(.iconst 0, 1, 0, 0, 0, (.int (0 : Int32))), (.istore 7, 2, 0, 0, 0, .null)]), (185, [(.iload 7, 2, 0, 0, 0, .null), (.aload_n 0, 1, 0, 0, 0, .null), (.getfield 149, 3, 11, 119, 4, .null), (.iload_n 2, 1, 0, 0, 0, .null), (.iaload, 1, 0, 0, 0, .null)]), (196, [(.aload_n 0, 1, 0, 0, 0, .null), (.getfield 161, 3, 11, 123, 4, .null), (.bipush 20, 2, 0, 0, 0, (.int (20 : Int32))), (.iload_n 2, 1, 0, 0, 0, .null), (.imul, 1, 0, 0, 0, .null), (.iload 7, 2, 0, 0, 0, .null), (.iadd, 1, 0, 0, 0, .null), (.aload_n 0, 1, 0, 0, 0, .null), (.getfield 30, 3, 11, 33, 4, .null), (.iload 7, 2, 0, 0, 0, .null), (.iaload, 1, 0, 0, 0, .null), (.iastore, 1, 0, 0, 0, .null)]), (215, [(.iinc 7 1, 3, 0, 0, 0, (.int (1 : Int32)))]), (221, [(.iconst 0, 1, 0, 0, 0, (.int (0 : Int32))), (.istore 7, 2, 0, 0, 0, .null)]), (224, [(.iload 7, 2, 0, 0, 0, .null), (.aload_n 0, 1, 0, 0, 0, .null), (.getfield 351, 3, 11, 29, 0, .null)]), (233, [(.aload_n 0, 1, 0, 0, 0, .null), (.getfield 152, 3, 11, 120, 4, .null), (.iload 4, 2, 0, 0, 0, .null), (.iload 7, 2, 0, 0, 0, .null), (.iadd, 1, 0, 0, 0, .null), (.aload_n 0, 1, 0, 0, 0, .null), (.aload_n 0, 1, 0, 0, 0, .null), (.getfield 33, 3, 11, 34, 4, .null), (.iload 7, 2, 0, 0, 0, .null), (.iaload, 1, 0, 0, 0, .null), (.i2l, 1, 0, 0, 0, .null)]), (254, [(.iastore, 1, 0, 0, 0, .null)]), (255, [(.aload_n 0, 1, 0, 0, 0, .null), (.getfield 155, 3, 11, 121, 4, .null), (.iload 4, 2, 0, 0, 0, .null), (.iload 7, 2, 0, 0, 0, .null), (.iadd, 1, 0, 0, 0, .null), (.aload_n 0, 1, 0, 0, 0, .null), (.aload_n 0, 1, 0, 0, 0, .null), (.getfield 36, 3, 11, 35, 4, .null), (.iload 7, 2, 0, 0, 0, .null), (.iaload, 1, 0, 0, 0, .null), (.i2l, 1, 0, 0, 0, .null)]), (276, [(.iastore, 1, 0, 0, 0, .null)]), (277, [(.aload_n 0, 1, 0, 0, 0, .null), (.getfield 158, 3, 11, 122, 4, .null), (.iload 4, 2, 0, 0, 0, .null), (.iload 7, 2, 0, 0, 0, .null), (.iadd, 1, 0, 0, 0, .null), (.aload_n 0, 1, 0, 0, 0, .null), (.getfield 39, 3, 11, 36, 4, .null), (.iload 7, 2, 0, 0, 0, .null), (.iaload, 1, 0, 0, 0, .null), (.iconst 1, 1, 0, 0, 0, (.int (1 : Int32))), (.iand, 1, 0, 0, 0, .null)]), (302, [(.iconst 0, 1, 0, 0, 0, (.int (0 : Int32)))]), (298, [(.iconst 1, 1, 0, 0, 0, (.int (1 : Int32)))]), (303, [(.bastore, 1, 101, 0, 0, .null)]), (304, [(.iinc 7 1, 3, 0, 0, 0, (.int (1 : Int32)))]), (111, [(.aload_n 0, 1, 0, 0, 0, .null), (.getfield 354, 3, 11, 30, 0, .null), (.istore 7, 2, 0, 0, 0, .null)]), (117, [(.iconst 0, 1, 0, 0, 0, (.int (0 : Int32))), (.istore 8, 2, 0, 0, 0, .null)]), (120, [(.iload 8, 2, 0, 0, 0, .null), (.iload 7, 2, 0, 0, 0, .null)]), (127, [(.aload_n 0, 1, 0, 0, 0, .null), (.getfield 409, 3, 11, 59, 0, .null)]), (134, [(.aload_n 0, 1, 0, 0, 0, .null), (.iload_n 1, 1, 0, 0, 0, .null), (.iload 8, 2, 0, 0, 0, .null), (.iload_n 2, 1, 0, 0, 0, .null)]), (142, [(.iinc 8 1, 3, 0, 0, 0, (.int (1 : Int32)))]), (310, [(.iconst 0, 1, 0, 0, 0, (.int (0 : Int32))), (.istore 7, 2, 0, 0, 0, .null)]), (313, [(.iload 7, 2, 0, 0, 0, .null), (.aload_n 0, 1, 0, 0, 0, .null), (.getfield 146, 3, 11, 118, 4, .null), (.iload_n 2, 1, 0, 0, 0, .null), (.iaload, 1, 0, 0, 0, .null)]), (324, [(.aload_n 0, 1, 0, 0, 0, .null), (.getfield 409, 3, 11, 59, 0, .null)]), (331, [(.aload_n 0, 1, 0, 0, 0, .null), (.getfield 152, 3, 11, 120, 4, .null), (.iload 4, 2, 0, 0, 0, .null), (.iload 7, 2, 0, 0, 0, .null), (.iadd, 1, 0, 0, 0, .null), (.iaload, 1, 0, 0, 0, .null), (.i2l, 1, 0, 0, 0, .null), (.ldc2_w 791, 3, 0, 0, 0, (.long (-1000000 : Int64))), (.ldc2_w 793, 3, 0, 0, 0, (.long (1000000 : Int64)))]), (354, [(.aload_n 0, 1, 0, 0, 0, .null), (.getfield 155, 3, 11, 121, 4, .null), (.iload 4, 2, 0, 0, 0, .null), (.iload 7, 2, 0, 0, 0, .null), (.iadd, 1, 0, 0, 0, .null), (.iaload, 1, 0, 0, 0, .null), (.i2l, 1, 0, 0, 0, .null), (.ldc2_w 791, 3, 0, 0, 0, (.long (-1000000 : Int64))), (.ldc2_w 793, 3, 0, 0, 0, (.long (1000000 : Int64)))]), (377, [(.aload_n 0, 1, 0, 0, 0, .null), (.bipush 13, 2, 0, 0, 0, (.int (13 : Int32)))]), (383, [(.iinc 7 1, 3, 0, 0, 0, (.int (1 : Int32)))]), (389, [(.aload_n 0, 1, 0, 0, 0, .null), (.getfield 409, 3, 11, 59, 0, .null)]), (396, [(.aload_n 0, 1, 0, 0, 0, .null), (.iload_n 1, 1, 0, 0, 0, .null)]), (401, [(.istore 6, 2, 0, 0, 0, .null), (.iload_n 2, 1, 0, 0, 0, .null)]), (407, [(.aload_n 0, 1, 0, 0, 0, .null), (.aload_n 0, 1, 0, 0, 0, .null), (.getfield 140, 3, 11, 116, 4, .null), (.bipush 7, 2, 0, 0, 0, (.int (7 : Int32))), (.iaload, 1, 0, 0, 0, .null), (.putfield 798, 3, 11, 126, 0, .null)]), (418, [(.aload_n 0, 1, 0, 0, 0, .null), (.aload_n 0, 1, 0, 0, 0, .null), (.getfield 140, 3, 11, 116, 4, .null), (.bipush 8, 2, 0, 0, 0, (.int (8 : Int32))), (.iaload, 1, 0, 0, 0, .null), (.putfield 801, 3, 11, 127, 0, .null)]), (429, [(.aload_n 0, 1, 0, 0, 0, .null), (.getfield 360, 3, 11, 32, 0, .null)]), (436, [(.aload_n 0, 1, 0, 0, 0, .null), (.iload_n 2, 1, 0, 0, 0, .null)])], [(2, .invokevirtual 779, 3), (15, .invokevirtual 782, 3), (32, .invokevirtual 611, 3), (62, .invokevirtual 785, 3), (67, .invokevirtual 611, 3), (98, .invokevirtual 278, 3), (174, .goto 7, 3), (170, .ifCond .ne 7, 3), (218, .goto (-33), 3), (193, .if_icmp .ge 28, 3), (251, .invokevirtual 611, 3), (273, .invokevirtual 611, 3), (299, .goto 4, 3), (295, .ifCond .eq 7, 3), (307, .goto (-83), 3), (230, .if_icmp .ge 80, 3), (131, .ifCond .ne 17, 3), (124, .if_icmp .ge 24, 3), (139, .invokevirtual 788, 3), (145, .goto (-25), 3), (148, .goto 162, 3), (108, .if_icmp .ne 43, 3), (328, .ifCond .ne 61, 3), (321, .if_icmp .ge 68, 3), (348, .invokestatic 263, 3), (371, .invokestatic 263, 3), (374, .ifCond .ne 9, 3), (351, .ifCond .eq 26, 3), (380, .invokevirtual 795, 3), (386, .goto (-73), 3), (441, .return_, 1), (398, .invokevirtual 278, 3), (404, .ifCond .ne 25, 3), (438, .invokevirtual 804, 3), (433, .ifCond .le 8, 3), (393, .ifCond .ne 48, 3)])
set_option maxRecDepth 100000 in
theorem m_Mo_makeGlyph : hx_mok M_Mo_makeGlyph = true := by decide +kernel
theorem pd_Mo_makeGlyph : (parseMethodDescriptor M_Mo_makeGlyph.2.1.desc).map (fun q => q.parameters.length) = some 2 := by decide +kernel
theorem y_Mo_makeGlyph : hx_okV M_Mo_makeGlyph := ⟨⟨lw_g (lw_at lw_m11 3 rfl) rfl, lw_g (lw_at lw_m11 2 rfl) rfl, qs184, lw_g (lw_at lw_m1 12 rfl) rfl, rfl, by decide, by decide, by decide⟩, rfl, by decide, plainFor_of_name (by decide)⟩
/-! HintHouseModel.makePart(III)V -/
def M_Mo_makePart : hM := (11, ⟨"HintHouseModel", "makePart", "(III)V"⟩, prog_13_method_103_code, 23, (Option.none : Option Jvm.ClassFile.FieldType), [], [(0, [(.aload_n 0, 1, 0, 0, 0, .null), (.getfield 807, 3, 11, 125, 0, .null), (.bipush 60, 2, 0, 0, 0, (.int (60 : Int32)))]), (16, [(.aload_n 0, 1, 0, 0, 0, .null), (.dup, 1, 0, 0, 0, .null), (.getfield 807, 3, 11, 125, 0, .null), (.iconst 1, 1, 0, 0, 0, (.int (1 : Int32))), (.iadd, 1, 0, 0, 0, .null), (.putfield 807, 3, 11, 125, 0, .null)]), (26, [(.aload_n 0, 1, 0, 0, 0, .null), (.iload_n 1, 1, 0, 0, 0, .null)]), (31, [(.istore 4, 2, 0, 0, 0, .null), (.aload_n 0, 1, 0, 0, 0, .null), (.getfield 45, 3, 11, 38, 4, .null), (.iload_n 2, 1, 0, 0, 0, .null), (.iaload, 1, 0, 0, 0, .null), (.istore 5, 2, 0, 0, 0, .null)]), (41, [(.aload_n 0, 1, 0, 0, 0, .null), (.iload 5, 2, 0, 0, 0, .null), (.iload_n 3, 1, 0, 0, 0, .null), (.iconst 1, 1, 0, 0, 0, (.int (1 : Int32))), (.iadd, 1, 0, 0, 0, .null)]), (50, [(.aload_n 0, 1, 0, 0, 0, .null), (.iload_n 1, 1, 0, 0, 0, .null)]), (55, [(.istore 4, 2, 0, 0, 0, .null), (.aload_n 0, 1, 0, 0, 0, .null), (.getfield 409, 3, 11, 59, 0, .null)]), (65, [(.bipush 102, 2, 0, 0, 0, (.int (102 : Int32))), (.iload_n 3, 1, 0, 0, 0, .null), (.imul, 1, 0, 0, 0, .null), (.istore 6, 2, 0, 0, 0, .null)]), (71, [(.iload 6, 2, 0, 0, 0, .null), (.bipush 102, 2, 0, 0, 0, (.int (102 : Int32))), (.iadd, 1, 0, 0, 0, .null), (.istore 7, 2, 0, 0, 0, .null)]), (78, [(.aload_n 0, 1, 0, 0, 0, .null), (.getfield 146, 3, 11, 118, 4, .null), (.iload_n 3, 1, 0, 0, 0, .null), (.iaload, 1, 0, 0, 0, .null), (.istore 8, 2, 0, 0, 0, .null)]), (86, [(.aload_n 0, 1, 0, 0, 0, .null), (.getfield 146, 3, 11, 118, 4, .null), (.iload_n 3, 1, 0, 0, 0, .null), (.iconst 1, 1, 0, 0, 0, (.int (1 : Int32))), (.iadd, 1, 0, 0, 0, .null), (.iaload, 1, 0, 0, 0, .null), (.istore 9, 2, 0, 0, 0, .null)]), (96, [(.iload 8, 2, 0, 0, 0, .null), (.iload 9, 2, 0, 0, 0, .null), (.iadd, 1, 0, 0, 0, .null), (.bipush 100, 2, 0, 0, 0, (.int (100 : Int32)))]), (106, [(.aload_n 0, 1, 0, 0, 0, .null), (.getfield 149, 3, 11, 119, 4, .null), (.iload_n 3, 1, 0, 0, 0, .null), (.iaload, 1, 0, 0, 0, .null), (.aload_n 0, 1, 0, 0, 0, .null), (.getfield 149, 3, 11, 119, 4, .null), (.iload_n 3, 1, 0, 0, 0, .null), (.iconst 1, 1, 0, 0, 0, (.int (1 : Int32))), (.iadd, 1, 0, 0, 0, .null), (.iaload, 1, 0, 0, 0, .null), (.iadd, 1, 0, 0, 0, .null), (.bipush 20, 2, 0, 0, 0, (.int (20 : Int32)))]), (126, [(.aload_n 0, 1, 0, 0, 0, .null), (.bipush 12, 2, 0, 0, 0, (.int (12 : Int32)))]), (133, [(.aload_n 0, 1, 0, 0, 0, .null), (.getfield 54, 3, 11, 41, 4, .null), (.iconst 4, 1, 0, 0, 0, (.int (4 : Int32))), (.iload_n 2, 1, 0, 0, 0, .null), (.imul, 1, 0, 0, 0, .null), (.iaload, 1, 0, 0, 0, .null), (.i2l, 1, 0, 0, 0, .null), (.lstore 10, 2, 0, 0, 0, .null)]), (144, [(.aload_n 0, 1, 0, 0, 0, .null), (.getfield 54, 3, 11, 41, 4, .null), (.iconst 4, 1, 0, 0, 0, (.int (4 : Int32))), (.iload_n 2, 1, 0, 0, 0, .null), (.imul, 1, 0, 0, 0, .null), (.iconst 1, 1, 0, 0, 0, (.int (1 : Int32))), (.iadd, 1, 0, 0, 0, .null), (.iaload, 1, 0, 0, 0, .null), (.i2l, 1, 0, 0, 0, .null), (.lstore 12, 2, 0, 0, 0, .null)]), (157, [(.aload_n 0, 1, 0, 0, 0, .null), (.getfield 54, 3, 11, 41, 4, .null), (.iconst 4, 1, 0, 0, 0, (.int (4 : Int32))), (.iload_n 2, 1, 0, 0, 0, .null), (.imul, 1, 0, 0, 0, .null), (.iconst 2, 1, 0, 0, 0, (.int (2 : Int32))), (.iadd, 1, 0, 0, 0, .null), (.iaload, 1, 0, 0, 0, .null), (.i2l, 1, 0, 0, 0, .null), (.lstore 14, 2, 0, 0, 0, .null)]), (170, [(.aload_n 0, 1, 0, 0, 0, .null), (.getfield 54, 3, 11, 41, 4, .null), (.iconst 4, 1, 0, 0, 0, (.int (4 : Int32))), (.iload_n 2, 1, 0, 0, 0, .null), (.imul, 1, 0, 0, 0, .null), (.iconst 3, 1, 0, 0, 0, (.int (3 : Int32))), (.iadd, 1, 0, 0, 0, .null), (.iaload, 1, 0, 0, 0, .null), (.i2l, 1, 0, 0, 0, .null), (.lstore 16, 2, 0, 0, 0, .null)]), (183, [(.iconst 0, 1, 0, 0, 0, (.int (0 : Int32))), (.istore 18, 2, 0, 0, 0, .null)]), (186, [(.iload 18, 2, 0, 0, 0, .null), (.iload 9, 2, 0, 0, 0, .null)]), (193, [(.aload_n 0, 1, 0, 0, 0, .null), (.getfield 152, 3, 11, 120, 4, .null), (.iload 7, 2, 0, 0, 0, .null), (.iload 18, 2, 0, 0, 0, .null), (.iadd, 1, 0, 0, 0, .null), (.iaload, 1, 0, 0, 0, .null), (.i2l, 1, 0, 0, 0, .null), (.lstore 19, 2, 0, 0, 0, .null)]), (206, [(.aload_n 0, 1, 0, 0, 0, .null), (.getfield 155, 3, 11, 121, 4, .null), (.iload 7, 2, 0, 0, 0, .null), (.iload 18, 2, 0, 0, 0, .null), (.iadd, 1, 0, 0, 0, .null), (.iaload, 1, 0, 0, 0, .null), (.i2l, 1, 0, 0, 0, .null), (.lstore 21, 2, 0, 0, 0, .null)]), (219, [(.aload_n 0, 1, 0, 0, 0, .null), (.getfield 152, 3, 11, 120, 4, .null), (.iload 6, 2, 0, 0, 0, .null), (.iload 8, 2, 0, 0, 0, .null), (.iadd, 1, 0, 0, 0, .null), (.iload 18, 2, 0, 0, 0, .null), (.iadd, 1, 0, 0, 0, .null), (.lload 19, 2, 0, 0, 0, .null), (.lload 10, 2, 0, 0, 0, .null), (.lmul, 1, 0, 0, 0, .null), (.lload 21, 2, 0, 0, 0, .null), (.lload 14, 2, 0, 0, 0, .null), (.lmul, 1, 0, 0, 0, .null), (.ladd, 1, 0, 0, 0, .null), (.ldc2_w 310, 3, 0, 0, 0, (.long (16384 : Int64)))]), (248, [(.l2i, 1, 0, 0, 0, .null), (.iastore, 1, 0, 0, 0, .null)]), (250, [(.aload_n 0, 1, 0, 0, 0, .null), (.getfield 155, 3, 11, 121, 4, .null), (.iload 6, 2, 0, 0, 0, .null), (.iload 8, 2, 0, 0, 0, .null), (.iadd, 1, 0, 0, 0, .null), (.iload 18, 2, 0, 0, 0, .null), (.iadd, 1, 0, 0, 0, .null), (.lload 19, 2, 0, 0, 0, .null), (.lload 12, 2, 0, 0, 0, .null), (.lmul, 1, 0, 0, 0, .null), (.lload 21, 2, 0, 0, 0, .null), (.lload 16, 2, 0, 0, 0, .null), (.lmul, 1, 0, 0, 0, .null), (.ladd, 1, 0, 0, 0, .null), (.ldc2_w 310, 3, 0, 0, 0, (.long (16384 : Int64)))]), (279, [(.l2i, 1, 0, 0, 0, .null), (.iastore, 1, 0, 0, 0, .null)]), (281, [(.aload_n 0, 1, 0, 0, 0, .null), (.getfield 158, 3, 11, 122, 4, .null), (.iload 6, 2, 0, 0, 0, .null), (.iload 8, 2, 0, 0, 0, .null), (.iadd, 1, 0, 0, 0, .null), (.iload 18, 2, 0, 0, 0, .null), (.iadd, 1, 0, 0, 0, .null), (.aload_n 0, 1, 0, 0, 0, .null), (.getfield 158, 3, 11, 122, 4, .null), (.iload 7, 2, 0, 0, 0, .null), (.iload 18, 2, 0, 0, 0, .null), (.iadd, 1, 0, 0, 0, .null), (.baload, 1, 101, 0, 0, .null), (.bastore, 1, 101, 0, 0, .null)]), (304, [(.iinc 18 1, 3, 0, 0, 0, (.int (1 : Int32)))]), (310, [(.iconst 0, 1, 0, 0, 0, (.int (0 : Int32))), (.istore 18, 2, 0, 0, 0, .null), (.iconst 0, 1, 0, 0, 0, (.int (0 : Int32))), (.istore 19, 2, 0, 0, 0, .null), (.aload_n 0, 1, 0, 0, 0, .null), (.getfield 42, 3, 11, 37, 4, .null), (.iload_n 2, 1, 0, 0, 0, .null), (.iaload, 1, 0, 0, 0, .null), (.iconst 2, 1, 0, 0, 0, (.int (2 : Int32))), (.iand, 1, 0, 0, 0, .null)]), (404, [(.aload_n 0, 1, 0, 0, 0, .null), (.getfield 48, 3, 11, 39, 4, .null), (.iload_n 2, 1, 0, 0, 0, .null), (.iaload, 1, 0, 0, 0, .null)]), (413, [(.aload_n 0, 1, 0, 0, 0, .null), (.getfield 48, 3, 11, 39, 4, .null), (.iload_n 2, 1, 0, 0, 0, .null), (.iaload, 1, 0, 0, 0, .null), (.iload 8, 2, 0, 0, 0, .null)]), (424, [(.aload_n 0, 1, 0, 0, 0, .null), (.getfield 51, 3, 11, 40, 4, .null), (.iload_n 2, 1, 0, 0, 0, .null), (.iaload, 1, 0, 0, 0, .null)]), (433, [(.aload_n 0, 1, 0, 0, 0, .null), (.getfield 51, 3, 11, 40, 4, .null), (.iload_n 2, 1, 0, 0, 0, .null), (.iaload, 1, 0, 0, 0, .null), (.iload 9, 2, 0, 0, 0, .null)]), (444, [(.aload_n 0, 1, 0, 0, 0, .null), (.iconst 5, 1, 0, 0, 0, (.int (5 : Int32)))]), (450, [(.aload_n 0, 1, 0, 0, 0, .null), (.getfield 152, 3, 11, 120, 4, .null), (.iload 6, 2, 0, 0, 0, .null), (.aload_n 0, 1, 0, 0, 0, .null), (.getfield 48, 3, 11, 39, 4, .null), (.iload_n 2, 1, 0, 0, 0, .null), (.iaload, 1, 0, 0, 0, .null), (.iadd, 1, 0, 0, 0, .null), (.iaload, 1, 0, 0, 0, .null), (.aload_n 0, 1, 0, 0, 0, .null), (.getfield 152, 3, 11, 120, 4, .null), (.iload 6, 2, 0, 0, 0, .null), (.iload 8, 2, 0, 0, 0, .null), (.iadd, 1, 0, 0, 0, .null), (.aload_n 0, 1, 0, 0, 0, .null), (.getfield 51, 3, 11, 40, 4, .null), (.iload_n 2, 1, 0, 0, 0, .null), (.iaload, 1, 0, 0, 0, .null), (.iadd, 1, 0, 0, 0, .null), (.iaload, 1, 0, 0, 0, .null), (.isub, 1, 0, 0, 0, .null), (.istore 18, 2, 0, 0, 0, .null)]), (484, [(.aload_n 0, 1, 0, 0, 0, .null), (.getfield 155, 3, 11, 121, 4, .null), (.iload 6, 2, 0, 0, 0, .null), (.aload_n 0, 1, 0, 0, 0, .null), (.getfield 48, 3, 11, 39, 4, .null), (.iload_n 2, 1, 0, 0, 0, .null), (.iaload, 1, 0, 0, 0, .null), (.iadd, 1, 0, 0, 0, .null), (.iaload, 1, 0, 0, 0, .null), (.aload_n 0, 1, 0, 0, 0, .null), (.getfield 155, 3, 11, 121, 4, .null), (.iload 6, 2, 0, 0, 0, .null), (.iload 8, 2, 0, 0, 0, .null), (.iadd, 1, 0, 0, 0, .null), (.aload_n 0, 1, 0, 0, 0, .null), (.getfield 51, 3, 11, 40, 4, .null), (.iload_n 2, 1, 0, 0, 0, .null), (.iaload, 1, 0, 0, 0, .null), (.iadd, 1, 0, 0, 0, .null), (.iaload, 1, 0, 0, 0, .null), (.isub, 1, 0, 0, 0, .null), (.istore 19, 2, 0, 0, 0, .null)]), (327, [(.aload_n 0, 1, 0, 0, 0, .null), (.aload_n 0, 1, 0, 0, 0, .null), (.getfield 48, 3, 11, 39, 4, .null), (.iload_n 2, 1, 0, 0, 0, .null), (.iaload, 1, 0, 0, 0, .null), (.i2l, 1, 0, 0, 0, .null)]), (338, [(.istore 18, 2, 0, 0, 0, .null), (.aload_n 0, 1, 0, 0, 0, .null), (.aload_n 0, 1, 0, 0, 0, .null), (.getfield 51, 3, 11, 40, 4, .null), (.iload_n 2, 1, 0, 0, 0, .null), (.iaload, 1, 0, 0, 0, .null), (.i2l, 1, 0, 0, 0, .null)]), (351, [(.istore 19, 2, 0, 0, 0, .null), (.aload_n 0, 1, 0, 0, 0, .null), (.getfield 42, 3, 11, 37, 4, .null), (.iload_n 2, 1, 0, 0, 0, .null), (.iaload, 1, 0, 0, 0, .null), (.iconst 4, 1, 0, 0, 0, (.int (4 : Int32))), (.iand, 1, 0, 0, 0, .null)]), (373, [(.iload 18, 2, 0, 0, 0, .null)]), (364, [(.iload 18, 2, 0, 0, 0, .null), (.i2l, 1, 0, 0, 0, .null)]), (375, [(.istore 18, 2, 0, 0, 0, .null), (.aload_n 0, 1, 0, 0, 0, .null), (.getfield 42, 3, 11, 37, 4, .null), (.iload_n 2, 1, 0, 0, 0, .null), (.iaload, 1, 0, 0, 0, .null), (.iconst 4, 1, 0, 0, 0, (.int (4 : Int32))), (.iand, 1, 0, 0, 0, .null)]), (397, [(.iload 19, 2, 0, 0, 0, .null)]), (388, [(.iload 19, 2, 0, 0, 0, .null), (.i2l, 1, 0, 0, 0, .null)]), (399, [(.istore 19, 2, 0, 0, 0, .null)]), (518, [(.iload 6, 2, 0, 0, 0, .null), (.iload 8, 2, 0, 0, 0, .null), (.iadd, 1, 0, 0, 0, .null), (.istore 20, 2, 0, 0, 0, .null)]), (525, [(.iload 20, 2, 0, 0, 0, .null), (.iload 6, 2, 0, 0, 0, .null), (.iload 8, 2, 0, 0, 0, .null), (.iadd, 1, 0, 0, 0, .null), (.iload 9, 2, 0, 0, 0, .null), (.iadd, 1, 0, 0, 0, .null)]), (538, [(.aload_n 0, 1, 0, 0, 0, .null), (.getfield 152, 3, 11, 120, 4, .null), (.iload 20, 2, 0, 0, 0, .null), (.dup2, 1, 0, 0, 0, .null), (.iaload, 1, 0, 0, 0, .null), (.iload 18, 2, 0, 0, 0, .null), (.iadd, 1, 0, 0, 0, .null), (.iastore, 1, 0, 0, 0, .null)]), (550, [(.aload_n 0, 1, 0, 0, 0, .null), (.getfield 155, 3, 11, 121, 4, .null), (.iload 20, 2, 0, 0, 0, .null), (.dup2, 1, 0, 0, 0, .null), (.iaload, 1, 0, 0, 0, .null), (.iload 19, 2, 0, 0, 0, .null), (.iadd, 1, 0, 0, 0, .null), (.iastore, 1, 0, 0, 0, .null)]), (562, [(.iinc 20 1, 3, 0, 0, 0, (.int (1 : Int32)))]), (568, [(.iconst 0, 1, 0, 0, 0, (.int (0 : Int32))), (.istore 20, 2, 0, 0, 0, .null)]), (571, [(.iload 20, 2, 0, 0, 0, .null), (.aload_n 0, 1, 0, 0, 0, .null), (.getfield 149, 3, 11, 119, 4, .null), (.iload_n 3, 1, 0, 0, 0, .null), (.iconst 1, 1, 0, 0, 0, (.int (1 : Int32))), (.iadd, 1, 0, 0, 0, .null), (.iaload, 1, 0, 0, 0, .null)]), (584, [(.aload_n 0, 1, 0, 0, 0, .null), (.getfield 161, 3, 11, 123, 4, .null), (.bipush 20, 2, 0, 0, 0, (.int (20 : Int32))), (.iload_n 3, 1, 0, 0, 0, .null), (.imul, 1, 0, 0, 0, .null), (.aload_n 0, 1, 0, 0, 0, .null), (.getfield 149, 3, 11, 119, 4, .null), (.iload_n 3, 1, 0, 0, 0, .null), (.iaload, 1, 0, 0, 0, .null), (.iadd, 1, 0, 0, 0, .null), (.iload 20, 2, 0, 0, 0, .null), (.iadd, 1, 0, 0, 0, .null), (.iload 8, 2, 0, 0, 0, .null), (.aload_n 0, 1, 0, 0, 0, .null), (.getfield 161, 3, 11, 123, 4, .null), (.bipush 20, 2, 0, 0, 0, (.int (20 : Int32))), (.iload_n 3, 1, 0, 0, 0, .null), (.imul, 1, 0, 0, 0, .null), (.bipush 20, 2, 0, 0, 0, (.int (20 : Int32))), (.iadd, 1, 0, 0, 0, .null), (.iload 20, 2, 0, 0, 0, .null), (.iadd, 1, 0, 0, 0, .null), (.iaload, 1, 0, 0, 0, .null), (.iadd, 1, 0, 0, 0, .null), (.iastore, 1, 0, 0, 0, .null)]), (621, [(.iinc 20 1, 3, 0, 0, 0, (.int (1 : Int32)))]), (627, [(.aload_n 0, 1, 0, 0, 0, .null), (.getfield 146, 3, 11, 118, 4, .null), (.iload_n 3, 1, 0, 0, 0, .null), (.dup2, 1, 0, 0, 0, .null), (.iaload, 1, 0, 0, 0, .null), (.iload 9, 2, 0, 0, 0, .null), (.iadd, 1, 0, 0, 0, .null), (.iastore, 1, 0, 0, 0, .null)]), (638, [(.aload_n 0, 1, 0, 0, 0, .null), (.getfield 149, 3, 11, 119, 4, .null), (.iload_n 3, 1, 0, 0, 0, .null), (.dup2, 1, 0, 0, 0, .null), (.iaload, 1, 0, 0, 0, .null), (.aload_n 0, 1, 0, 0, 0, .null), (.getfield 149, 3, 11, 119, 4, .null), (.iload_n 3, 1, 0, 0, 0, .null), (.iconst 1, 1, 0, 0, 0, (.int (1 : Int32))), (.iadd, 1, 0, 0, 0, .null), (.iaload, 1, 0, 0, 0, .null), (.iadd, 1, 0, 0, 0, .null), (.iastore, 1, 0, 0, 0, .null)]), (655, [(.aload_n 0, 1, 0, 0, 0, .null), (.getfield 42, 3, 11, 37, 4, .null), (.iload_n 2, 1, 0, 0, 0, .null), (.iaload, 1, 0, 0, 0, .null), (.sipush 512, 3, 0, 0, 0, (.int (512 : Int32))), (.iand, 1, 0, 0, 0, .null)]), (668, [(.iconst 0, 1, 0, 0, 0, (.int (0 : Int32))), (.istore 20, 2, 0, 0, 0, .null)]), (671, [(.iload 20, 2, 0, 0, 0, .null), (.iconst 4, 1, 0, 0, 0, (.int (4 : Int32)))]), (677, [(.aload_n 0, 1, 0, 0, 0, .null), (.getfield 164, 3, 11, 124, 4, .null), (.iconst 4, 1, 0, 0, 0, (.int (4 : Int32))), (.iload_n 3, 1, 0, 0, 0, .null), (.imul, 1, 0, 0, 0, .null), (.iload 20, 2, 0, 0, 0, .null), (.iadd, 1, 0, 0, 0, .null), (.aload_n 0, 1, 0, 0, 0, .null), (.getfield 164, 3, 11, 124, 4, .null), (.iconst 4, 1, 0, 0, 0, (.int (4 : Int32))), (.iload_n 3, 1, 0, 0, 0, .null), (.imul, 1, 0, 0, 0, .null), (.iconst 4, 1, 0, 0, 0, (.int (4 : Int32))), (.iadd, 1, 0, 0, 0, .null), (.iload 20, 2, 0, 0, 0, .null), (.iadd, 1, 0, 0, 0, .null), (.iaload, 1, 0, 0, 0, .null), (.iastore, 1, 0, 0, 0, .null)]), (701, [(.iinc 20 1, 3, 0, 0, 0, (.int (1 : Int32)))]), (9, [(.aload_n 0, 1, 0, 0, 0, .null), (.bipush 12, 2, 0, 0, 0, (.int (12 : Int32)))])], [(28, .invokevirtual 278, 3), (47, .invokevirtual 810, 3), (52, .invokevirtual 278, 3), (123, .if_icmp .le 10, 3), (103, .if_icmp .gt 23, 3), (129, .invokevirtual 795, 3), (132, .return_, 1), (245, .invokestatic 517, 3), (276, .invokestatic 517, 3), (307, .goto (-121), 3), (190, .if_icmp .ge 120, 3), (441, .if_icmp .lt 9, 3), (430, .ifCond .lt 14, 3), (421, .if_icmp .ge 23, 3), (410, .ifCond .lt 34, 3), (446, .invokevirtual 795, 3), (449, .return_, 1), (335, .invokevirtual 611, 3), (348, .invokevirtual 611, 3), (367, .invokestatic 813, 3), (370, .goto 5, 3), (361, .ifCond .eq 12, 3), (391, .invokestatic 813, 3), (394, .goto 5, 3), (385, .ifCond .eq 12, 3), (401, .goto 117, 3), (324, .ifCond .eq 80, 3), (565, .goto (-40), 3), (535, .if_icmp .ge 33, 3), (624, .goto (-53), 3), (581, .if_icmp .ge 46, 3), (707, .return_, 1), (704, .goto (-33), 3), (674, .if_icmp .ge 33, 3), (665, .ifCond .eq 42, 3), (64, .return_, 1), (61, .ifCond .le 4, 3), (12, .invokevirtual 795, 3), (15, .return_, 1), (6, .if_icmp .ne 10, 3)])
set_option maxRecDepth 100000 in
theorem m_Mo_makePart : hx_mok M_Mo_makePart = true := by decide +kernel
theorem pd_Mo_makePart : (parseMethodDescriptor M_Mo_makePart.2.1.desc).map (fun q => q.parameters.length) = some 3 := by decide +kernel
theorem y_Mo_makePart : hx_okV M_Mo_makePart := ⟨⟨lw_g (lw_at lw_m11 55 rfl) rfl, lw_g (lw_at lw_m11 54 rfl) rfl, qs196, lw_g (lw_at lw_m1 12 rfl) rfl, rfl, by decide, by decide, by decide⟩, rfl, by decide, plainFor_of_name (by decide)⟩
noncomputable def f_Mo_makePart (rec : Int32 → Int32 → hH → Option (Unit × hH)) (x1 : Int32) (x2 : Int32) (x3 : Int32) (h : hH) : Option (Unit × hH) :=
  if (rdI h 192 125) = (60 : Int32) then (
    bS (f_Mo_failOutside (12 : Int32) h) fun _ h16 =>
    some ((), h16)
  ) else (
    lz (wrI h 192 125 ((rdI h 192 125) + (1 : Int32))) fun h1 =>
    bS (f_Mo_isGlyph x1 h1) fun a1 h2 =>
    gd (vp_in x2 8) <|
    lz (A := Int32) (rdI h2 204 (Int32.toNatClampNeg x2)) fun v2 =>
    bS (rec v2 (x3 + (1 : Int32)) h2) fun _ h3 =>
    bS (f_Mo_isGlyph x1 h3) fun a4 h4 =>
    if (rdI h4 192 59) ≤ 0 then (
      lz (A := Int32) ((102 : Int32) * x3) fun v5 =>
      lz (A := Int32) (v5 + (102 : Int32)) fun v6 =>
      gd (vp_in x3 6) <|
      lz (A := Int32) (rdI h4 236 (Int32.toNatClampNeg x3)) fun v7 =>
      gd (vp_in (x3 + (1 : Int32)) 6) <|
      lz (A := Int32) (rdI h4 236 (Int32.toNatClampNeg (x3 + (1 : Int32)))) fun v9 =>
      cO (
        if (100 : Int32) < (v7 + v9) then (
          some true
        ) else (
          gd (vp_in x3 6 ∧ vp_in (x3 + (1 : Int32)) 6) <|
          if ((rdI h4 237 (Int32.toNatClampNeg x3)) + (rdI h4 237 (Int32.toNatClampNeg (x3 + (1 : Int32))))) ≤ (20 : Int32) then (
            some false
          ) else (
            some true
          )
        )
      ) (
        bS (f_Mo_failOutside (12 : Int32) h4) fun _ h5 =>
        some ((), h5)
      ) (
        gd (vp_in ((4 : Int32) * x2) 32) <|
        lz (A := Int64) (Int32.toInt64 (rdI h4 207 (Int32.toNatClampNeg ((4 : Int32) * x2)))) fun v17 =>
        gd (vp_in (((4 : Int32) * x2) + (1 : Int32)) 32) <|
        lz (A := Int64) (Int32.toInt64 (rdI h4 207 (Int32.toNatClampNeg (((4 : Int32) * x2) + (1 : Int32))))) fun v19 =>
        gd (vp_in (((4 : Int32) * x2) + (2 : Int32)) 32) <|
        lz (A := Int64) (Int32.toInt64 (rdI h4 207 (Int32.toNatClampNeg (((4 : Int32) * x2) + (2 : Int32))))) fun v21 =>
        gd (vp_in (((4 : Int32) * x2) + (3 : Int32)) 32) <|
        lz (A := Int64) (Int32.toInt64 (rdI h4 207 (Int32.toNatClampNeg (((4 : Int32) * x2) + (3 : Int32))))) fun v23 =>
        bP (A := hH) (
          wh (A := (Int32 × hH)) (B := hH) (fun p25 =>
              if v9 ≤ p25.1 then (
                some (.inr p25.2)
              ) else (
                gd (vp_in (v6 + p25.1) 612) <|
                lz (A := Int64) (Int32.toInt64 (rdI p25.2 238 (Int32.toNatClampNeg (v6 + p25.1)))) fun v27 =>
                gd (vp_in (v6 + p25.1) 612) <|
                lz (A := Int64) (Int32.toInt64 (rdI p25.2 239 (Int32.toNatClampNeg (v6 + p25.1)))) fun v29 =>
                bP (f_Mo_over ((v27 * v17) + (v29 * v21)) (16384 : Int64)) fun a31 =>
                gd (vp_in ((v5 + v7) + p25.1) 612) <|
                lz (wrI p25.2 238 (Int32.toNatClampNeg ((v5 + v7) + p25.1)) (Int64.toInt32 a31)) fun h6 =>
                bP (f_Mo_over ((v27 * v19) + (v29 * v23)) (16384 : Int64)) fun a33 =>
                gd (vp_in ((v5 + v7) + p25.1) 612) <|
                lz (wrI h6 239 (Int32.toNatClampNeg ((v5 + v7) + p25.1)) (Int64.toInt32 a33)) fun h7 =>
                gd (vp_in (v6 + p25.1) 612 ∧ vp_in ((v5 + v7) + p25.1) 612) <|
                lz (wrI h7 240 (Int32.toNatClampNeg ((v5 + v7) + p25.1)) ((rdI h7 240 (Int32.toNatClampNeg (v6 + p25.1))) &&& 1)) fun h8 =>
                lz (A := Int32) (p25.1 + (1 : Int32)) fun v36 =>
                some (.inl (v36, h8))
              )
          ) ((0 : Int32), h4)
        ) fun p26 =>
        gd (vp_in x2 8) <|
        bE (P := (Int32 × Int32)) (X := (Unit × hH)) (
          if ((rdI p26 203 (Int32.toNatClampNeg x2)) &&& (2 : Int32)) = 0 then (
            gd (vp_in x2 8) <|
            cO (
              if (rdI p26 205 (Int32.toNatClampNeg x2)) < 0 then (
                some true
              ) else (
                gd (vp_in x2 8) <|
                cO (
                  if v7 ≤ (rdI p26 205 (Int32.toNatClampNeg x2)) then (
                    some true
                  ) else (
                    gd (vp_in x2 8) <|
                    cO (
                      if (rdI p26 206 (Int32.toNatClampNeg x2)) < 0 then (
                        some true
                      ) else (
                        gd (vp_in x2 8) <|
                        if (rdI p26 206 (Int32.toNatClampNeg x2)) < v9 then (
                          some false
                        ) else (
                          some true
                        )
                      )
                    ) (
                      some true
                    ) (
                      some false
                    )
                  )
                ) (
                  some true
                ) (
                  some false
                )
              )
            ) (
              bS (f_Mo_failOutside (5 : Int32) p26) fun _ h9 =>
              some (.inr ((), h9))
            ) (
              gd (vp_in x2 8 ∧ vp_in (v5 + (rdI p26 205 (Int32.toNatClampNeg x2))) 612 ∧ vp_in ((v5 + v7) + (rdI p26 206 (Int32.toNatClampNeg x2))) 612) <|
              lz (A := Int32) ((rdI p26 238 (Int32.toNatClampNeg (v5 + (rdI p26 205 (Int32.toNatClampNeg x2))))) - (rdI p26 238 (Int32.toNatClampNeg ((v5 + v7) + (rdI p26 206 (Int32.toNatClampNeg x2)))))) fun v77 =>
              gd (vp_in x2 8 ∧ vp_in (v5 + (rdI p26 205 (Int32.toNatClampNeg x2))) 612 ∧ vp_in ((v5 + v7) + (rdI p26 206 (Int32.toNatClampNeg x2))) 612) <|
              lz (A := Int32) ((rdI p26 239 (Int32.toNatClampNeg (v5 + (rdI p26 205 (Int32.toNatClampNeg x2))))) - (rdI p26 239 (Int32.toNatClampNeg ((v5 + v7) + (rdI p26 206 (Int32.toNatClampNeg x2)))))) fun v79 =>
              some (.inl (v77, v79))
            )
          ) else (
            gd (vp_in x2 8) <|
            bP (f_Mo_scaled (Int32.toInt64 (rdI p26 205 (Int32.toNatClampNeg x2))) p26) fun a82 =>
            gd (vp_in x2 8) <|
            bP (f_Mo_scaled (Int32.toInt64 (rdI p26 206 (Int32.toNatClampNeg x2))) p26) fun a84 =>
            gd (vp_in x2 8) <|
            bP (A := Int32) (
              if ((rdI p26 203 (Int32.toNatClampNeg x2)) &&& (4 : Int32)) = 0 then (
                some a82
              ) else (
                bP (f_Mo_toPixel (Int32.toInt64 a82)) fun a87 =>
                some a87
              )
            ) fun p86 =>
            gd (vp_in x2 8) <|
            bP (A := Int32) (
              if ((rdI p26 203 (Int32.toNatClampNeg x2)) &&& (4 : Int32)) = 0 then (
                some a84
              ) else (
                bP (f_Mo_toPixel (Int32.toInt64 a84)) fun a91 =>
                some a91
              )
            ) fun p90 =>
            some (.inl (p86, p90))
          )
        ) fun p39 =>
        lz (A := Int32) (v5 + v7) fun v94 =>
        bP (A := hH) (
          wh (A := (Int32 × hH)) (B := hH) (fun p95 =>
              if ((v5 + v7) + v9) ≤ p95.1 then (
                some (.inr p95.2)
              ) else (
                gd (vp_in p95.1 612) <|
                lz (wrI p95.2 238 (Int32.toNatClampNeg p95.1) ((rdI p95.2 238 (Int32.toNatClampNeg p95.1)) + p39.1)) fun h10 =>
                gd (vp_in p95.1 612) <|
                lz (wrI h10 239 (Int32.toNatClampNeg p95.1) ((rdI h10 239 (Int32.toNatClampNeg p95.1)) + p39.2)) fun h11 =>
                lz (A := Int32) (p95.1 + (1 : Int32)) fun v99 =>
                some (.inl (v99, h11))
              )
          ) (v94, p26)
        ) fun p96 =>
        bP (A := hH) (
          wh (A := (Int32 × hH)) (B := hH) (fun p101 =>
              gd (vp_in (x3 + (1 : Int32)) 6) <|
              if (rdI p101.2 237 (Int32.toNatClampNeg (x3 + (1 : Int32)))) ≤ p101.1 then (
                some (.inr p101.2)
              ) else (
                gd (vp_in x3 6 ∧ vp_in ((((20 : Int32) * x3) + (20 : Int32)) + p101.1) 120 ∧ vp_in ((((20 : Int32) * x3) + (rdI p101.2 237 (Int32.toNatClampNeg x3))) + p101.1) 120) <|
                lz (wrI p101.2 241 (Int32.toNatClampNeg ((((20 : Int32) * x3) + (rdI p101.2 237 (Int32.toNatClampNeg x3))) + p101.1)) (v7 + (rdI p101.2 241 (Int32.toNatClampNeg ((((20 : Int32) * x3) + (20 : Int32)) + p101.1))))) fun h12 =>
                lz (A := Int32) (p101.1 + (1 : Int32)) fun v105 =>
                some (.inl (v105, h12))
              )
          ) ((0 : Int32), p96)
        ) fun p102 =>
        gd (vp_in x3 6) <|
        lz (wrI p102 236 (Int32.toNatClampNeg x3) ((rdI p102 236 (Int32.toNatClampNeg x3)) + v9)) fun h13 =>
        gd (vp_in x3 6 ∧ vp_in (x3 + (1 : Int32)) 6) <|
        lz (wrI h13 237 (Int32.toNatClampNeg x3) ((rdI h13 237 (Int32.toNatClampNeg x3)) + (rdI h13 237 (Int32.toNatClampNeg (x3 + (1 : Int32)))))) fun h14 =>
        gd (vp_in x2 8) <|
        if ((rdI h14 203 (Int32.toNatClampNeg x2)) &&& (512 : Int32)) = 0 then (
          some ((), h14)
        ) else (
          bP (A := hH) (
            wh (A := (Int32 × hH)) (B := hH) (fun p110 =>
                if (4 : Int32) ≤ p110.1 then (
                  some (.inr p110.2)
                ) else (
                  gd (vp_in ((((4 : Int32) * x3) + (4 : Int32)) + p110.1) 24 ∧ vp_in (((4 : Int32) * x3) + p110.1) 24) <|
                  lz (wrI p110.2 242 (Int32.toNatClampNeg (((4 : Int32) * x3) + p110.1)) (rdI p110.2 242 (Int32.toNatClampNeg ((((4 : Int32) * x3) + (4 : Int32)) + p110.1)))) fun h15 =>
                  lz (A := Int32) (p110.1 + (1 : Int32)) fun v113 =>
                  some (.inl (v113, h15))
                )
            ) ((0 : Int32), h14)
          ) fun p111 =>
          some ((), p111)
        )
      )
    ) else (
      some ((), h4)
    )
  )
set_option maxRecDepth 20000 in
theorem k_Mo_makePart (n : Nat) (rec : Int32 → Int32 → hH → Option (Unit × hH)) (hrec : ∀ (x1 : Int32) (x2 : Int32) (h : hH), hx_kS S0 M_Mo_makeGlyph (13 + 2 * n) NT [(.ref 192), (.int x1), (.int x2)] h (rec x1 x2 h) cvU) (x1 : Int32) (x2 : Int32) (x3 : Int32) (h : hH) : hx_kS S0 M_Mo_makePart (13 + 2 * n + 1) NT [(.ref 192), (.int x1), (.int x2), (.int x3)] h (f_Mo_makePart rec x1 x2 x3 h) cvU := by
  have hm := m_Mo_makePart
  show hx_P S0 M_Mo_makePart (13 + 2 * n + 1) 0 [(0, (.ref 192)), (1, (.int x1)), (2, (.int x2)), (3, (.int x3))] [] NT h (f_Mo_makePart rec x1 x2 x3 h) (hx_Rc cvU NT)
  unfold f_Mo_makePart
  refine hp_ic_ne hm (at1 0 rfl) rfl (by exact og_192) (pc' := 6) rfl 39 rfl (tgt := 16) rfl (fun c117 => ?_) (fun c117 => ?_)
  · refine hp_w hm (at1 1 rfl) (L' := [(0, (.ref 192)), (1, (.int x1)), (2, (.int x2)), (3, (.int x3))]) rfl (by exact ⟨og_192, og_192⟩) (pc' := 26) rfl (fun h1 => ?_)
    refine hp_cVS (M2 := M_Mo_isGlyph) hm (at1 2 rfl) (as := [(.int x1)]) (rest := []) (z := 192) rfl (by exact trivial) (pc' := 28) rfl 0 rfl (lw_g (lw_at lw_m11 31 rfl) rfl) y_Mo_isGlyph rfl (d2 := 6) ⟨by omega, pd_Mo_isGlyph, le_b rfl⟩ (le_b rfl) og_192 (k_Mo_isGlyph x1 h1) (fun a1 h2 => ?_)
    refine hp_GZ hm (at1 3 rfl) (fun (v2 : Int32) => [(5, (.int v2)), (4, (.int a1)), (0, (.ref 192)), (1, (.int x1)), (2, (.int x2)), (3, (.int x3))]) (fun (v2 : Int32) => []) rfl (fun hP => (by exact ⟨og_192, ⟨og_204, hP⟩⟩)) (pc' := 41) rfl (fun q3 v2 => ?_)
    refine hp_cVS (M2 := M_Mo_makeGlyph) hm (at1 4 rfl) (as := [(.int v2), (.int (x3 + (1 : Int32)))]) (rest := []) (z := 192) rfl (by exact trivial) (pc' := 47) rfl 1 rfl (lw_g (lw_at lw_m11 0 rfl) rfl) y_Mo_makeGlyph rfl (d2 := (13 + 2 * n)) ⟨by omega, pd_Mo_makeGlyph, le_b rfl⟩ (le_b rfl) og_192 (hrec v2 (x3 + (1 : Int32)) h2) (fun _ h3 => ?_)
    refine hp_cVS (M2 := M_Mo_isGlyph) hm (at1 5 rfl) (as := [(.int x1)]) (rest := []) (z := 192) rfl (by exact trivial) (pc' := 52) rfl 2 rfl (lw_g (lw_at lw_m11 31 rfl) rfl) y_Mo_isGlyph rfl (d2 := 6) ⟨by omega, pd_Mo_isGlyph, le_b rfl⟩ (le_b rfl) og_192 (k_Mo_isGlyph x1 h3) (fun a4 h4 => ?_)
    refine hp_b hm (at1 6 rfl) (L' := [(4, (.int a4)), (5, (.int v2)), (0, (.ref 192)), (1, (.int x1)), (2, (.int x2)), (3, (.int x3))]) (st' := [(.int (rdI h4 192 59))]) rfl (by exact og_192) (pc' := 61) rfl ?_
    refine hp_if_le hm at0 rfl (by exact trivial) (pc' := 61) rfl 36 rfl (tgt := 65) rfl (fun c116 => ?_) (fun c116 => ?_)
    · refine hp_z hm (at1 7 rfl) (fun (v5 : Int32) => [(6, (.int v5)), (4, (.int a4)), (5, (.int v2)), (0, (.ref 192)), (1, (.int x1)), (2, (.int x2)), (3, (.int x3))]) (fun (v5 : Int32) => []) rfl (by exact trivial) (pc' := 71) rfl (fun v5 => ?_)
      refine hp_z hm (at1 8 rfl) (fun (v6 : Int32) => [(7, (.int v6)), (6, (.int v5)), (4, (.int a4)), (5, (.int v2)), (0, (.ref 192)), (1, (.int x1)), (2, (.int x2)), (3, (.int x3))]) (fun (v6 : Int32) => []) rfl (by exact trivial) (pc' := 78) rfl (fun v6 => ?_)
      refine hp_GZ hm (at1 9 rfl) (fun (v7 : Int32) => [(8, (.int v7)), (7, (.int v6)), (6, (.int v5)), (4, (.int a4)), (5, (.int v2)), (0, (.ref 192)), (1, (.int x1)), (2, (.int x2)), (3, (.int x3))]) (fun (v7 : Int32) => []) rfl (fun hP => (by exact ⟨og_192, ⟨og_236, hP⟩⟩)) (pc' := 86) rfl (fun q8 v7 => ?_)
      refine hp_GZ hm (at1 10 rfl) (fun (v9 : Int32) => [(9, (.int v9)), (8, (.int v7)), (7, (.int v6)), (6, (.int v5)), (4, (.int a4)), (5, (.int v2)), (0, (.ref 192)), (1, (.int x1)), (2, (.int x2)), (3, (.int x3))]) (fun (v9 : Int32) => []) rfl (fun hP => (by exact ⟨og_192, ⟨og_236, hP⟩⟩)) (pc' := 96) rfl (fun q10 v9 => ?_)
      refine hp_cO (L0 := [(9, (.int v9)), (8, (.int v7)), (7, (.int v6)), (6, (.int v5)), (4, (.int a4)), (5, (.int v2)), (0, (.ref 192)), (1, (.int x1)), (2, (.int x2)), (3, (.int x3))]) (s0 := []) 126 133 ?_ ?_ ?_
      · refine hp_ic_gt hm (at1 11 rfl) rfl (by exact trivial) (pc' := 103) rfl 4 rfl (tgt := 126) rfl (fun c13 => ?_) (fun c13 => ?_)
        · exact hp_l0 (fun _ e => e)
        · refine hp_G hm (at1 12 rfl) (L' := [(9, (.int v9)), (8, (.int v7)), (7, (.int v6)), (6, (.int v5)), (4, (.int a4)), (5, (.int v2)), (0, (.ref 192)), (1, (.int x1)), (2, (.int x2)), (3, (.int x3))]) (st' := [(.int (20 : Int32)), (.int ((rdI h4 237 (Int32.toNatClampNeg x3)) + (rdI h4 237 (Int32.toNatClampNeg (x3 + (1 : Int32))))))]) rfl (fun hP => (by exact ⟨⟨⟨og_192, ⟨og_237, hP.1⟩⟩, og_192⟩, ⟨og_237, hP.2⟩⟩)) (pc' := 123) rfl (fun q11 => ?_)
          refine hp_ic_le hm at0 rfl (by exact trivial) (pc' := 123) rfl 3 rfl (tgt := 133) rfl (fun c12 => ?_) (fun c12 => ?_)
          · exact hp_l0 (fun _ e => e)
          · exact hp_l0 (fun _ e => e)
      · refine hp_cVS (M2 := M_Mo_failOutside) hm (at1 13 rfl) (as := [(.int (12 : Int32))]) (rest := []) (z := 192) rfl (by exact trivial) (pc' := 129) rfl 5 rfl (lw_g (lw_at lw_m11 56 rfl) rfl) y_Mo_failOutside rfl (d2 := 1) ⟨by omega, pd_Mo_failOutside, le_b rfl⟩ (le_b rfl) og_192 (k_Mo_failOutside (12 : Int32) h4) (fun _ h5 => ?_)
        exact hp_vr hm 6 rfl rfl (fun _ e => e)
      · refine hp_GZ hm (at1 14 rfl) (fun (v17 : Int64) => [(10, (.long v17)), (9, (.int v9)), (8, (.int v7)), (7, (.int v6)), (6, (.int v5)), (4, (.int a4)), (5, (.int v2)), (0, (.ref 192)), (1, (.int x1)), (2, (.int x2)), (3, (.int x3))]) (fun (v17 : Int64) => []) rfl (fun hP => (by exact ⟨og_192, ⟨og_207, hP⟩⟩)) (pc' := 144) rfl (fun q18 v17 => ?_)
        refine hp_GZ hm (at1 15 rfl) (fun (v19 : Int64) => [(12, (.long v19)), (10, (.long v17)), (9, (.int v9)), (8, (.int v7)), (7, (.int v6)), (6, (.int v5)), (4, (.int a4)), (5, (.int v2)), (0, (.ref 192)), (1, (.int x1)), (2, (.int x2)), (3, (.int x3))]) (fun (v19 : Int64) => []) rfl (fun hP => (by exact ⟨og_192, ⟨og_207, hP⟩⟩)) (pc' := 157) rfl (fun q20 v19 => ?_)
        refine hp_GZ hm (at1 16 rfl) (fun (v21 : Int64) => [(14, (.long v21)), (12, (.long v19)), (10, (.long v17)), (9, (.int v9)), (8, (.int v7)), (7, (.int v6)), (6, (.int v5)), (4, (.int a4)), (5, (.int v2)), (0, (.ref 192)), (1, (.int x1)), (2, (.int x2)), (3, (.int x3))]) (fun (v21 : Int64) => []) rfl (fun hP => (by exact ⟨og_192, ⟨og_207, hP⟩⟩)) (pc' := 170) rfl (fun q22 v21 => ?_)
        refine hp_GZ hm (at1 17 rfl) (fun (v23 : Int64) => [(16, (.long v23)), (14, (.long v21)), (12, (.long v19)), (10, (.long v17)), (9, (.int v9)), (8, (.int v7)), (7, (.int v6)), (6, (.int v5)), (4, (.int a4)), (5, (.int v2)), (0, (.ref 192)), (1, (.int x1)), (2, (.int x2)), (3, (.int x3))]) (fun (v23 : Int64) => []) rfl (fun hP => (by exact ⟨og_192, ⟨og_207, hP⟩⟩)) (pc' := 183) rfl (fun q24 v23 => ?_)
        refine hp_b hm (at1 18 rfl) (L' := [(18, (.int (0 : Int32))), (16, (.long v23)), (14, (.long v21)), (12, (.long v19)), (10, (.long v17)), (9, (.int v9)), (8, (.int v7)), (7, (.int v6)), (6, (.int v5)), (4, (.int a4)), (5, (.int v2)), (0, (.ref 192)), (1, (.int x1)), (2, (.int x2)), (3, (.int x3))]) (st' := []) rfl (by exact trivial) (pc' := 186) rfl ?_
        refine hp_J 310 (fun (p26 : hH) => [(0, (.ref 192)), (2, (.int x2)), (3, (.int x3)), (6, (.int v5)), (8, (.int v7)), (9, (.int v9))]) (fun (p26 : hH) => []) (fun (p26 : hH) => p26) ?_ (fun p26 => ?_)
        · refine hp_s [11, 13, 14, 8, 7, 6, 5, 4, 3, 2, 1, 0] rfl (L' := [(0, (.ref 192)), (2, (.int x2)), (3, (.int x3)), (6, (.int v5)), (7, (.int v6)), (8, (.int v7)), (9, (.int v9)), (10, (.long v17)), (12, (.long v19)), (14, (.long v21)), (16, (.long v23)), (18, (.int (0 : Int32)))]) ?_
          refine hp_wh (fun (p25 : (Int32 × hH)) => [(0, (.ref 192)), (2, (.int x2)), (3, (.int x3)), (6, (.int v5)), (7, (.int v6)), (8, (.int v7)), (9, (.int v9)), (10, (.long v17)), (12, (.long v19)), (14, (.long v21)), (16, (.long v23)), (18, (.int p25.1))]) [] (fun (p25 : (Int32 × hH)) => p25.2) (fun p25 => ?_) ((0 : Int32), h4)
          refine hp_ic_ge hm (at1 19 rfl) rfl (by exact trivial) (pc' := 190) rfl 10 rfl (tgt := 310) rfl (fun c37 => ?_) (fun c37 => ?_)
          · exact hp_lf [0, 1, 2, 3, 5, 6] rfl (fun _ e => e)
          · refine hp_GZ hm (at1 20 rfl) (fun (v27 : Int64) => [(19, (.long v27)), (0, (.ref 192)), (2, (.int x2)), (3, (.int x3)), (6, (.int v5)), (7, (.int v6)), (8, (.int v7)), (9, (.int v9)), (10, (.long v17)), (12, (.long v19)), (14, (.long v21)), (16, (.long v23)), (18, (.int p25.1))]) (fun (v27 : Int64) => []) rfl (fun hP => (by exact ⟨og_192, ⟨og_238, hP⟩⟩)) (pc' := 206) rfl (fun q28 v27 => ?_)
            refine hp_GZ hm (at1 21 rfl) (fun (v29 : Int64) => [(21, (.long v29)), (19, (.long v27)), (0, (.ref 192)), (2, (.int x2)), (3, (.int x3)), (6, (.int v5)), (7, (.int v6)), (8, (.int v7)), (9, (.int v9)), (10, (.long v17)), (12, (.long v19)), (14, (.long v21)), (16, (.long v23)), (18, (.int p25.1))]) (fun (v29 : Int64) => []) rfl (fun hP => (by exact ⟨og_192, ⟨og_239, hP⟩⟩)) (pc' := 219) rfl (fun q30 v29 => ?_)
            refine hp_cSP (M2 := M_Mo_over) hm (at1 22 rfl) (as := [(.long ((v27 * v17) + (v29 * v21))), (.long (16384 : Int64))]) (rest := [(.int ((v5 + v7) + p25.1)), (.ref 238)]) rfl (by exact og_192) (pc' := 245) rfl 7 rfl (lw_g (lw_at lw_m9 217 rfl) rfl) y_Mo_over rfl (d2 := 3) ⟨by omega, pd_Mo_over, le_b rfl⟩ (le_b rfl) (k_Mo_over ((v27 * v17) + (v29 * v21)) (16384 : Int64) p25.2) (fun a31 => ?_)
            refine hp_GW hm (at1 23 rfl) (L' := [(21, (.long v29)), (19, (.long v27)), (0, (.ref 192)), (2, (.int x2)), (3, (.int x3)), (6, (.int v5)), (7, (.int v6)), (8, (.int v7)), (9, (.int v9)), (10, (.long v17)), (12, (.long v19)), (14, (.long v21)), (16, (.long v23)), (18, (.int p25.1))]) rfl (fun hP => (by exact ⟨og_238, hP⟩)) (pc' := 250) rfl (fun q32 h6 => ?_)
            refine hp_cSP (M2 := M_Mo_over) hm (at1 24 rfl) (as := [(.long ((v27 * v19) + (v29 * v23))), (.long (16384 : Int64))]) (rest := [(.int ((v5 + v7) + p25.1)), (.ref 239)]) rfl (by exact og_192) (pc' := 276) rfl 8 rfl (lw_g (lw_at lw_m9 217 rfl) rfl) y_Mo_over rfl (d2 := 3) ⟨by omega, pd_Mo_over, le_b rfl⟩ (le_b rfl) (k_Mo_over ((v27 * v19) + (v29 * v23)) (16384 : Int64) h6) (fun a33 => ?_)
            refine hp_GW hm (at1 25 rfl) (L' := [(21, (.long v29)), (19, (.long v27)), (0, (.ref 192)), (2, (.int x2)), (3, (.int x3)), (6, (.int v5)), (7, (.int v6)), (8, (.int v7)), (9, (.int v9)), (10, (.long v17)), (12, (.long v19)), (14, (.long v21)), (16, (.long v23)), (18, (.int p25.1))]) rfl (fun hP => (by exact ⟨og_239, hP⟩)) (pc' := 281) rfl (fun q34 h7 => ?_)
            refine hp_GW hm (at1 26 rfl) (L' := [(21, (.long v29)), (19, (.long v27)), (0, (.ref 192)), (2, (.int x2)), (3, (.int x3)), (6, (.int v5)), (7, (.int v6)), (8, (.int v7)), (9, (.int v9)), (10, (.long v17)), (12, (.long v19)), (14, (.long v21)), (16, (.long v23)), (18, (.int p25.1))]) rfl (fun hP => (by exact ⟨⟨⟨og_192, og_192⟩, ⟨og_240, hP.1⟩⟩, ⟨og_240, hP.2⟩⟩)) (pc' := 304) rfl (fun q35 h8 => ?_)
            refine hp_z hm (at1 27 rfl) (fun (v36 : Int32) => [(18, (.int v36)), (21, (.long v29)), (19, (.long v27)), (0, (.ref 192)), (2, (.int x2)), (3, (.int x3)), (6, (.int v5)), (7, (.int v6)), (8, (.int v7)), (9, (.int v9)), (10, (.long v17)), (12, (.long v19)), (14, (.long v21)), (16, (.long v23))]) (fun (v36 : Int32) => []) rfl (by exact trivial) (pc' := 307) rfl (fun v36 => ?_)
            refine hp_goto hm 9 rfl (tgt := 186) rfl ?_
            exact hp_lf [3, 4, 5, 6, 7, 8, 9, 10, 11, 12, 13, 0] rfl (fun _ e => e)
        · refine hp_G hm (at1 28 rfl) (L' := [(19, (.int (0 : Int32))), (18, (.int (0 : Int32))), (0, (.ref 192)), (2, (.int x2)), (3, (.int x3)), (6, (.int v5)), (8, (.int v7)), (9, (.int v9))]) (st' := [(.int ((rdI p26 203 (Int32.toNatClampNeg x2)) &&& (2 : Int32)))]) rfl (fun hP => (by exact ⟨og_192, ⟨og_203, hP⟩⟩)) (pc' := 324) rfl (fun q38 => ?_)
          refine hp_E 518 (fun (p39 : (Int32 × Int32)) => [(0, (.ref 192)), (2, (.int x2)), (3, (.int x3)), (6, (.int v5)), (8, (.int v7)), (9, (.int v9)), (18, (.int p39.1)), (19, (.int p39.2))]) (fun (p39 : (Int32 × Int32)) => []) (fun (p39 : (Int32 × Int32)) => p26) ?_ (fun p39 => ?_)
          · refine hp_if_eq hm at0 rfl (by exact trivial) (pc' := 324) rfl 26 rfl (tgt := 404) rfl (fun c93 => ?_) (fun c93 => ?_)
            · refine hp_G hm (at1 29 rfl) (L' := [(19, (.int (0 : Int32))), (18, (.int (0 : Int32))), (0, (.ref 192)), (2, (.int x2)), (3, (.int x3)), (6, (.int v5)), (8, (.int v7)), (9, (.int v9))]) (st' := [(.int (rdI p26 205 (Int32.toNatClampNeg x2)))]) rfl (fun hP => (by exact ⟨og_192, ⟨og_205, hP⟩⟩)) (pc' := 410) rfl (fun q40 => ?_)
              refine hp_cO (L0 := [(19, (.int (0 : Int32))), (18, (.int (0 : Int32))), (0, (.ref 192)), (2, (.int x2)), (3, (.int x3)), (6, (.int v5)), (8, (.int v7)), (9, (.int v9))]) (s0 := []) 444 450 ?_ ?_ ?_
              · refine hp_if_lt hm at0 rfl (by exact trivial) (pc' := 410) rfl 14 rfl (tgt := 444) rfl (fun c58 => ?_) (fun c58 => ?_)
                · exact hp_l0 (fun _ e => e)
                · refine hp_G hm (at1 30 rfl) (L' := [(19, (.int (0 : Int32))), (18, (.int (0 : Int32))), (0, (.ref 192)), (2, (.int x2)), (3, (.int x3)), (6, (.int v5)), (8, (.int v7)), (9, (.int v9))]) (st' := [(.int v7), (.int (rdI p26 205 (Int32.toNatClampNeg x2)))]) rfl (fun hP => (by exact ⟨og_192, ⟨og_205, hP⟩⟩)) (pc' := 421) rfl (fun q41 => ?_)
                  refine hp_cO (L0 := [(19, (.int (0 : Int32))), (18, (.int (0 : Int32))), (0, (.ref 192)), (2, (.int x2)), (3, (.int x3)), (6, (.int v5)), (8, (.int v7)), (9, (.int v9))]) (s0 := []) 444 450 ?_ ?_ ?_
                  · refine hp_ic_ge hm at0 rfl (by exact trivial) (pc' := 421) rfl 13 rfl (tgt := 444) rfl (fun c49 => ?_) (fun c49 => ?_)
                    · exact hp_l0 (fun _ e => e)
                    · refine hp_G hm (at1 31 rfl) (L' := [(19, (.int (0 : Int32))), (18, (.int (0 : Int32))), (0, (.ref 192)), (2, (.int x2)), (3, (.int x3)), (6, (.int v5)), (8, (.int v7)), (9, (.int v9))]) (st' := [(.int (rdI p26 206 (Int32.toNatClampNeg x2)))]) rfl (fun hP => (by exact ⟨og_192, ⟨og_206, hP⟩⟩)) (pc' := 430) rfl (fun q42 => ?_)
                      refine hp_cO (L0 := [(19, (.int (0 : Int32))), (18, (.int (0 : Int32))), (0, (.ref 192)), (2, (.int x2)), (3, (.int x3)), (6, (.int v5)), (8, (.int v7)), (9, (.int v9))]) (s0 := []) 444 450 ?_ ?_ ?_
                      · refine hp_if_lt hm at0 rfl (by exact trivial) (pc' := 430) rfl 12 rfl (tgt := 444) rfl (fun c45 => ?_) (fun c45 => ?_)
                        · exact hp_l0 (fun _ e => e)
                        · refine hp_G hm (at1 32 rfl) (L' := [(19, (.int (0 : Int32))), (18, (.int (0 : Int32))), (0, (.ref 192)), (2, (.int x2)), (3, (.int x3)), (6, (.int v5)), (8, (.int v7)), (9, (.int v9))]) (st' := [(.int v9), (.int (rdI p26 206 (Int32.toNatClampNeg x2)))]) rfl (fun hP => (by exact ⟨og_192, ⟨og_206, hP⟩⟩)) (pc' := 441) rfl (fun q43 => ?_)
                          refine hp_ic_lt hm at0 rfl (by exact trivial) (pc' := 441) rfl 11 rfl (tgt := 450) rfl (fun c44 => ?_) (fun c44 => ?_)
                          · exact hp_l0 (fun _ e => e)
                          · exact hp_l0 (fun _ e => e)
                      · exact hp_l0 (fun _ e => e)
                      · exact hp_l0 (fun _ e => e)
                  · exact hp_l0 (fun _ e => e)
                  · exact hp_l0 (fun _ e => e)
              · refine hp_cVS (M2 := M_Mo_failOutside) hm (at1 33 rfl) (as := [(.int (5 : Int32))]) (rest := []) (z := 192) rfl (by exact trivial) (pc' := 446) rfl 15 rfl (lw_g (lw_at lw_m11 56 rfl) rfl) y_Mo_failOutside rfl (d2 := 1) ⟨by omega, pd_Mo_failOutside, le_b rfl⟩ (le_b rfl) og_192 (k_Mo_failOutside (5 : Int32) p26) (fun _ h9 => ?_)
                exact hp_vr hm 16 rfl rfl (fun _ e => e)
              · refine hp_GZ hm (at1 34 rfl) (fun (v77 : Int32) => [(18, (.int v77)), (19, (.int (0 : Int32))), (0, (.ref 192)), (2, (.int x2)), (3, (.int x3)), (6, (.int v5)), (8, (.int v7)), (9, (.int v9))]) (fun (v77 : Int32) => []) rfl (fun hP => (by exact ⟨⟨⟨⟨⟨⟨⟨og_192, og_192⟩, ⟨og_205, hP.1⟩⟩, ⟨og_238, hP.2.1⟩⟩, og_192⟩, og_192⟩, ⟨og_206, hP.1⟩⟩, ⟨og_238, hP.2.2⟩⟩)) (pc' := 484) rfl (fun q78 v77 => ?_)
                refine hp_GZ hm (at1 35 rfl) (fun (v79 : Int32) => [(19, (.int v79)), (18, (.int v77)), (0, (.ref 192)), (2, (.int x2)), (3, (.int x3)), (6, (.int v5)), (8, (.int v7)), (9, (.int v9))]) (fun (v79 : Int32) => []) rfl (fun hP => (by exact ⟨⟨⟨⟨⟨⟨⟨og_192, og_192⟩, ⟨og_205, hP.1⟩⟩, ⟨og_239, hP.2.1⟩⟩, og_192⟩, og_192⟩, ⟨og_206, hP.1⟩⟩, ⟨og_239, hP.2.2⟩⟩)) (pc' := 518) rfl (fun q80 v79 => ?_)
                exact hp_lf [2, 3, 4, 5, 6, 7, 1, 0] rfl (fun _ e => e)
            · refine hp_G hm (at1 36 rfl) (L' := [(19, (.int (0 : Int32))), (18, (.int (0 : Int32))), (0, (.ref 192)), (2, (.int x2)), (3, (.int x3)), (6, (.int v5)), (8, (.int v7)), (9, (.int v9))]) (st' := [(.long (Int32.toInt64 (rdI p26 205 (Int32.toNatClampNeg x2)))), (.ref 192)]) rfl (fun hP => (by exact ⟨og_192, ⟨og_205, hP⟩⟩)) (pc' := 335) rfl (fun q81 => ?_)
              refine hp_cVP (M2 := M_Mo_scaled) hm at0 (as := [(.long (Int32.toInt64 (rdI p26 205 (Int32.toNatClampNeg x2))))]) (rest := []) (z := 192) rfl (by exact trivial) (pc' := 335) rfl 17 rfl (lw_g (lw_at lw_m9 212 rfl) rfl) y_Mo_scaled rfl (d2 := 4) ⟨by omega, pd_Mo_scaled, le_b rfl⟩ (le_b rfl) og_192 (k_Mo_scaled (Int32.toInt64 (rdI p26 205 (Int32.toNatClampNeg x2))) p26) (fun a82 => ?_)
              refine hp_G hm (at1 37 rfl) (L' := [(18, (.int a82)), (19, (.int (0 : Int32))), (0, (.ref 192)), (2, (.int x2)), (3, (.int x3)), (6, (.int v5)), (8, (.int v7)), (9, (.int v9))]) (st' := [(.long (Int32.toInt64 (rdI p26 206 (Int32.toNatClampNeg x2)))), (.ref 192)]) rfl (fun hP => (by exact ⟨og_192, ⟨og_206, hP⟩⟩)) (pc' := 348) rfl (fun q83 => ?_)
              refine hp_cVP (M2 := M_Mo_scaled) hm at0 (as := [(.long (Int32.toInt64 (rdI p26 206 (Int32.toNatClampNeg x2))))]) (rest := []) (z := 192) rfl (by exact trivial) (pc' := 348) rfl 18 rfl (lw_g (lw_at lw_m9 212 rfl) rfl) y_Mo_scaled rfl (d2 := 4) ⟨by omega, pd_Mo_scaled, le_b rfl⟩ (le_b rfl) og_192 (k_Mo_scaled (Int32.toInt64 (rdI p26 206 (Int32.toNatClampNeg x2))) p26) (fun a84 => ?_)
              refine hp_G hm (at1 38 rfl) (L' := [(19, (.int a84)), (18, (.int a82)), (0, (.ref 192)), (2, (.int x2)), (3, (.int x3)), (6, (.int v5)), (8, (.int v7)), (9, (.int v9))]) (st' := [(.int ((rdI p26 203 (Int32.toNatClampNeg x2)) &&& (4 : Int32)))]) rfl (fun hP => (by exact ⟨og_192, ⟨og_203, hP⟩⟩)) (pc' := 361) rfl (fun q85 => ?_)
              refine hp_J 375 (fun (p86 : Int32) => [(0, (.ref 192)), (2, (.int x2)), (3, (.int x3)), (6, (.int v5)), (8, (.int v7)), (9, (.int v9)), (19, (.int a84))]) (fun (p86 : Int32) => [(.int p86)]) (fun (p86 : Int32) => p26) ?_ (fun p86 => ?_)
              · refine hp_if_eq hm at0 rfl (by exact trivial) (pc' := 361) rfl 21 rfl (tgt := 373) rfl (fun c88 => ?_) (fun c88 => ?_)
                · refine hp_b hm (at1 39 rfl) (L' := [(19, (.int a84)), (18, (.int a82)), (0, (.ref 192)), (2, (.int x2)), (3, (.int x3)), (6, (.int v5)), (8, (.int v7)), (9, (.int v9))]) (st' := [(.int a82)]) rfl (by exact trivial) (pc' := 375) rfl ?_
                  exact hp_lf [2, 3, 4, 5, 6, 7, 0] rfl (fun _ e => e)
                · refine hp_cSP (M2 := M_Mo_toPixel) hm (at1 40 rfl) (as := [(.long (Int32.toInt64 a82))]) (rest := []) rfl (by exact trivial) (pc' := 367) rfl 19 rfl (lw_g (lw_at lw_m11 60 rfl) rfl) y_Mo_toPixel rfl (d2 := 1) ⟨by omega, pd_Mo_toPixel, le_b rfl⟩ (le_b rfl) (k_Mo_toPixel (Int32.toInt64 a82) p26) (fun a87 => ?_)
                  refine hp_goto hm 20 rfl (tgt := 375) rfl ?_
                  exact hp_lf [2, 3, 4, 5, 6, 7, 0] rfl (fun _ e => e)
              · refine hp_G hm (at1 41 rfl) (L' := [(18, (.int p86)), (0, (.ref 192)), (2, (.int x2)), (3, (.int x3)), (6, (.int v5)), (8, (.int v7)), (9, (.int v9)), (19, (.int a84))]) (st' := [(.int ((rdI p26 203 (Int32.toNatClampNeg x2)) &&& (4 : Int32)))]) rfl (fun hP => (by exact ⟨og_192, ⟨og_203, hP⟩⟩)) (pc' := 385) rfl (fun q89 => ?_)
                refine hp_J 399 (fun (p90 : Int32) => [(0, (.ref 192)), (2, (.int x2)), (3, (.int x3)), (6, (.int v5)), (8, (.int v7)), (9, (.int v9)), (18, (.int p86))]) (fun (p90 : Int32) => [(.int p90)]) (fun (p90 : Int32) => p26) ?_ (fun p90 => ?_)
                · refine hp_if_eq hm at0 rfl (by exact trivial) (pc' := 385) rfl 24 rfl (tgt := 397) rfl (fun c92 => ?_) (fun c92 => ?_)
                  · refine hp_b hm (at1 42 rfl) (L' := [(18, (.int p86)), (0, (.ref 192)), (2, (.int x2)), (3, (.int x3)), (6, (.int v5)), (8, (.int v7)), (9, (.int v9)), (19, (.int a84))]) (st' := [(.int a84)]) rfl (by exact trivial) (pc' := 399) rfl ?_
                    exact hp_lf [1, 2, 3, 4, 5, 6, 0] rfl (fun _ e => e)
                  · refine hp_cSP (M2 := M_Mo_toPixel) hm (at1 43 rfl) (as := [(.long (Int32.toInt64 a84))]) (rest := []) rfl (by exact trivial) (pc' := 391) rfl 22 rfl (lw_g (lw_at lw_m11 60 rfl) rfl) y_Mo_toPixel rfl (d2 := 1) ⟨by omega, pd_Mo_toPixel, le_b rfl⟩ (le_b rfl) (k_Mo_toPixel (Int32.toInt64 a84) p26) (fun a91 => ?_)
                    refine hp_goto hm 23 rfl (tgt := 399) rfl ?_
                    exact hp_lf [1, 2, 3, 4, 5, 6, 0] rfl (fun _ e => e)
                · refine hp_b hm (at1 44 rfl) (L' := [(19, (.int p90)), (0, (.ref 192)), (2, (.int x2)), (3, (.int x3)), (6, (.int v5)), (8, (.int v7)), (9, (.int v9)), (18, (.int p86))]) (st' := []) rfl (by exact trivial) (pc' := 401) rfl ?_
                  refine hp_goto hm 25 rfl (tgt := 518) rfl ?_
                  exact hp_lf [1, 2, 3, 4, 5, 6, 7, 0] rfl (fun _ e => e)
          · refine hp_z hm (at1 45 rfl) (fun (v94 : Int32) => [(20, (.int v94)), (0, (.ref 192)), (2, (.int x2)), (3, (.int x3)), (6, (.int v5)), (8, (.int v7)), (9, (.int v9)), (18, (.int p39.1)), (19, (.int p39.2))]) (fun (v94 : Int32) => []) rfl (by exact trivial) (pc' := 525) rfl (fun v94 => ?_)
            refine hp_J 568 (fun (p96 : hH) => [(0, (.ref 192)), (2, (.int x2)), (3, (.int x3)), (8, (.int v7)), (9, (.int v9))]) (fun (p96 : hH) => []) (fun (p96 : hH) => p96) ?_ (fun p96 => ?_)
            · refine hp_s [1, 2, 3, 4, 5, 6, 7, 8, 0] rfl (L' := [(0, (.ref 192)), (2, (.int x2)), (3, (.int x3)), (6, (.int v5)), (8, (.int v7)), (9, (.int v9)), (18, (.int p39.1)), (19, (.int p39.2)), (20, (.int v94))]) ?_
              refine hp_wh (fun (p95 : (Int32 × hH)) => [(0, (.ref 192)), (2, (.int x2)), (3, (.int x3)), (6, (.int v5)), (8, (.int v7)), (9, (.int v9)), (18, (.int p39.1)), (19, (.int p39.2)), (20, (.int p95.1))]) [] (fun (p95 : (Int32 × hH)) => p95.2) (fun p95 => ?_) (v94, p26)
              refine hp_ic_ge hm (at1 46 rfl) rfl (by exact trivial) (pc' := 535) rfl 28 rfl (tgt := 568) rfl (fun c100 => ?_) (fun c100 => ?_)
              · exact hp_lf [0, 1, 2, 4, 5] rfl (fun _ e => e)
              · refine hp_GW hm (at1 47 rfl) (L' := [(0, (.ref 192)), (2, (.int x2)), (3, (.int x3)), (6, (.int v5)), (8, (.int v7)), (9, (.int v9)), (18, (.int p39.1)), (19, (.int p39.2)), (20, (.int p95.1))]) rfl (fun hP => (by exact ⟨⟨og_192, ⟨og_238, hP⟩⟩, ⟨og_238, hP⟩⟩)) (pc' := 550) rfl (fun q97 h10 => ?_)
                refine hp_GW hm (at1 48 rfl) (L' := [(0, (.ref 192)), (2, (.int x2)), (3, (.int x3)), (6, (.int v5)), (8, (.int v7)), (9, (.int v9)), (18, (.int p39.1)), (19, (.int p39.2)), (20, (.int p95.1))]) rfl (fun hP => (by exact ⟨⟨og_192, ⟨og_239, hP⟩⟩, ⟨og_239, hP⟩⟩)) (pc' := 562) rfl (fun q98 h11 => ?_)
                refine hp_z hm (at1 49 rfl) (fun (v99 : Int32) => [(20, (.int v99)), (0, (.ref 192)), (2, (.int x2)), (3, (.int x3)), (6, (.int v5)), (8, (.int v7)), (9, (.int v9)), (18, (.int p39.1)), (19, (.int p39.2))]) (fun (v99 : Int32) => []) rfl (by exact trivial) (pc' := 565) rfl (fun v99 => ?_)
                refine hp_goto hm 27 rfl (tgt := 525) rfl ?_
                exact hp_lf [1, 2, 3, 4, 5, 6, 7, 8, 0] rfl (fun _ e => e)
            · refine hp_b hm (at1 50 rfl) (L' := [(20, (.int (0 : Int32))), (0, (.ref 192)), (2, (.int x2)), (3, (.int x3)), (8, (.int v7)), (9, (.int v9))]) (st' := []) rfl (by exact trivial) (pc' := 571) rfl ?_
              refine hp_J 627 (fun (p102 : hH) => [(0, (.ref 192)), (2, (.int x2)), (3, (.int x3)), (9, (.int v9))]) (fun (p102 : hH) => []) (fun (p102 : hH) => p102) ?_ (fun p102 => ?_)
              · refine hp_s [1, 2, 3, 4, 5, 0] rfl (L' := [(0, (.ref 192)), (2, (.int x2)), (3, (.int x3)), (8, (.int v7)), (9, (.int v9)), (20, (.int (0 : Int32)))]) ?_
                refine hp_wh (fun (p101 : (Int32 × hH)) => [(0, (.ref 192)), (2, (.int x2)), (3, (.int x3)), (8, (.int v7)), (9, (.int v9)), (20, (.int p101.1))]) [] (fun (p101 : (Int32 × hH)) => p101.2) (fun p101 => ?_) ((0 : Int32), p96)
                refine hp_G hm (at1 51 rfl) (L' := [(0, (.ref 192)), (2, (.int x2)), (3, (.int x3)), (8, (.int v7)), (9, (.int v9)), (20, (.int p101.1))]) (st' := [(.int (rdI p101.2 237 (Int32.toNatClampNeg (x3 + (1 : Int32))))), (.int p101.1)]) rfl (fun hP => (by exact ⟨og_192, ⟨og_237, hP⟩⟩)) (pc' := 581) rfl (fun q103 => ?_)
                refine hp_ic_ge hm at0 rfl (by exact trivial) (pc' := 581) rfl 30 rfl (tgt := 627) rfl (fun c106 => ?_) (fun c106 => ?_)
                · exact hp_lf [0, 1, 2, 4] rfl (fun _ e => e)
                · refine hp_GW hm (at1 52 rfl) (L' := [(0, (.ref 192)), (2, (.int x2)), (3, (.int x3)), (8, (.int v7)), (9, (.int v9)), (20, (.int p101.1))]) rfl (fun hP => (by exact ⟨⟨⟨⟨⟨og_192, og_192⟩, ⟨og_237, hP.1⟩⟩, og_192⟩, ⟨og_241, hP.2.1⟩⟩, ⟨og_241, hP.2.2⟩⟩)) (pc' := 621) rfl (fun q104 h12 => ?_)
                  refine hp_z hm (at1 53 rfl) (fun (v105 : Int32) => [(20, (.int v105)), (0, (.ref 192)), (2, (.int x2)), (3, (.int x3)), (8, (.int v7)), (9, (.int v9))]) (fun (v105 : Int32) => []) rfl (by exact trivial) (pc' := 624) rfl (fun v105 => ?_)
                  refine hp_goto hm 29 rfl (tgt := 571) rfl ?_
                  exact hp_lf [1, 2, 3, 4, 5, 0] rfl (fun _ e => e)
              · refine hp_GW hm (at1 54 rfl) (L' := [(0, (.ref 192)), (2, (.int x2)), (3, (.int x3)), (9, (.int v9))]) rfl (fun hP => (by exact ⟨⟨og_192, ⟨og_236, hP⟩⟩, ⟨og_236, hP⟩⟩)) (pc' := 638) rfl (fun q107 h13 => ?_)
                refine hp_GW hm (at1 55 rfl) (L' := [(0, (.ref 192)), (2, (.int x2)), (3, (.int x3)), (9, (.int v9))]) rfl (fun hP => (by exact ⟨⟨⟨⟨og_192, ⟨og_237, hP.1⟩⟩, og_192⟩, ⟨og_237, hP.2⟩⟩, ⟨og_237, hP.1⟩⟩)) (pc' := 655) rfl (fun q108 h14 => ?_)
                refine hp_G hm (at1 56 rfl) (L' := [(0, (.ref 192)), (2, (.int x2)), (3, (.int x3)), (9, (.int v9))]) (st' := [(.int ((rdI h14 203 (Int32.toNatClampNeg x2)) &&& (512 : Int32)))]) rfl (fun hP => (by exact ⟨og_192, ⟨og_203, hP⟩⟩)) (pc' := 665) rfl (fun q109 => ?_)
                refine hp_if_eq hm at0 rfl (by exact trivial) (pc' := 665) rfl 34 rfl (tgt := 707) rfl (fun c115 => ?_) (fun c115 => ?_)
                · exact hp_vr hm 31 rfl rfl (fun _ e => e)
                · refine hp_b hm (at1 57 rfl) (L' := [(20, (.int (0 : Int32))), (0, (.ref 192)), (2, (.int x2)), (3, (.int x3)), (9, (.int v9))]) (st' := []) rfl (by exact trivial) (pc' := 671) rfl ?_
                  refine hp_J 707 (fun (p111 : hH) => []) (fun (p111 : hH) => []) (fun (p111 : hH) => p111) ?_ (fun p111 => ?_)
                  · refine hp_s [1, 3, 0] rfl (L' := [(0, (.ref 192)), (3, (.int x3)), (20, (.int (0 : Int32)))]) ?_
                    refine hp_wh (fun (p110 : (Int32 × hH)) => [(0, (.ref 192)), (3, (.int x3)), (20, (.int p110.1))]) [] (fun (p110 : (Int32 × hH)) => p110.2) (fun p110 => ?_) ((0 : Int32), h14)
                    refine hp_ic_ge hm (at1 58 rfl) rfl (by exact trivial) (pc' := 674) rfl 33 rfl (tgt := 707) rfl (fun c114 => ?_) (fun c114 => ?_)
                    · exact hp_lf [] rfl (fun _ e => e)
                    · refine hp_GW hm (at1 59 rfl) (L' := [(0, (.ref 192)), (3, (.int x3)), (20, (.int p110.1))]) rfl (fun hP => (by exact ⟨⟨⟨og_192, og_192⟩, ⟨og_242, hP.1⟩⟩, ⟨og_242, hP.2⟩⟩)) (pc' := 701) rfl (fun q112 h15 => ?_)
                      refine hp_z hm (at1 60 rfl) (fun (v113 : Int32) => [(20, (.int v113)), (0, (.ref 192)), (3, (.int x3))]) (fun (v113 : Int32) => []) rfl (by exact trivial) (pc' := 704) rfl (fun v113 => ?_)
                      refine hp_goto hm 32 rfl (tgt := 671) rfl ?_
                      exact hp_lf [1, 2, 0] rfl (fun _ e => e)
                  · exact hp_vr hm 31 rfl rfl (fun _ e => e)
    · exact hp_vr hm 35 rfl rfl (fun _ e => e)
  · refine hp_cVS (M2 := M_Mo_failOutside) hm (at1 61 rfl) (as := [(.int (12 : Int32))]) (rest := []) (z := 192) rfl (by exact trivial) (pc' := 12) rfl 37 rfl (lw_g (lw_at lw_m11 56 rfl) rfl) y_Mo_failOutside rfl (d2 := 1) ⟨by omega, pd_Mo_failOutside, le_b rfl⟩ (le_b rfl) og_192 (k_Mo_failOutside (12 : Int32) h) (fun _ h16 => ?_)
    exact hp_vr hm 38 rfl rfl (fun _ e => e)
noncomputable def fb_Mo_makeGlyph (rec : Int32 → Int32 → hH → Option (Unit × hH)) (x1 : Int32) (x2 : Int32) (h : hH) : Option (Unit × hH) :=
  bS (f_Mo_leftOf x1 h) fun a1 h1 =>
  lz (A := Int32) ((102 : Int32) * x2) fun v2 =>
  bP (f_Mo_bearingOf x1 h1) fun a3 =>
  lz (A := Int32) (a1 - a3) fun v4 =>
  bP (f_Mo_scaled (Int32.toInt64 v4) h1) fun a5 =>
  gd (vp_in ((4 : Int32) * x2) 24) <|
  lz (wrI h1 242 (Int32.toNatClampNeg ((4 : Int32) * x2)) a5) fun h2 =>
  gd (vp_in (((4 : Int32) * x2) + (1 : Int32)) 24) <|
  lz (wrI h2 242 (Int32.toNatClampNeg (((4 : Int32) * x2) + (1 : Int32))) (0 : Int32)) fun h3 =>
  bP (f_Mo_advanceOf x1 h3) fun a8 =>
  bP (f_Mo_scaled ((Int32.toInt64 v4) + (Int32.toInt64 a8)) h3) fun a9 =>
  gd (vp_in (((4 : Int32) * x2) + (2 : Int32)) 24) <|
  lz (wrI h3 242 (Int32.toNatClampNeg (((4 : Int32) * x2) + (2 : Int32))) a9) fun h4 =>
  gd (vp_in (((4 : Int32) * x2) + (3 : Int32)) 24) <|
  lz (wrI h4 242 (Int32.toNatClampNeg (((4 : Int32) * x2) + (3 : Int32))) (0 : Int32)) fun h5 =>
  gd (vp_in x2 6) <|
  lz (wrI h5 236 (Int32.toNatClampNeg x2) (0 : Int32)) fun h6 =>
  gd (vp_in x2 6) <|
  lz (wrI h6 237 (Int32.toNatClampNeg x2) (0 : Int32)) fun h7 =>
  bS (f_Mo_isGlyph x1 h7) fun a14 h8 =>
  bP (A := hH) (
    if (rdI h8 192 28) = (-1 : Int32) then (
      lz (A := Int32) (rdI h8 192 30) fun v39 =>
      bP (A := hH) (
        wh (A := (Int32 × hH)) (B := hH) (fun p40 =>
            if (¬ (v39 ≤ p40.1) ∧ (rdI p40.2 192 59) = 0) then (
              bS (f_Mo_makePart rec x1 p40.1 x2 p40.2) fun _ h15 =>
              lz (A := Int32) (p40.1 + (1 : Int32)) fun v47 =>
              some (.inl (v47, h15))
            ) else (
              some (.inr p40.2)
            )
        ) ((0 : Int32), h8)
      ) fun p41 =>
      some p41
    ) else (
      gd (vp_in x2 6) <|
      lz (wrI h8 236 (Int32.toNatClampNeg x2) (rdI h8 192 29)) fun h9 =>
      lz (A := Int32) (if (rdI h9 192 29) = 0 then (0 : Int32) else (rdI h9 192 28)) fun p17 =>
      gd (vp_in x2 6) <|
      lz (wrI h9 237 (Int32.toNatClampNeg x2) p17) fun h10 =>
      bP (A := hH) (
        wh (A := (Int32 × hH)) (B := hH) (fun p20 =>
            gd (vp_in x2 6) <|
            if (rdI p20.2 237 (Int32.toNatClampNeg x2)) ≤ p20.1 then (
              some (.inr p20.2)
            ) else (
              gd (vp_in p20.1 12 ∧ vp_in (((20 : Int32) * x2) + p20.1) 120) <|
              lz (wrI p20.2 241 (Int32.toNatClampNeg (((20 : Int32) * x2) + p20.1)) (rdI p20.2 199 (Int32.toNatClampNeg p20.1))) fun h11 =>
              lz (A := Int32) (p20.1 + (1 : Int32)) fun v24 =>
              some (.inl (v24, h11))
            )
        ) ((0 : Int32), h10)
      ) fun p21 =>
      wh (A := (Int32 × hH)) (B := hH) (fun p26 =>
          if (rdI p26.2 192 29) ≤ p26.1 then (
            some (.inr p26.2)
          ) else (
            gd (vp_in p26.1 100) <|
            bP (f_Mo_scaled (Int32.toInt64 (rdI p26.2 200 (Int32.toNatClampNeg p26.1))) p26.2) fun a28 =>
            gd (vp_in (v2 + p26.1) 612) <|
            lz (wrI p26.2 238 (Int32.toNatClampNeg (v2 + p26.1)) a28) fun h12 =>
            gd (vp_in p26.1 100) <|
            bP (f_Mo_scaled (Int32.toInt64 (rdI h12 201 (Int32.toNatClampNeg p26.1))) h12) fun a31 =>
            gd (vp_in (v2 + p26.1) 612) <|
            lz (wrI h12 239 (Int32.toNatClampNeg (v2 + p26.1)) a31) fun h13 =>
            gd (vp_in p26.1 100) <|
            lz (A := Int32) (if ((rdI h13 202 (Int32.toNatClampNeg p26.1)) &&& (1 : Int32)) = 0 then (0 : Int32) else (1 : Int32)) fun p34 =>
            gd (vp_in (v2 + p26.1) 612) <|
            lz (wrI h13 240 (Int32.toNatClampNeg (v2 + p26.1)) (p34 &&& 1)) fun h14 =>
            lz (A := Int32) (p26.1 + (1 : Int32)) fun v37 =>
            some (.inl (v37, h14))
          )
      ) ((0 : Int32), p21)
    )
  ) fun p15 =>
  bP (A := hH) (
    wh (A := (Int32 × hH)) (B := hH) (fun p49 =>
        gd (vp_in x2 6) <|
        if (¬ ((rdI p49.2 236 (Int32.toNatClampNeg x2)) ≤ p49.1) ∧ (rdI p49.2 192 59) = 0) then (
          gd (vp_in (v2 + p49.1) 612) <|
          bP (f_Mo_in (Int32.toInt64 (rdI p49.2 238 (Int32.toNatClampNeg (v2 + p49.1)))) (-1000000 : Int64) (1000000 : Int64)) fun a58 =>
          bP (A := hH) (
            cO (
              if a58 = 0 then (
                some true
              ) else (
                gd (vp_in (v2 + p49.1) 612) <|
                bP (f_Mo_in (Int32.toInt64 (rdI p49.2 239 (Int32.toNatClampNeg (v2 + p49.1)))) (-1000000 : Int64) (1000000 : Int64)) fun a61 =>
                if a61 = 0 then (
                  some true
                ) else (
                  some false
                )
              )
            ) (
              bS (f_Mo_failOutside (13 : Int32) p49.2) fun _ h16 =>
              some h16
            ) (
              some p49.2
            )
          ) fun p59 =>
          lz (A := Int32) (p49.1 + (1 : Int32)) fun v68 =>
          some (.inl (v68, p59))
        ) else (
          some (.inr p49.2)
        )
    ) ((0 : Int32), p15)
  ) fun p50 =>
  if (rdI p50 192 59) = 0 then (
    bS (f_Mo_isGlyph x1 p50) fun a69 h17 =>
    bP (A := hH) (
      if x2 = 0 then (
        lz (wrI h17 192 126 (rdI h17 234 7)) fun h18 =>
        lz (wrI h18 192 127 (rdI h18 234 8)) fun h19 =>
        some h19
      ) else (
        some h17
      )
    ) fun p70 =>
    if (rdI p70 192 32) ≤ 0 then (
      some ((), p70)
    ) else (
      bS (f_Mo_hint x2 p70) fun _ h20 =>
      some ((), h20)
    )
  ) else (
    some ((), p50)
  )
set_option maxRecDepth 20000 in
theorem kb_Mo_makeGlyph (n : Nat) (rec : Int32 → Int32 → hH → Option (Unit × hH)) (hrec : ∀ (x1 : Int32) (x2 : Int32) (h : hH), hx_kS S0 M_Mo_makeGlyph (13 + 2 * n) NT [(.ref 192), (.int x1), (.int x2)] h (rec x1 x2 h) cvU) (x1 : Int32) (x2 : Int32) (h : hH) : hx_kS S0 M_Mo_makeGlyph (13 + 2 * n + 2) NT [(.ref 192), (.int x1), (.int x2)] h (fb_Mo_makeGlyph rec x1 x2 h) cvU := by
  have hm := m_Mo_makeGlyph
  show hx_P S0 M_Mo_makeGlyph (13 + 2 * n + 2) 0 [(0, (.ref 192)), (1, (.int x1)), (2, (.int x2))] [] NT h (fb_Mo_makeGlyph rec x1 x2 h) (hx_Rc cvU NT)
  unfold fb_Mo_makeGlyph
  refine hp_cVS (M2 := M_Mo_leftOf) hm (at1 0 rfl) (as := [(.int x1)]) (rest := []) (z := 192) rfl (by exact trivial) (pc' := 2) rfl 0 rfl (lw_g (lw_at lw_m11 4 rfl) rfl) y_Mo_leftOf rfl (d2 := 6) ⟨by omega, pd_Mo_leftOf, le_b rfl⟩ (le_b rfl) og_192 (k_Mo_leftOf x1 h) (fun a1 h1 => ?_)
  refine hp_z hm (at1 1 rfl) (fun (v2 : Int32) => [(4, (.int v2)), (3, (.int a1)), (0, (.ref 192)), (1, (.int x1)), (2, (.int x2))]) (fun (v2 : Int32) => []) rfl (by exact trivial) (pc' := 12) rfl (fun v2 => ?_)
  refine hp_cVP (M2 := M_Mo_bearingOf) hm (at1 2 rfl) (as := [(.int x1)]) (rest := [(.int a1)]) (z := 192) rfl (by exact trivial) (pc' := 15) rfl 1 rfl (lw_g (lw_at lw_m11 22 rfl) rfl) y_Mo_bearingOf rfl (d2 := 4) ⟨by omega, pd_Mo_bearingOf, le_b rfl⟩ (le_b rfl) og_192 (k_Mo_bearingOf x1 h1) (fun a3 => ?_)
  refine hp_z hm (at1 3 rfl) (fun (v4 : Int32) => [(5, (.int v4)), (4, (.int v2)), (3, (.int a1)), (0, (.ref 192)), (1, (.int x1)), (2, (.int x2))]) (fun (v4 : Int32) => []) rfl (by exact trivial) (pc' := 21) rfl (fun v4 => ?_)
  refine hp_cVP (M2 := M_Mo_scaled) hm (at1 4 rfl) (as := [(.long (Int32.toInt64 v4))]) (rest := [(.int ((4 : Int32) * x2)), (.ref 242)]) (z := 192) rfl (by exact og_192) (pc' := 32) rfl 2 rfl (lw_g (lw_at lw_m9 212 rfl) rfl) y_Mo_scaled rfl (d2 := 4) ⟨by omega, pd_Mo_scaled, le_b rfl⟩ (le_b rfl) og_192 (k_Mo_scaled (Int32.toInt64 v4) h1) (fun a5 => ?_)
  refine hp_GW hm (at1 5 rfl) (L' := [(5, (.int v4)), (4, (.int v2)), (3, (.int a1)), (0, (.ref 192)), (1, (.int x1)), (2, (.int x2))]) rfl (fun hP => (by exact ⟨og_242, hP⟩)) (pc' := 36) rfl (fun q6 h2 => ?_)
  refine hp_GW hm (at1 6 rfl) (L' := [(5, (.int v4)), (4, (.int v2)), (3, (.int a1)), (0, (.ref 192)), (1, (.int x1)), (2, (.int x2))]) rfl (fun hP => (by exact ⟨og_192, ⟨og_242, hP⟩⟩)) (pc' := 47) rfl (fun q7 h3 => ?_)
  refine hp_cVP (M2 := M_Mo_advanceOf) hm (at1 7 rfl) (as := [(.int x1)]) (rest := [(.long (Int32.toInt64 v4)), (.ref 192), (.int (((4 : Int32) * x2) + (2 : Int32))), (.ref 242)]) (z := 192) rfl (by exact og_192) (pc' := 62) rfl 3 rfl (lw_g (lw_at lw_m11 27 rfl) rfl) y_Mo_advanceOf rfl (d2 := 3) ⟨by omega, pd_Mo_advanceOf, le_b rfl⟩ (le_b rfl) og_192 (k_Mo_advanceOf x1 h3) (fun a8 => ?_)
  refine hp_cVP (M2 := M_Mo_scaled) hm (at1 8 rfl) (as := [(.long ((Int32.toInt64 v4) + (Int32.toInt64 a8)))]) (rest := [(.int (((4 : Int32) * x2) + (2 : Int32))), (.ref 242)]) (z := 192) rfl (by exact trivial) (pc' := 67) rfl 4 rfl (lw_g (lw_at lw_m9 212 rfl) rfl) y_Mo_scaled rfl (d2 := 4) ⟨by omega, pd_Mo_scaled, le_b rfl⟩ (le_b rfl) og_192 (k_Mo_scaled ((Int32.toInt64 v4) + (Int32.toInt64 a8)) h3) (fun a9 => ?_)
  refine hp_GW hm (at1 9 rfl) (L' := [(5, (.int v4)), (4, (.int v2)), (3, (.int a1)), (0, (.ref 192)), (1, (.int x1)), (2, (.int x2))]) rfl (fun hP => (by exact ⟨og_242, hP⟩)) (pc' := 71) rfl (fun q10 h4 => ?_)
  refine hp_GW hm (at1 10 rfl) (L' := [(5, (.int v4)), (4, (.int v2)), (3, (.int a1)), (0, (.ref 192)), (1, (.int x1)), (2, (.int x2))]) rfl (fun hP => (by exact ⟨og_192, ⟨og_242, hP⟩⟩)) (pc' := 82) rfl (fun q11 h5 => ?_)
  refine hp_GW hm (at1 11 rfl) (L' := [(5, (.int v4)), (4, (.int v2)), (3, (.int a1)), (0, (.ref 192)), (1, (.int x1)), (2, (.int x2))]) rfl (fun hP => (by exact ⟨og_192, ⟨og_236, hP⟩⟩)) (pc' := 89) rfl (fun q12 h6 => ?_)
  refine hp_GW hm (at1 12 rfl) (L' := [(5, (.int v4)), (4, (.int v2)), (3, (.int a1)), (0, (.ref 192)), (1, (.int x1)), (2, (.int x2))]) rfl (fun hP => (by exact ⟨og_192, ⟨og_237, hP⟩⟩)) (pc' := 96) rfl (fun q13 h7 => ?_)
  refine hp_cVS (M2 := M_Mo_isGlyph) hm (at1 13 rfl) (as := [(.int x1)]) (rest := []) (z := 192) rfl (by exact trivial) (pc' := 98) rfl 5 rfl (lw_g (lw_at lw_m11 31 rfl) rfl) y_Mo_isGlyph rfl (d2 := 6) ⟨by omega, pd_Mo_isGlyph, le_b rfl⟩ (le_b rfl) og_192 (k_Mo_isGlyph x1 h7) (fun a14 h8 => ?_)
  refine hp_b hm (at1 14 rfl) (L' := [(6, (.int a14)), (5, (.int v4)), (4, (.int v2)), (3, (.int a1)), (0, (.ref 192)), (1, (.int x1)), (2, (.int x2))]) (st' := [(.int (-1 : Int32)), (.int (rdI h8 192 28))]) rfl (by exact og_192) (pc' := 108) rfl ?_
  refine hp_J 310 (fun (p15 : hH) => [(0, (.ref 192)), (1, (.int x1)), (2, (.int x2)), (4, (.int v2))]) (fun (p15 : hH) => []) (fun (p15 : hH) => p15) ?_ (fun p15 => ?_)
  · refine hp_ic_ne hm at0 rfl (by exact trivial) (pc' := 108) rfl 21 rfl (tgt := 151) rfl (fun c48 => ?_) (fun c48 => ?_)
    · refine hp_GW hm (at1 15 rfl) (L' := [(6, (.int a14)), (5, (.int v4)), (4, (.int v2)), (3, (.int a1)), (0, (.ref 192)), (1, (.int x1)), (2, (.int x2))]) rfl (fun hP => (by exact ⟨⟨og_192, og_192⟩, ⟨og_236, hP⟩⟩)) (pc' := 161) rfl (fun q16 h9 => ?_)
      refine hp_JZ 181 (fun (p17 : Int32) => [(0, (.ref 192)), (1, (.int x1)), (2, (.int x2)), (4, (.int v2))]) (fun (p17 : Int32) => [(.int p17), (.int x2), (.ref 237)]) (fun (p17 : Int32) => h9) ?_ (fun p17 => ?_)
      · refine hp_sv0 ?_
        refine hp_if_ne hm (at1 16 rfl) rfl (by exact ⟨og_192, og_192⟩) (pc' := 170) rfl 7 rfl (tgt := 177) rfl (fun c18 => ?_) (fun c18 => ?_)
        · refine hp_b hm (at1 17 rfl) (L' := [(6, (.int a14)), (5, (.int v4)), (4, (.int v2)), (3, (.int a1)), (0, (.ref 192)), (1, (.int x1)), (2, (.int x2))]) (st' := [(.int (rdI h9 192 28)), (.int x2), (.ref 237)]) rfl (by exact og_192) (pc' := 181) rfl ?_
          exact hp_lf [4, 5, 6, 2] rfl (fun _ e => e)
        · refine hp_b hm (at1 18 rfl) (L' := [(6, (.int a14)), (5, (.int v4)), (4, (.int v2)), (3, (.int a1)), (0, (.ref 192)), (1, (.int x1)), (2, (.int x2))]) (st' := [(.int (0 : Int32)), (.int x2), (.ref 237)]) rfl (by exact trivial) (pc' := 174) rfl ?_
          refine hp_goto hm 6 rfl (tgt := 181) rfl ?_
          exact hp_lf [4, 5, 6, 2] rfl (fun _ e => e)
      · refine hp_GW hm (at1 19 rfl) (L' := [(0, (.ref 192)), (1, (.int x1)), (2, (.int x2)), (4, (.int v2))]) rfl (fun hP => (by exact ⟨og_237, hP⟩)) (pc' := 182) rfl (fun q19 h10 => ?_)
        refine hp_b hm (at1 20 rfl) (L' := [(7, (.int (0 : Int32))), (0, (.ref 192)), (1, (.int x1)), (2, (.int x2)), (4, (.int v2))]) (st' := []) rfl (by exact trivial) (pc' := 185) rfl ?_
        refine hp_J 221 (fun (p21 : hH) => [(0, (.ref 192)), (1, (.int x1)), (2, (.int x2)), (4, (.int v2))]) (fun (p21 : hH) => []) (fun (p21 : hH) => p21) ?_ (fun p21 => ?_)
        · refine hp_s [1, 2, 3, 4, 0] rfl (L' := [(0, (.ref 192)), (1, (.int x1)), (2, (.int x2)), (4, (.int v2)), (7, (.int (0 : Int32)))]) ?_
          refine hp_wh (fun (p20 : (Int32 × hH)) => [(0, (.ref 192)), (1, (.int x1)), (2, (.int x2)), (4, (.int v2)), (7, (.int p20.1))]) [] (fun (p20 : (Int32 × hH)) => p20.2) (fun p20 => ?_) ((0 : Int32), h10)
          refine hp_G hm (at1 21 rfl) (L' := [(0, (.ref 192)), (1, (.int x1)), (2, (.int x2)), (4, (.int v2)), (7, (.int p20.1))]) (st' := [(.int (rdI p20.2 237 (Int32.toNatClampNeg x2))), (.int p20.1)]) rfl (fun hP => (by exact ⟨og_192, ⟨og_237, hP⟩⟩)) (pc' := 193) rfl (fun q22 => ?_)
          refine hp_ic_ge hm at0 rfl (by exact trivial) (pc' := 193) rfl 9 rfl (tgt := 221) rfl (fun c25 => ?_) (fun c25 => ?_)
          · exact hp_lf [0, 1, 2, 3] rfl (fun _ e => e)
          · refine hp_GW hm (at1 22 rfl) (L' := [(0, (.ref 192)), (1, (.int x1)), (2, (.int x2)), (4, (.int v2)), (7, (.int p20.1))]) rfl (fun hP => (by exact ⟨⟨⟨og_192, og_192⟩, ⟨og_199, hP.1⟩⟩, ⟨og_241, hP.2⟩⟩)) (pc' := 215) rfl (fun q23 h11 => ?_)
            refine hp_z hm (at1 23 rfl) (fun (v24 : Int32) => [(7, (.int v24)), (0, (.ref 192)), (1, (.int x1)), (2, (.int x2)), (4, (.int v2))]) (fun (v24 : Int32) => []) rfl (by exact trivial) (pc' := 218) rfl (fun v24 => ?_)
            refine hp_goto hm 8 rfl (tgt := 185) rfl ?_
            exact hp_lf [1, 2, 3, 4, 0] rfl (fun _ e => e)
        · refine hp_b hm (at1 24 rfl) (L' := [(7, (.int (0 : Int32))), (0, (.ref 192)), (1, (.int x1)), (2, (.int x2)), (4, (.int v2))]) (st' := []) rfl (by exact trivial) (pc' := 224) rfl ?_
          refine hp_s [1, 2, 3, 4, 0] rfl (L' := [(0, (.ref 192)), (1, (.int x1)), (2, (.int x2)), (4, (.int v2)), (7, (.int (0 : Int32)))]) ?_
          refine hp_wh (fun (p26 : (Int32 × hH)) => [(0, (.ref 192)), (1, (.int x1)), (2, (.int x2)), (4, (.int v2)), (7, (.int p26.1))]) [] (fun (p26 : (Int32 × hH)) => p26.2) (fun p26 => ?_) ((0 : Int32), p21)
          refine hp_ic_ge hm (at1 25 rfl) rfl (by exact og_192) (pc' := 230) rfl 15 rfl (tgt := 310) rfl (fun c38 => ?_) (fun c38 => ?_)
          · exact hp_lf [0, 1, 2, 3] rfl (fun _ e => e)
          · refine hp_G hm (at1 26 rfl) (L' := [(0, (.ref 192)), (1, (.int x1)), (2, (.int x2)), (4, (.int v2)), (7, (.int p26.1))]) (st' := [(.long (Int32.toInt64 (rdI p26.2 200 (Int32.toNatClampNeg p26.1)))), (.ref 192), (.int (v2 + p26.1)), (.ref 238)]) rfl (fun hP => (by exact ⟨⟨og_192, og_192⟩, ⟨og_200, hP⟩⟩)) (pc' := 251) rfl (fun q27 => ?_)
            refine hp_cVP (M2 := M_Mo_scaled) hm at0 (as := [(.long (Int32.toInt64 (rdI p26.2 200 (Int32.toNatClampNeg p26.1))))]) (rest := [(.int (v2 + p26.1)), (.ref 238)]) (z := 192) rfl (by exact trivial) (pc' := 251) rfl 10 rfl (lw_g (lw_at lw_m9 212 rfl) rfl) y_Mo_scaled rfl (d2 := 4) ⟨by omega, pd_Mo_scaled, le_b rfl⟩ (le_b rfl) og_192 (k_Mo_scaled (Int32.toInt64 (rdI p26.2 200 (Int32.toNatClampNeg p26.1))) p26.2) (fun a28 => ?_)
            refine hp_GW hm (at1 27 rfl) (L' := [(0, (.ref 192)), (1, (.int x1)), (2, (.int x2)), (4, (.int v2)), (7, (.int p26.1))]) rfl (fun hP => (by exact ⟨og_238, hP⟩)) (pc' := 255) rfl (fun q29 h12 => ?_)
            refine hp_G hm (at1 28 rfl) (L' := [(0, (.ref 192)), (1, (.int x1)), (2, (.int x2)), (4, (.int v2)), (7, (.int p26.1))]) (st' := [(.long (Int32.toInt64 (rdI h12 201 (Int32.toNatClampNeg p26.1)))), (.ref 192), (.int (v2 + p26.1)), (.ref 239)]) rfl (fun hP => (by exact ⟨⟨og_192, og_192⟩, ⟨og_201, hP⟩⟩)) (pc' := 273) rfl (fun q30 => ?_)
            refine hp_cVP (M2 := M_Mo_scaled) hm at0 (as := [(.long (Int32.toInt64 (rdI h12 201 (Int32.toNatClampNeg p26.1))))]) (rest := [(.int (v2 + p26.1)), (.ref 239)]) (z := 192) rfl (by exact trivial) (pc' := 273) rfl 11 rfl (lw_g (lw_at lw_m9 212 rfl) rfl) y_Mo_scaled rfl (d2 := 4) ⟨by omega, pd_Mo_scaled, le_b rfl⟩ (le_b rfl) og_192 (k_Mo_scaled (Int32.toInt64 (rdI h12 201 (Int32.toNatClampNeg p26.1))) h12) (fun a31 => ?_)
            refine hp_GW hm (at1 29 rfl) (L' := [(0, (.ref 192)), (1, (.int x1)), (2, (.int x2)), (4, (.int v2)), (7, (.int p26.1))]) rfl (fun hP => (by exact ⟨og_239, hP⟩)) (pc' := 277) rfl (fun q32 h13 => ?_)
            refine hp_G hm (at1 30 rfl) (L' := [(0, (.ref 192)), (1, (.int x1)), (2, (.int x2)), (4, (.int v2)), (7, (.int p26.1))]) (st' := [(.int ((rdI h13 202 (Int32.toNatClampNeg p26.1)) &&& (1 : Int32))), (.int (v2 + p26.1)), (.ref 240)]) rfl (fun hP => (by exact ⟨⟨og_192, og_192⟩, ⟨og_202, hP⟩⟩)) (pc' := 295) rfl (fun q33 => ?_)
            refine hp_JZ 303 (fun (p34 : Int32) => [(0, (.ref 192)), (1, (.int x1)), (2, (.int x2)), (4, (.int v2)), (7, (.int p26.1))]) (fun (p34 : Int32) => [(.int p34), (.int (v2 + p26.1)), (.ref 240)]) (fun (p34 : Int32) => h13) ?_ (fun p34 => ?_)
            · refine hp_sv0 ?_
              refine hp_if_eq hm at0 rfl (by exact trivial) (pc' := 295) rfl 13 rfl (tgt := 302) rfl (fun c35 => ?_) (fun c35 => ?_)
              · refine hp_b hm (at1 31 rfl) (L' := [(0, (.ref 192)), (1, (.int x1)), (2, (.int x2)), (4, (.int v2)), (7, (.int p26.1))]) (st' := [(.int (0 : Int32)), (.int (v2 + p26.1)), (.ref 240)]) rfl (by exact trivial) (pc' := 303) rfl ?_
                exact hp_lf [0, 1, 2, 3, 4] rfl (fun _ e => e)
              · refine hp_b hm (at1 32 rfl) (L' := [(0, (.ref 192)), (1, (.int x1)), (2, (.int x2)), (4, (.int v2)), (7, (.int p26.1))]) (st' := [(.int (1 : Int32)), (.int (v2 + p26.1)), (.ref 240)]) rfl (by exact trivial) (pc' := 299) rfl ?_
                refine hp_goto hm 12 rfl (tgt := 303) rfl ?_
                exact hp_lf [0, 1, 2, 3, 4] rfl (fun _ e => e)
            · refine hp_GW hm (at1 33 rfl) (L' := [(0, (.ref 192)), (1, (.int x1)), (2, (.int x2)), (4, (.int v2)), (7, (.int p26.1))]) rfl (fun hP => (by exact ⟨og_240, hP⟩)) (pc' := 304) rfl (fun q36 h14 => ?_)
              refine hp_z hm (at1 34 rfl) (fun (v37 : Int32) => [(7, (.int v37)), (0, (.ref 192)), (1, (.int x1)), (2, (.int x2)), (4, (.int v2))]) (fun (v37 : Int32) => []) rfl (by exact trivial) (pc' := 307) rfl (fun v37 => ?_)
              refine hp_goto hm 14 rfl (tgt := 224) rfl ?_
              exact hp_lf [1, 2, 3, 4, 0] rfl (fun _ e => e)
    · refine hp_z hm (at1 35 rfl) (fun (v39 : Int32) => [(7, (.int v39)), (6, (.int a14)), (5, (.int v4)), (4, (.int v2)), (3, (.int a1)), (0, (.ref 192)), (1, (.int x1)), (2, (.int x2))]) (fun (v39 : Int32) => []) rfl (by exact og_192) (pc' := 117) rfl (fun v39 => ?_)
      refine hp_b hm (at1 36 rfl) (L' := [(8, (.int (0 : Int32))), (7, (.int v39)), (6, (.int a14)), (5, (.int v4)), (4, (.int v2)), (3, (.int a1)), (0, (.ref 192)), (1, (.int x1)), (2, (.int x2))]) (st' := []) rfl (by exact trivial) (pc' := 120) rfl ?_
      refine hp_J 148 (fun (p41 : hH) => [(0, (.ref 192)), (1, (.int x1)), (2, (.int x2)), (4, (.int v2))]) (fun (p41 : hH) => []) (fun (p41 : hH) => p41) ?_ (fun p41 => ?_)
      · refine hp_s [6, 7, 8, 4, 1, 0] rfl (L' := [(0, (.ref 192)), (1, (.int x1)), (2, (.int x2)), (4, (.int v2)), (7, (.int v39)), (8, (.int (0 : Int32)))]) ?_
        refine hp_wh (fun (p40 : (Int32 × hH)) => [(0, (.ref 192)), (1, (.int x1)), (2, (.int x2)), (4, (.int v2)), (7, (.int v39)), (8, (.int p40.1))]) [] (fun (p40 : (Int32 × hH)) => p40.2) (fun p40 => ?_) ((0 : Int32), h8)
        refine hp_cI (L0 := [(0, (.ref 192)), (1, (.int x1)), (2, (.int x2)), (4, (.int v2)), (7, (.int v39)), (8, (.int p40.1))]) (s0 := []) 134 148 ?_ (fun c46 => ?_) (fun c46 => ?_)
        · refine hp_nand ?_
          refine hp_ic_ge hm (at1 37 rfl) rfl (by exact trivial) (pc' := 124) rfl 17 rfl (tgt := 148) rfl (fun c43 => ?_) (fun c43 => ?_)
          · exact hp_l0 (fun _ e => e)
          · refine hp_dec ?_
            refine hp_if_ne hm (at1 38 rfl) rfl (by exact og_192) (pc' := 131) rfl 16 rfl (tgt := 148) rfl (fun c42 => ?_) (fun c42 => ?_)
            · exact hp_l0 (fun _ e => e)
            · exact hp_l0 (fun _ e => e)
        · refine hp_cVS (M2 := M_Mo_makePart) hm (at1 39 rfl) (as := [(.int x1), (.int p40.1), (.int x2)]) (rest := []) (z := 192) rfl (by exact trivial) (pc' := 139) rfl 18 rfl (lw_g (lw_at lw_m11 52 rfl) rfl) y_Mo_makePart rfl (d2 := (13 + 2 * n + 1)) ⟨by omega, pd_Mo_makePart, le_b rfl⟩ (le_b rfl) og_192 (k_Mo_makePart n rec hrec x1 p40.1 x2 p40.2) (fun _ h15 => ?_)
          refine hp_z hm (at1 40 rfl) (fun (v47 : Int32) => [(8, (.int v47)), (0, (.ref 192)), (1, (.int x1)), (2, (.int x2)), (4, (.int v2)), (7, (.int v39))]) (fun (v47 : Int32) => []) rfl (by exact trivial) (pc' := 145) rfl (fun v47 => ?_)
          refine hp_goto hm 19 rfl (tgt := 120) rfl ?_
          exact hp_lf [1, 2, 3, 4, 5, 0] rfl (fun _ e => e)
        · exact hp_lf [0, 1, 2, 3] rfl (fun _ e => e)
      · refine hp_goto hm 20 rfl (tgt := 310) rfl ?_
        exact hp_lf [0, 1, 2, 3] rfl (fun _ e => e)
  · refine hp_b hm (at1 41 rfl) (L' := [(7, (.int (0 : Int32))), (0, (.ref 192)), (1, (.int x1)), (2, (.int x2)), (4, (.int v2))]) (st' := []) rfl (by exact trivial) (pc' := 313) rfl ?_
    refine hp_J 389 (fun (p50 : hH) => [(0, (.ref 192)), (1, (.int x1)), (2, (.int x2))]) (fun (p50 : hH) => []) (fun (p50 : hH) => p50) ?_ (fun p50 => ?_)
    · refine hp_s [1, 2, 3, 4, 0] rfl (L' := [(0, (.ref 192)), (1, (.int x1)), (2, (.int x2)), (4, (.int v2)), (7, (.int (0 : Int32)))]) ?_
      refine hp_wh (fun (p49 : (Int32 × hH)) => [(0, (.ref 192)), (1, (.int x1)), (2, (.int x2)), (4, (.int v2)), (7, (.int p49.1))]) [] (fun (p49 : (Int32 × hH)) => p49.2) (fun p49 => ?_) ((0 : Int32), p15)
      refine hp_G hm (at1 42 rfl) (L' := [(0, (.ref 192)), (1, (.int x1)), (2, (.int x2)), (4, (.int v2)), (7, (.int p49.1))]) (st' := [(.int (rdI p49.2 236 (Int32.toNatClampNeg x2))), (.int p49.1)]) rfl (fun hP => (by exact ⟨og_192, ⟨og_236, hP⟩⟩)) (pc' := 321) rfl (fun q51 => ?_)
      refine hp_cI (L0 := [(0, (.ref 192)), (1, (.int x1)), (2, (.int x2)), (4, (.int v2)), (7, (.int p49.1))]) (s0 := []) 331 389 ?_ (fun c56 => ?_) (fun c56 => ?_)
      · refine hp_nand ?_
        refine hp_ic_ge hm at0 rfl (by exact trivial) (pc' := 321) rfl 23 rfl (tgt := 389) rfl (fun c53 => ?_) (fun c53 => ?_)
        · exact hp_l0 (fun _ e => e)
        · refine hp_dec ?_
          refine hp_if_ne hm (at1 43 rfl) rfl (by exact og_192) (pc' := 328) rfl 22 rfl (tgt := 389) rfl (fun c52 => ?_) (fun c52 => ?_)
          · exact hp_l0 (fun _ e => e)
          · exact hp_l0 (fun _ e => e)
      · refine hp_G hm (at1 44 rfl) (L' := [(0, (.ref 192)), (1, (.int x1)), (2, (.int x2)), (4, (.int v2)), (7, (.int p49.1))]) (st' := [(.long (1000000 : Int64)), (.long (-1000000 : Int64)), (.long (Int32.toInt64 (rdI p49.2 238 (Int32.toNatClampNeg (v2 + p49.1)))))]) rfl (fun hP => (by exact ⟨og_192, ⟨og_238, hP⟩⟩)) (pc' := 348) rfl (fun q57 => ?_)
        refine hp_cSP (M2 := M_Mo_in) hm at0 (as := [(.long (Int32.toInt64 (rdI p49.2 238 (Int32.toNatClampNeg (v2 + p49.1))))), (.long (-1000000 : Int64)), (.long (1000000 : Int64))]) (rest := []) rfl (by exact trivial) (pc' := 348) rfl 24 rfl (lw_g (lw_at lw_m9 184 rfl) rfl) y_Mo_in rfl (d2 := 1) ⟨by omega, pd_Mo_in, le_b rfl⟩ (le_b rfl) (k_Mo_in (Int32.toInt64 (rdI p49.2 238 (Int32.toNatClampNeg (v2 + p49.1)))) (-1000000 : Int64) (1000000 : Int64) p49.2) (fun a58 => ?_)
        refine hp_J 383 (fun (p59 : hH) => [(0, (.ref 192)), (1, (.int x1)), (2, (.int x2)), (4, (.int v2)), (7, (.int p49.1))]) (fun (p59 : hH) => []) (fun (p59 : hH) => p59) ?_ (fun p59 => ?_)
        · refine hp_cO (L0 := [(0, (.ref 192)), (1, (.int x1)), (2, (.int x2)), (4, (.int v2)), (7, (.int p49.1))]) (s0 := []) 377 383 ?_ ?_ ?_
          · refine hp_if_eq hm at0 rfl (by exact trivial) (pc' := 351) rfl 27 rfl (tgt := 377) rfl (fun c63 => ?_) (fun c63 => ?_)
            · exact hp_l0 (fun _ e => e)
            · refine hp_G hm (at1 45 rfl) (L' := [(0, (.ref 192)), (1, (.int x1)), (2, (.int x2)), (4, (.int v2)), (7, (.int p49.1))]) (st' := [(.long (1000000 : Int64)), (.long (-1000000 : Int64)), (.long (Int32.toInt64 (rdI p49.2 239 (Int32.toNatClampNeg (v2 + p49.1)))))]) rfl (fun hP => (by exact ⟨og_192, ⟨og_239, hP⟩⟩)) (pc' := 371) rfl (fun q60 => ?_)
              refine hp_cSP (M2 := M_Mo_in) hm at0 (as := [(.long (Int32.toInt64 (rdI p49.2 239 (Int32.toNatClampNeg (v2 + p49.1))))), (.long (-1000000 : Int64)), (.long (1000000 : Int64))]) (rest := []) rfl (by exact trivial) (pc' := 371) rfl 25 rfl (lw_g (lw_at lw_m9 184 rfl) rfl) y_Mo_in rfl (d2 := 1) ⟨by omega, pd_Mo_in, le_b rfl⟩ (le_b rfl) (k_Mo_in (Int32.toInt64 (rdI p49.2 239 (Int32.toNatClampNeg (v2 + p49.1)))) (-1000000 : Int64) (1000000 : Int64) p49.2) (fun a61 => ?_)
              refine hp_if_ne hm at0 rfl (by exact trivial) (pc' := 374) rfl 26 rfl (tgt := 383) rfl (fun c62 => ?_) (fun c62 => ?_)
              · exact hp_l0 (fun _ e => e)
              · exact hp_l0 (fun _ e => e)
          · refine hp_cVS (M2 := M_Mo_failOutside) hm (at1 46 rfl) (as := [(.int (13 : Int32))]) (rest := []) (z := 192) rfl (by exact trivial) (pc' := 380) rfl 28 rfl (lw_g (lw_at lw_m11 56 rfl) rfl) y_Mo_failOutside rfl (d2 := 1) ⟨by omega, pd_Mo_failOutside, le_b rfl⟩ (le_b rfl) og_192 (k_Mo_failOutside (13 : Int32) p49.2) (fun _ h16 => ?_)
            exact hp_lf [0, 1, 2, 3, 4] rfl (fun _ e => e)
          · exact hp_lf [0, 1, 2, 3, 4] rfl (fun _ e => e)
        · refine hp_z hm (at1 47 rfl) (fun (v68 : Int32) => [(7, (.int v68)), (0, (.ref 192)), (1, (.int x1)), (2, (.int x2)), (4, (.int v2))]) (fun (v68 : Int32) => []) rfl (by exact trivial) (pc' := 386) rfl (fun v68 => ?_)
          refine hp_goto hm 29 rfl (tgt := 313) rfl ?_
          exact hp_lf [1, 2, 3, 4, 0] rfl (fun _ e => e)
      · exact hp_lf [0, 1, 2] rfl (fun _ e => e)
    · refine hp_if_ne hm (at1 48 rfl) rfl (by exact og_192) (pc' := 393) rfl 35 rfl (tgt := 441) rfl (fun c73 => ?_) (fun c73 => ?_)
      · exact hp_vr hm 30 rfl rfl (fun _ e => e)
      · refine hp_cVS (M2 := M_Mo_isGlyph) hm (at1 49 rfl) (as := [(.int x1)]) (rest := []) (z := 192) rfl (by exact trivial) (pc' := 398) rfl 31 rfl (lw_g (lw_at lw_m11 31 rfl) rfl) y_Mo_isGlyph rfl (d2 := 6) ⟨by omega, pd_Mo_isGlyph, le_b rfl⟩ (le_b rfl) og_192 (k_Mo_isGlyph x1 p50) (fun a69 h17 => ?_)
        refine hp_b hm (at1 50 rfl) (L' := [(6, (.int a69)), (0, (.ref 192)), (1, (.int x1)), (2, (.int x2))]) (st' := [(.int x2)]) rfl (by exact trivial) (pc' := 404) rfl ?_
        refine hp_J 429 (fun (p70 : hH) => [(0, (.ref 192)), (2, (.int x2))]) (fun (p70 : hH) => []) (fun (p70 : hH) => p70) ?_ (fun p70 => ?_)
        · refine hp_if_ne hm at0 rfl (by exact trivial) (pc' := 404) rfl 32 rfl (tgt := 429) rfl (fun c71 => ?_) (fun c71 => ?_)
          · exact hp_lf [1, 3] rfl (fun _ e => e)
          · refine hp_w hm (at1 51 rfl) (L' := [(6, (.int a69)), (0, (.ref 192)), (1, (.int x1)), (2, (.int x2))]) rfl (by exact ⟨⟨og_192, ⟨og_234, (show vp_in (7 : Int32) 9 from vp_lit (by decide))⟩⟩, og_192⟩) (pc' := 418) rfl (fun h18 => ?_)
            refine hp_w hm (at1 52 rfl) (L' := [(6, (.int a69)), (0, (.ref 192)), (1, (.int x1)), (2, (.int x2))]) rfl (by exact ⟨⟨og_192, ⟨og_234, (show vp_in (8 : Int32) 9 from vp_lit (by decide))⟩⟩, og_192⟩) (pc' := 429) rfl (fun h19 => ?_)
            exact hp_lf [1, 3] rfl (fun _ e => e)
        · refine hp_if_le hm (at1 53 rfl) rfl (by exact og_192) (pc' := 433) rfl 34 rfl (tgt := 441) rfl (fun c72 => ?_) (fun c72 => ?_)
          · exact hp_vr hm 30 rfl rfl (fun _ e => e)
          · refine hp_cVS (M2 := M_Mo_hint) hm (at1 54 rfl) (as := [(.int x2)]) (rest := []) (z := 192) rfl (by exact trivial) (pc' := 438) rfl 33 rfl (lw_g (lw_at lw_m11 66 rfl) rfl) y_Mo_hint rfl (d2 := 11) ⟨by omega, pd_Mo_hint, le_b rfl⟩ (le_b rfl) og_192 (k_Mo_hint x2 p70) (fun _ h20 => ?_)
            exact hp_vr hm 30 rfl rfl (fun _ e => e)
noncomputable def f_Mo_makeGlyph : Nat → Int32 → Int32 → hH → Option (Unit × hH)
  | 0 => fun _ _ _ => none
  | n + 1 => fb_Mo_makeGlyph (f_Mo_makeGlyph n)
theorem k_Mo_makeGlyph : ∀ (n : Nat) (x1 : Int32) (x2 : Int32) (h : hH), hx_kS S0 M_Mo_makeGlyph (13 + 2 * n) NT [(.ref 192), (.int x1), (.int x2)] h (f_Mo_makeGlyph n x1 x2 h) cvU
  | 0, x1, x2, h => fun _ hx => by cases hx
  | n + 1, x1, x2, h => kb_Mo_makeGlyph n _ (k_Mo_makeGlyph n) x1 x2 h
/-! HintHouseModel.makeIt(I)I -/
def M_Mo_makeIt : hM := (11, ⟨"HintHouseModel", "makeIt", "(I)I"⟩, prog_13_method_105_code, 4, (Option.some Jvm.ClassFile.FieldType.int), [], [(0, [(.aload_n 0, 1, 0, 0, 0, .null), (.iconst 0, 1, 0, 0, 0, (.int (0 : Int32))), (.putfield 764, 3, 11, 108, 1, .null)]), (5, [(.aload_n 0, 1, 0, 0, 0, .null), (.iconst 0, 1, 0, 0, 0, (.int (0 : Int32))), (.putfield 409, 3, 11, 59, 0, .null)]), (10, [(.aload_n 0, 1, 0, 0, 0, .null), (.iconst 0, 1, 0, 0, 0, (.int (0 : Int32))), (.putfield 505, 3, 11, 58, 0, .null)]), (15, [(.aload_n 0, 1, 0, 0, 0, .null), (.iconst 0, 1, 0, 0, 0, (.int (0 : Int32))), (.putfield 807, 3, 11, 125, 0, .null)]), (20, [(.aload_n 0, 1, 0, 0, 0, .null), (.iload_n 1, 1, 0, 0, 0, .null), (.iconst 0, 1, 0, 0, 0, (.int (0 : Int32)))]), (26, [(.aload_n 0, 1, 0, 0, 0, .null), (.getfield 164, 3, 11, 124, 4, .null), (.iconst 0, 1, 0, 0, 0, (.int (0 : Int32))), (.iaload, 1, 0, 0, 0, .null), (.istore_n 2, 1, 0, 0, 0, .null)]), (33, [(.iconst 0, 1, 0, 0, 0, (.int (0 : Int32))), (.istore_n 3, 1, 0, 0, 0, .null)]), (35, [(.iload_n 3, 1, 0, 0, 0, .null), (.aload_n 0, 1, 0, 0, 0, .null), (.getfield 146, 3, 11, 118, 4, .null), (.iconst 0, 1, 0, 0, 0, (.int (0 : Int32))), (.iaload, 1, 0, 0, 0, .null)]), (45, [(.aload_n 0, 1, 0, 0, 0, .null), (.getfield 409, 3, 11, 59, 0, .null)]), (52, [(.aload_n 0, 1, 0, 0, 0, .null), (.getfield 167, 3, 11, 130, 4, .null), (.iload_n 3, 1, 0, 0, 0, .null), (.aload_n 0, 1, 0, 0, 0, .null), (.getfield 152, 3, 11, 120, 4, .null), (.iload_n 3, 1, 0, 0, 0, .null), (.iaload, 1, 0, 0, 0, .null), (.iload_n 2, 1, 0, 0, 0, .null), (.isub, 1, 0, 0, 0, .null), (.iastore, 1, 0, 0, 0, .null)]), (66, [(.aload_n 0, 1, 0, 0, 0, .null), (.getfield 170, 3, 11, 131, 4, .null), (.iload_n 3, 1, 0, 0, 0, .null), (.aload_n 0, 1, 0, 0, 0, .null), (.getfield 155, 3, 11, 121, 4, .null), (.iload_n 3, 1, 0, 0, 0, .null), (.iaload, 1, 0, 0, 0, .null), (.iastore, 1, 0, 0, 0, .null)]), (78, [(.aload_n 0, 1, 0, 0, 0, .null), (.getfield 173, 3, 11, 132, 4, .null), (.iload_n 3, 1, 0, 0, 0, .null), (.aload_n 0, 1, 0, 0, 0, .null), (.getfield 158, 3, 11, 122, 4, .null), (.iload_n 3, 1, 0, 0, 0, .null), (.baload, 1, 101, 0, 0, .null), (.bastore, 1, 101, 0, 0, .null)]), (90, [(.aload_n 0, 1, 0, 0, 0, .null), (.getfield 167, 3, 11, 130, 4, .null), (.iload_n 3, 1, 0, 0, 0, .null), (.iaload, 1, 0, 0, 0, .null), (.i2l, 1, 0, 0, 0, .null), (.ldc2_w 819, 3, 0, 0, 0, (.long (-4096 : Int64))), (.ldc2_w 821, 3, 0, 0, 0, (.long (4096 : Int64)))]), (109, [(.aload_n 0, 1, 0, 0, 0, .null), (.getfield 170, 3, 11, 131, 4, .null), (.iload_n 3, 1, 0, 0, 0, .null), (.iaload, 1, 0, 0, 0, .null), (.i2l, 1, 0, 0, 0, .null), (.ldc2_w 819, 3, 0, 0, 0, (.long (-4096 : Int64))), (.ldc2_w 821, 3, 0, 0, 0, (.long (4096 : Int64)))]), (128, [(.aload_n 0, 1, 0, 0, 0, .null), (.bipush 13, 2, 0, 0, 0, (.int (13 : Int32)))]), (134, [(.iinc 3 1, 3, 0, 0, 0, (.int (1 : Int32)))]), (140, [(.aload_n 0, 1, 0, 0, 0, .null), (.getfield 409, 3, 11, 59, 0, .null)]), (152, [(.aload_n 0, 1, 0, 0, 0, .null), (.aload_n 0, 1, 0, 0, 0, .null), (.getfield 146, 3, 11, 118, 4, .null), (.iconst 0, 1, 0, 0, 0, (.int (0 : Int32))), (.iaload, 1, 0, 0, 0, .null), (.putfield 823, 3, 11, 128, 0, .null)]), (162, [(.aload_n 0, 1, 0, 0, 0, .null), (.aload_n 0, 1, 0, 0, 0, .null), (.getfield 149, 3, 11, 119, 4, .null), (.iconst 0, 1, 0, 0, 0, (.int (0 : Int32))), (.iaload, 1, 0, 0, 0, .null), (.putfield 826, 3, 11, 129, 0, .null)]), (172, [(.iconst 0, 1, 0, 0, 0, (.int (0 : Int32))), (.istore_n 3, 1, 0, 0, 0, .null)]), (174, [(.iload_n 3, 1, 0, 0, 0, .null), (.aload_n 0, 1, 0, 0, 0, .null), (.getfield 826, 3, 11, 129, 0, .null)]), (182, [(.aload_n 0, 1, 0, 0, 0, .null), (.getfield 176, 3, 11, 133, 4, .null), (.iload_n 3, 1, 0, 0, 0, .null), (.aload_n 0, 1, 0, 0, 0, .null), (.getfield 161, 3, 11, 123, 4, .null), (.iload_n 3, 1, 0, 0, 0, .null), (.iaload, 1, 0, 0, 0, .null), (.iastore, 1, 0, 0, 0, .null)]), (194, [(.iinc 3 1, 3, 0, 0, 0, (.int (1 : Int32)))]), (200, [(.aload_n 0, 1, 0, 0, 0, .null), (.aload_n 0, 1, 0, 0, 0, .null), (.getfield 164, 3, 11, 124, 4, .null), (.iconst 2, 1, 0, 0, 0, (.int (2 : Int32))), (.iaload, 1, 0, 0, 0, .null), (.iload_n 2, 1, 0, 0, 0, .null), (.isub, 1, 0, 0, 0, .null), (.putfield 829, 3, 11, 134, 0, .null)]), (212, [(.aload_n 0, 1, 0, 0, 0, .null), (.iconst 1, 1, 0, 0, 0, (.int (1 : Int32))), (.putfield 764, 3, 11, 108, 1, .null)]), (217, [(.aload_n 0, 1, 0, 0, 0, .null), (.aload_n 0, 1, 0, 0, 0, .null), (.getfield 505, 3, 11, 58, 0, .null), (.putfield 756, 3, 11, 109, 0, .null)]), (225, [(.aload_n 0, 1, 0, 0, 0, .null), (.iconst 0, 1, 0, 0, 0, (.int (0 : Int32))), (.putfield 753, 3, 11, 111, 0, .null)]), (230, [(.aload_n 0, 1, 0, 0, 0, .null), (.iconst (-1), 1, 0, 0, 0, (.int (-1 : Int32))), (.putfield 127, 3, 11, 112, 0, .null)]), (235, [(.aload_n 0, 1, 0, 0, 0, .null), (.getfield 823, 3, 11, 128, 0, .null)]), (147, [(.aload_n 0, 1, 0, 0, 0, .null)])], [(23, .invokevirtual 810, 3), (49, .ifCond .ne 91, 3), (42, .if_icmp .ge 98, 3), (103, .invokestatic 263, 3), (122, .invokestatic 263, 3), (125, .ifCond .ne 9, 3), (106, .ifCond .eq 22, 3), (131, .invokevirtual 795, 3), (137, .goto (-102), 3), (197, .goto (-23), 3), (179, .if_icmp .ge 21, 3), (239, .ireturn, 1), (148, .invokevirtual 773, 3), (151, .ireturn, 1), (144, .ifCond .le 8, 3)])
set_option maxRecDepth 100000 in
theorem m_Mo_makeIt : hx_mok M_Mo_makeIt = true := by decide +kernel
theorem pd_Mo_makeIt : (parseMethodDescriptor M_Mo_makeIt.2.1.desc).map (fun q => q.parameters.length) = some 1 := by decide +kernel
theorem y_Mo_makeIt : hx_okV M_Mo_makeIt := ⟨⟨lw_g (lw_at lw_m10 239 rfl) rfl, lw_g (lw_at lw_m10 238 rfl) rfl, qs183, lw_g (lw_at lw_m1 12 rfl) rfl, rfl, by decide, by decide, by decide⟩, rfl, by decide, plainFor_of_name (by decide)⟩
noncomputable def f_Mo_makeIt (x1 : Int32) (h : hH) : Option (Int32 × hH) :=
  lz (wrI h 192 108 (0 : Int32)) fun h1 =>
  lz (wrI h1 192 59 (0 : Int32)) fun h2 =>
  lz (wrI h2 192 58 (0 : Int32)) fun h3 =>
  lz (wrI h3 192 125 (0 : Int32)) fun h4 =>
  bS (f_Mo_makeGlyph 6 x1 (0 : Int32) h4) fun _ h5 =>
  lz (A := Int32) (rdI h5 242 0) fun v1 =>
  bP (A := hH) (
    wh (A := (Int32 × hH)) (B := hH) (fun p2 =>
        if (¬ ((rdI p2.2 236 0) ≤ p2.1) ∧ (rdI p2.2 192 59) = 0) then (
          gd (vp_in p2.1 612 ∧ vp_in p2.1 100) <|
          lz (wrI p2.2 243 (Int32.toNatClampNeg p2.1) ((rdI p2.2 238 (Int32.toNatClampNeg p2.1)) - v1)) fun h6 =>
          gd (vp_in p2.1 612 ∧ vp_in p2.1 100) <|
          lz (wrI h6 244 (Int32.toNatClampNeg p2.1) (rdI h6 239 (Int32.toNatClampNeg p2.1))) fun h7 =>
          gd (vp_in p2.1 612 ∧ vp_in p2.1 100) <|
          lz (wrI h7 245 (Int32.toNatClampNeg p2.1) ((rdI h7 240 (Int32.toNatClampNeg p2.1)) &&& 1)) fun h8 =>
          gd (vp_in p2.1 100) <|
          bP (f_Mo_in (Int32.toInt64 (rdI h8 243 (Int32.toNatClampNeg p2.1))) (-4096 : Int64) (4096 : Int64)) fun a13 =>
          bP (A := hH) (
            cO (
              if a13 = 0 then (
                some true
              ) else (
                gd (vp_in p2.1 100) <|
                bP (f_Mo_in (Int32.toInt64 (rdI h8 244 (Int32.toNatClampNeg p2.1))) (-4096 : Int64) (4096 : Int64)) fun a16 =>
                if a16 = 0 then (
                  some true
                ) else (
                  some false
                )
              )
            ) (
              bS (f_Mo_failOutside (13 : Int32) h8) fun _ h9 =>
              some h9
            ) (
              some h8
            )
          ) fun p14 =>
          lz (A := Int32) (p2.1 + (1 : Int32)) fun v23 =>
          some (.inl (v23, p14))
        ) else (
          some (.inr p2.2)
        )
    ) ((0 : Int32), h5)
  ) fun p3 =>
  if (rdI p3 192 59) ≤ 0 then (
    lz (wrI p3 192 128 (rdI p3 236 0)) fun h10 =>
    lz (wrI h10 192 129 (rdI h10 237 0)) fun h11 =>
    bP (A := hH) (
      wh (A := (Int32 × hH)) (B := hH) (fun p24 =>
          if (rdI p24.2 192 129) ≤ p24.1 then (
            some (.inr p24.2)
          ) else (
            gd (vp_in p24.1 120 ∧ vp_in p24.1 20) <|
            lz (wrI p24.2 246 (Int32.toNatClampNeg p24.1) (rdI p24.2 241 (Int32.toNatClampNeg p24.1))) fun h12 =>
            lz (A := Int32) (p24.1 + (1 : Int32)) fun v27 =>
            some (.inl (v27, h12))
          )
      ) ((0 : Int32), h11)
    ) fun p25 =>
    lz (wrI p25 192 134 ((rdI p25 242 2) - v1)) fun h13 =>
    lz (wrI h13 192 108 (1 : Int32)) fun h14 =>
    lz (wrI h14 192 109 (rdI h14 192 58)) fun h15 =>
    lz (wrI h15 192 111 (0 : Int32)) fun h16 =>
    lz (wrI h16 192 112 (-1 : Int32)) fun h17 =>
    some ((rdI h17 192 128), h17)
  ) else (
    bS (f_Mo_failedNow p3) fun a29 h18 =>
    some (a29, h18)
  )
set_option maxRecDepth 20000 in
theorem k_Mo_makeIt (x1 : Int32) (h : hH) : hx_kS S0 M_Mo_makeIt 26 NT [(.ref 192), (.int x1)] h (f_Mo_makeIt x1 h) cvI := by
  have hm := m_Mo_makeIt
  show hx_P S0 M_Mo_makeIt 26 0 [(0, (.ref 192)), (1, (.int x1))] [] NT h (f_Mo_makeIt x1 h) (hx_Rc cvI NT)
  unfold f_Mo_makeIt
  refine hp_w hm (at1 0 rfl) (L' := [(0, (.ref 192)), (1, (.int x1))]) rfl (by exact ⟨og_192, (Or.inl rfl)⟩) (pc' := 5) rfl (fun h1 => ?_)
  refine hp_w hm (at1 1 rfl) (L' := [(0, (.ref 192)), (1, (.int x1))]) rfl (by exact og_192) (pc' := 10) rfl (fun h2 => ?_)
  refine hp_w hm (at1 2 rfl) (L' := [(0, (.ref 192)), (1, (.int x1))]) rfl (by exact og_192) (pc' := 15) rfl (fun h3 => ?_)
  refine hp_w hm (at1 3 rfl) (L' := [(0, (.ref 192)), (1, (.int x1))]) rfl (by exact og_192) (pc' := 20) rfl (fun h4 => ?_)
  refine hp_cVS (M2 := M_Mo_makeGlyph) hm (at1 4 rfl) (as := [(.int x1), (.int (0 : Int32))]) (rest := []) (z := 192) rfl (by exact trivial) (pc' := 23) rfl 0 rfl (lw_g (lw_at lw_m11 0 rfl) rfl) y_Mo_makeGlyph rfl (d2 := 25) ⟨le_b rfl, pd_Mo_makeGlyph, le_b rfl⟩ (le_b rfl) og_192 (k_Mo_makeGlyph 6 x1 (0 : Int32) h4) (fun _ h5 => ?_)
  refine hp_z hm (at1 5 rfl) (fun (v1 : Int32) => [(2, (.int v1)), (0, (.ref 192)), (1, (.int x1))]) (fun (v1 : Int32) => []) rfl (by exact ⟨og_192, ⟨og_242, (show vp_in (0 : Int32) 24 from vp_lit (by decide))⟩⟩) (pc' := 33) rfl (fun v1 => ?_)
  refine hp_b hm (at1 6 rfl) (L' := [(3, (.int (0 : Int32))), (2, (.int v1)), (0, (.ref 192)), (1, (.int x1))]) (st' := []) rfl (by exact trivial) (pc' := 35) rfl ?_
  refine hp_J 140 (fun (p3 : hH) => [(0, (.ref 192)), (2, (.int v1))]) (fun (p3 : hH) => []) (fun (p3 : hH) => p3) ?_ (fun p3 => ?_)
  · refine hp_s [2, 1, 0] rfl (L' := [(0, (.ref 192)), (2, (.int v1)), (3, (.int (0 : Int32)))]) ?_
    refine hp_wh (fun (p2 : (Int32 × hH)) => [(0, (.ref 192)), (2, (.int v1)), (3, (.int p2.1))]) [] (fun (p2 : (Int32 × hH)) => p2.2) (fun p2 => ?_) ((0 : Int32), h5)
    refine hp_cI (L0 := [(0, (.ref 192)), (2, (.int v1)), (3, (.int p2.1))]) (s0 := []) 52 140 ?_ (fun c8 => ?_) (fun c8 => ?_)
    · refine hp_nand ?_
      refine hp_ic_ge hm (at1 7 rfl) rfl (by exact ⟨og_192, ⟨og_236, (show vp_in (0 : Int32) 6 from vp_lit (by decide))⟩⟩) (pc' := 42) rfl 2 rfl (tgt := 140) rfl (fun c5 => ?_) (fun c5 => ?_)
      · exact hp_l0 (fun _ e => e)
      · refine hp_dec ?_
        refine hp_if_ne hm (at1 8 rfl) rfl (by exact og_192) (pc' := 49) rfl 1 rfl (tgt := 140) rfl (fun c4 => ?_) (fun c4 => ?_)
        · exact hp_l0 (fun _ e => e)
        · exact hp_l0 (fun _ e => e)
    · refine hp_GW hm (at1 9 rfl) (L' := [(0, (.ref 192)), (2, (.int v1)), (3, (.int p2.1))]) rfl (fun hP => (by exact ⟨⟨⟨og_192, og_192⟩, ⟨og_238, hP.1⟩⟩, ⟨og_243, hP.2⟩⟩)) (pc' := 66) rfl (fun q9 h6 => ?_)
      refine hp_GW hm (at1 10 rfl) (L' := [(0, (.ref 192)), (2, (.int v1)), (3, (.int p2.1))]) rfl (fun hP => (by exact ⟨⟨⟨og_192, og_192⟩, ⟨og_239, hP.1⟩⟩, ⟨og_244, hP.2⟩⟩)) (pc' := 78) rfl (fun q10 h7 => ?_)
      refine hp_GW hm (at1 11 rfl) (L' := [(0, (.ref 192)), (2, (.int v1)), (3, (.int p2.1))]) rfl (fun hP => (by exact ⟨⟨⟨og_192, og_192⟩, ⟨og_240, hP.1⟩⟩, ⟨og_245, hP.2⟩⟩)) (pc' := 90) rfl (fun q11 h8 => ?_)
      refine hp_G hm (at1 12 rfl) (L' := [(0, (.ref 192)), (2, (.int v1)), (3, (.int p2.1))]) (st' := [(.long (4096 : Int64)), (.long (-4096 : Int64)), (.long (Int32.toInt64 (rdI h8 243 (Int32.toNatClampNeg p2.1))))]) rfl (fun hP => (by exact ⟨og_192, ⟨og_243, hP⟩⟩)) (pc' := 103) rfl (fun q12 => ?_)
      refine hp_cSP (M2 := M_Mo_in) hm at0 (as := [(.long (Int32.toInt64 (rdI h8 243 (Int32.toNatClampNeg p2.1)))), (.long (-4096 : Int64)), (.long (4096 : Int64))]) (rest := []) rfl (by exact trivial) (pc' := 103) rfl 3 rfl (lw_g (lw_at lw_m9 184 rfl) rfl) y_Mo_in rfl (d2 := 1) ⟨le_b rfl, pd_Mo_in, le_b rfl⟩ (le_b rfl) (k_Mo_in (Int32.toInt64 (rdI h8 243 (Int32.toNatClampNeg p2.1))) (-4096 : Int64) (4096 : Int64) h8) (fun a13 => ?_)
      refine hp_J 134 (fun (p14 : hH) => [(0, (.ref 192)), (2, (.int v1)), (3, (.int p2.1))]) (fun (p14 : hH) => []) (fun (p14 : hH) => p14) ?_ (fun p14 => ?_)
      · refine hp_cO (L0 := [(0, (.ref 192)), (2, (.int v1)), (3, (.int p2.1))]) (s0 := []) 128 134 ?_ ?_ ?_
        · refine hp_if_eq hm at0 rfl (by exact trivial) (pc' := 106) rfl 6 rfl (tgt := 128) rfl (fun c18 => ?_) (fun c18 => ?_)
          · exact hp_l0 (fun _ e => e)
          · refine hp_G hm (at1 13 rfl) (L' := [(0, (.ref 192)), (2, (.int v1)), (3, (.int p2.1))]) (st' := [(.long (4096 : Int64)), (.long (-4096 : Int64)), (.long (Int32.toInt64 (rdI h8 244 (Int32.toNatClampNeg p2.1))))]) rfl (fun hP => (by exact ⟨og_192, ⟨og_244, hP⟩⟩)) (pc' := 122) rfl (fun q15 => ?_)
            refine hp_cSP (M2 := M_Mo_in) hm at0 (as := [(.long (Int32.toInt64 (rdI h8 244 (Int32.toNatClampNeg p2.1)))), (.long (-4096 : Int64)), (.long (4096 : Int64))]) (rest := []) rfl (by exact trivial) (pc' := 122) rfl 4 rfl (lw_g (lw_at lw_m9 184 rfl) rfl) y_Mo_in rfl (d2 := 1) ⟨le_b rfl, pd_Mo_in, le_b rfl⟩ (le_b rfl) (k_Mo_in (Int32.toInt64 (rdI h8 244 (Int32.toNatClampNeg p2.1))) (-4096 : Int64) (4096 : Int64) h8) (fun a16 => ?_)
            refine hp_if_ne hm at0 rfl (by exact trivial) (pc' := 125) rfl 5 rfl (tgt := 134) rfl (fun c17 => ?_) (fun c17 => ?_)
            · exact hp_l0 (fun _ e => e)
            · exact hp_l0 (fun _ e => e)
        · refine hp_cVS (M2 := M_Mo_failOutside) hm (at1 14 rfl) (as := [(.int (13 : Int32))]) (rest := []) (z := 192) rfl (by exact trivial) (pc' := 131) rfl 7 rfl (lw_g (lw_at lw_m11 56 rfl) rfl) y_Mo_failOutside rfl (d2 := 1) ⟨le_b rfl, pd_Mo_failOutside, le_b rfl⟩ (le_b rfl) og_192 (k_Mo_failOutside (13 : Int32) h8) (fun _ h9 => ?_)
          exact hp_lf [0, 1, 2] rfl (fun _ e => e)
        · exact hp_lf [0, 1, 2] rfl (fun _ e => e)
      · refine hp_z hm (at1 15 rfl) (fun (v23 : Int32) => [(3, (.int v23)), (0, (.ref 192)), (2, (.int v1))]) (fun (v23 : Int32) => []) rfl (by exact trivial) (pc' := 137) rfl (fun v23 => ?_)
        refine hp_goto hm 8 rfl (tgt := 35) rfl ?_
        exact hp_lf [1, 2, 0] rfl (fun _ e => e)
    · exact hp_lf [0, 1] rfl (fun _ e => e)
  · refine hp_if_le hm (at1 16 rfl) rfl (by exact og_192) (pc' := 144) rfl 14 rfl (tgt := 152) rfl (fun c30 => ?_) (fun c30 => ?_)
    · refine hp_w hm (at1 17 rfl) (L' := [(0, (.ref 192)), (2, (.int v1))]) rfl (by exact ⟨⟨og_192, ⟨og_236, (show vp_in (0 : Int32) 6 from vp_lit (by decide))⟩⟩, og_192⟩) (pc' := 162) rfl (fun h10 => ?_)
      refine hp_w hm (at1 18 rfl) (L' := [(0, (.ref 192)), (2, (.int v1))]) rfl (by exact ⟨⟨og_192, ⟨og_237, (show vp_in (0 : Int32) 6 from vp_lit (by decide))⟩⟩, og_192⟩) (pc' := 172) rfl (fun h11 => ?_)
      refine hp_b hm (at1 19 rfl) (L' := [(3, (.int (0 : Int32))), (0, (.ref 192)), (2, (.int v1))]) (st' := []) rfl (by exact trivial) (pc' := 174) rfl ?_
      refine hp_J 200 (fun (p25 : hH) => [(0, (.ref 192)), (2, (.int v1))]) (fun (p25 : hH) => []) (fun (p25 : hH) => p25) ?_ (fun p25 => ?_)
      · refine hp_s [1, 2, 0] rfl (L' := [(0, (.ref 192)), (2, (.int v1)), (3, (.int (0 : Int32)))]) ?_
        refine hp_wh (fun (p24 : (Int32 × hH)) => [(0, (.ref 192)), (2, (.int v1)), (3, (.int p24.1))]) [] (fun (p24 : (Int32 × hH)) => p24.2) (fun p24 => ?_) ((0 : Int32), h11)
        refine hp_ic_ge hm (at1 20 rfl) rfl (by exact og_192) (pc' := 179) rfl 10 rfl (tgt := 200) rfl (fun c28 => ?_) (fun c28 => ?_)
        · exact hp_lf [0, 1] rfl (fun _ e => e)
        · refine hp_GW hm (at1 21 rfl) (L' := [(0, (.ref 192)), (2, (.int v1)), (3, (.int p24.1))]) rfl (fun hP => (by exact ⟨⟨⟨og_192, og_192⟩, ⟨og_241, hP.1⟩⟩, ⟨og_246, hP.2⟩⟩)) (pc' := 194) rfl (fun q26 h12 => ?_)
          refine hp_z hm (at1 22 rfl) (fun (v27 : Int32) => [(3, (.int v27)), (0, (.ref 192)), (2, (.int v1))]) (fun (v27 : Int32) => []) rfl (by exact trivial) (pc' := 197) rfl (fun v27 => ?_)
          refine hp_goto hm 9 rfl (tgt := 174) rfl ?_
          exact hp_lf [1, 2, 0] rfl (fun _ e => e)
      · refine hp_w hm (at1 23 rfl) (L' := [(0, (.ref 192)), (2, (.int v1))]) rfl (by exact ⟨⟨og_192, ⟨og_242, (show vp_in (2 : Int32) 24 from vp_lit (by decide))⟩⟩, og_192⟩) (pc' := 212) rfl (fun h13 => ?_)
        refine hp_w hm (at1 24 rfl) (L' := [(0, (.ref 192)), (2, (.int v1))]) rfl (by exact ⟨og_192, (Or.inr rfl)⟩) (pc' := 217) rfl (fun h14 => ?_)
        refine hp_w hm (at1 25 rfl) (L' := [(0, (.ref 192)), (2, (.int v1))]) rfl (by exact ⟨og_192, og_192⟩) (pc' := 225) rfl (fun h15 => ?_)
        refine hp_w hm (at1 26 rfl) (L' := [(0, (.ref 192)), (2, (.int v1))]) rfl (by exact og_192) (pc' := 230) rfl (fun h16 => ?_)
        refine hp_w hm (at1 27 rfl) (L' := [(0, (.ref 192)), (2, (.int v1))]) rfl (by exact og_192) (pc' := 235) rfl (fun h17 => ?_)
        exact hp_ir hm (at1 28 rfl) rfl (by exact og_192) (pc' := 239) rfl 11 rfl rfl (vp_nar_int _) (fun _ e => e)
    · refine hp_cVS (M2 := M_Mo_failedNow) hm (at1 29 rfl) (as := []) (rest := []) (z := 192) rfl (by exact trivial) (pc' := 148) rfl 12 rfl (lw_g (lw_at lw_m10 224 rfl) rfl) y_Mo_failedNow rfl (d2 := 1) ⟨le_b rfl, pd_Mo_failedNow, le_b rfl⟩ (le_b rfl) og_192 (k_Mo_failedNow p3) (fun a29 h18 => ?_)
      exact hp_ir hm at0 rfl (by exact trivial) (pc' := 151) rfl 13 rfl rfl (vp_nar_int _) (fun _ e => e)
/-! HintHouseModel.make(I)I -/
def M_Mo_make : hM := (11, ⟨"HintHouseModel", "make", "(I)I"⟩, prog_13_method_106_code, 2, (Option.some Jvm.ClassFile.FieldType.int), [], [(0, [(.aload_n 0, 1, 0, 0, 0, .null), (.getfield 759, 3, 11, 4, 1, .null)]), (14, [(.bipush (-3), 2, 0, 0, 0, (.int (-3 : Int32)))]), (7, [(.aload_n 0, 1, 0, 0, 0, .null), (.getfield 767, 3, 11, 107, 1, .null)]), (17, [(.iload_n 1, 1, 0, 0, 0, .null), (.i2l, 1, 0, 0, 0, .null), (.lconst 0, 1, 0, 0, 0, (.long (0 : Int64))), (.aload_n 0, 1, 0, 0, 0, .null), (.getfield 260, 3, 11, 12, 0, .null), (.iconst 1, 1, 0, 0, 0, (.int (1 : Int32))), (.isub, 1, 0, 0, 0, .null), (.i2l, 1, 0, 0, 0, .null)]), (41, [(.iconst (-1), 1, 0, 0, 0, (.int (-1 : Int32)))]), (33, [(.aload_n 0, 1, 0, 0, 0, .null), (.iload_n 1, 1, 0, 0, 0, .null)])], [(16, .ireturn, 1), (27, .invokestatic 263, 3), (42, .ireturn, 1), (35, .invokevirtual 832, 3), (38, .goto 4, 3), (30, .ifCond .eq 11, 3), (11, .ifCond .ne 6, 3), (4, .ifCond .eq 10, 3)])
set_option maxRecDepth 100000 in
theorem m_Mo_make : hx_mok M_Mo_make = true := by decide +kernel
theorem pd_Mo_make : (parseMethodDescriptor M_Mo_make.2.1.desc).map (fun q => q.parameters.length) = some 1 := by decide +kernel
theorem y_Mo_make : hx_okV M_Mo_make := ⟨⟨lw_g (lw_at lw_m10 235 rfl) rfl, lw_g (lw_at lw_m10 233 rfl) rfl, lw_g (lw_at lw_m10 234 rfl) rfl, lw_g (lw_at lw_m1 12 rfl) rfl, rfl, by decide, by decide, by decide⟩, rfl, by decide, plainFor_of_name (by decide)⟩
noncomputable def f_Mo_make (x1 : Int32) (h : hH) : Option (Int32 × hH) :=
  if (rdI h 192 4) = 0 then (
    some ((-3 : Int32), h)
  ) else (
    if (rdI h 192 107) = 0 then (
      some ((-3 : Int32), h)
    ) else (
      bP (f_Mo_in (Int32.toInt64 x1) (0 : Int64) (Int32.toInt64 ((rdI h 192 12) - (1 : Int32)))) fun a1 =>
      if a1 = 0 then (
        some ((-1 : Int32), h)
      ) else (
        bS (f_Mo_makeIt x1 h) fun a2 h1 =>
        some (a2, h1)
      )
    )
  )
set_option maxRecDepth 20000 in
theorem k_Mo_make (x1 : Int32) (h : hH) : hx_kS S0 M_Mo_make 27 NT [(.ref 192), (.int x1)] h (f_Mo_make x1 h) cvI := by
  have hm := m_Mo_make
  show hx_P S0 M_Mo_make 27 0 [(0, (.ref 192)), (1, (.int x1))] [] NT h (f_Mo_make x1 h) (hx_Rc cvI NT)
  unfold f_Mo_make
  refine hp_if_eq hm (at1 0 rfl) rfl (by exact og_192) (pc' := 4) rfl 7 rfl (tgt := 14) rfl (fun c5 => ?_) (fun c5 => ?_)
  · exact hp_ir hm (at1 1 rfl) rfl (by exact trivial) (pc' := 16) rfl 0 rfl rfl (vp_nar_int _) (fun _ e => e)
  · refine hp_if_ne hm (at1 2 rfl) rfl (by exact og_192) (pc' := 11) rfl 6 rfl (tgt := 17) rfl (fun c4 => ?_) (fun c4 => ?_)
    · refine hp_cSP (M2 := M_Mo_in) hm (at1 3 rfl) (as := [(.long (Int32.toInt64 x1)), (.long (0 : Int64)), (.long (Int32.toInt64 ((rdI h 192 12) - (1 : Int32))))]) (rest := []) rfl (by exact og_192) (pc' := 27) rfl 1 rfl (lw_g (lw_at lw_m9 184 rfl) rfl) y_Mo_in rfl (d2 := 1) ⟨le_b rfl, pd_Mo_in, le_b rfl⟩ (le_b rfl) (k_Mo_in (Int32.toInt64 x1) (0 : Int64) (Int32.toInt64 ((rdI h 192 12) - (1 : Int32))) h) (fun a1 => ?_)
      refine hp_if_eq hm at0 rfl (by exact trivial) (pc' := 30) rfl 5 rfl (tgt := 41) rfl (fun c3 => ?_) (fun c3 => ?_)
      · refine hp_b hm (at1 4 rfl) (L' := [(0, (.ref 192)), (1, (.int x1))]) (st' := [(.int (-1 : Int32))]) rfl (by exact trivial) (pc' := 42) rfl ?_
        exact hp_ir hm at0 rfl (by exact trivial) (pc' := 42) rfl 2 rfl rfl (vp_nar_int _) (fun _ e => e)
      · refine hp_cVS (M2 := M_Mo_makeIt) hm (at1 5 rfl) (as := [(.int x1)]) (rest := []) (z := 192) rfl (by exact trivial) (pc' := 35) rfl 3 rfl (lw_g (lw_at lw_m10 236 rfl) rfl) y_Mo_makeIt rfl (d2 := 26) ⟨le_b rfl, pd_Mo_makeIt, le_b rfl⟩ (le_b rfl) og_192 (k_Mo_makeIt x1 h) (fun a2 h1 => ?_)
        refine hp_goto hm 4 rfl (tgt := 42) rfl ?_
        exact hp_ir hm at0 rfl (by exact trivial) (pc' := 42) rfl 2 rfl rfl (vp_nar_int _) (fun _ e => e)
    · exact hp_ir hm (at1 1 rfl) rfl (by exact trivial) (pc' := 16) rfl 0 rfl rfl (vp_nar_int _) (fun _ e => e)
/-! HintHouseModel.node(IIZ)V -/
def M_Mo_node : hM := (11, ⟨"HintHouseModel", "node", "(IIZ)V"⟩, prog_13_method_107_code, 4, (Option.none : Option Jvm.ClassFile.FieldType), [], [(0, [(.aload_n 0, 1, 0, 0, 0, .null), (.getfield 179, 3, 11, 136, 4, .null), (.aload_n 0, 1, 0, 0, 0, .null), (.getfield 835, 3, 11, 135, 0, .null), (.iload_n 1, 1, 0, 0, 0, .null), (.iastore, 1, 0, 0, 0, .null)]), (10, [(.aload_n 0, 1, 0, 0, 0, .null), (.getfield 182, 3, 11, 137, 4, .null), (.aload_n 0, 1, 0, 0, 0, .null), (.getfield 835, 3, 11, 135, 0, .null), (.iload_n 2, 1, 0, 0, 0, .null), (.iastore, 1, 0, 0, 0, .null)]), (20, [(.aload_n 0, 1, 0, 0, 0, .null), (.getfield 185, 3, 11, 138, 4, .null), (.aload_n 0, 1, 0, 0, 0, .null), (.getfield 835, 3, 11, 135, 0, .null), (.iload_n 3, 1, 0, 0, 0, .null), (.bastore, 1, 101, 0, 0, .null)]), (30, [(.aload_n 0, 1, 0, 0, 0, .null), (.dup, 1, 0, 0, 0, .null), (.getfield 835, 3, 11, 135, 0, .null), (.iconst 1, 1, 0, 0, 0, (.int (1 : Int32))), (.iadd, 1, 0, 0, 0, .null), (.putfield 835, 3, 11, 135, 0, .null)])], [(40, .return_, 1)])
set_option maxRecDepth 100000 in
theorem m_Mo_node : hx_mok M_Mo_node = true := by decide +kernel
theorem pd_Mo_node : (parseMethodDescriptor M_Mo_node.2.1.desc).map (fun q => q.parameters.length) = some 3 := by decide +kernel
theorem y_Mo_node : hx_okV M_Mo_node := ⟨⟨lw_g (lw_at lw_m11 93 rfl) rfl, lw_g (lw_at lw_m11 92 rfl) rfl, qs202, lw_g (lw_at lw_m1 12 rfl) rfl, rfl, by decide, by decide, by decide⟩, rfl, by decide, plainFor_of_name (by decide)⟩
noncomputable def f_Mo_node (x1 : Int32) (x2 : Int32) (x3 : Int32) (h : hH) : Option (Unit × hH) :=
  gd (vp_in (rdI h 192 135) 220) <|
  lz (wrI h 247 (Int32.toNatClampNeg (rdI h 192 135)) x1) fun h1 =>
  gd (vp_in (rdI h1 192 135) 220) <|
  lz (wrI h1 248 (Int32.toNatClampNeg (rdI h1 192 135)) x2) fun h2 =>
  gd (vp_in (rdI h2 192 135) 220) <|
  lz (wrI h2 249 (Int32.toNatClampNeg (rdI h2 192 135)) (x3 &&& 1)) fun h3 =>
  lz (wrI h3 192 135 ((rdI h3 192 135) + (1 : Int32))) fun h4 =>
  some ((), h4)
set_option maxRecDepth 20000 in
theorem k_Mo_node (x1 : Int32) (x2 : Int32) (x3 : Int32) (h : hH) : hx_kS S0 M_Mo_node 1 NT [(.ref 192), (.int x1), (.int x2), (.int x3)] h (f_Mo_node x1 x2 x3 h) cvU := by
  have hm := m_Mo_node
  show hx_P S0 M_Mo_node 1 0 [(0, (.ref 192)), (1, (.int x1)), (2, (.int x2)), (3, (.int x3))] [] NT h (f_Mo_node x1 x2 x3 h) (hx_Rc cvU NT)
  unfold f_Mo_node
  refine hp_GW hm (at1 0 rfl) (L' := [(0, (.ref 192)), (1, (.int x1)), (2, (.int x2)), (3, (.int x3))]) rfl (fun hP => (by exact ⟨⟨og_192, og_192⟩, ⟨og_247, hP⟩⟩)) (pc' := 10) rfl (fun q1 h1 => ?_)
  refine hp_GW hm (at1 1 rfl) (L' := [(0, (.ref 192)), (1, (.int x1)), (2, (.int x2)), (3, (.int x3))]) rfl (fun hP => (by exact ⟨⟨og_192, og_192⟩, ⟨og_248, hP⟩⟩)) (pc' := 20) rfl (fun q2 h2 => ?_)
  refine hp_GW hm (at1 2 rfl) (L' := [(0, (.ref 192)), (1, (.int x1)), (2, (.int x2)), (3, (.int x3))]) rfl (fun hP => (by exact ⟨⟨og_192, og_192⟩, ⟨og_249, hP⟩⟩)) (pc' := 30) rfl (fun q3 h3 => ?_)
  refine hp_w hm (at1 3 rfl) (L' := [(0, (.ref 192)), (1, (.int x1)), (2, (.int x2)), (3, (.int x3))]) rfl (by exact ⟨og_192, og_192⟩) (pc' := 40) rfl (fun h4 => ?_)
  exact hp_vr hm 0 rfl rfl (fun _ e => e)
/-! HintHouseModel.cross(JJJJ)J -/
def M_Mo_cross : hM := (11, ⟨"HintHouseModel", "cross", "(JJJJ)J"⟩, prog_13_method_108_code, 8, (Option.some Jvm.ClassFile.FieldType.long), [], [(0, [(.lload_n 0, 1, 0, 0, 0, .null), (.lload 6, 2, 0, 0, 0, .null), (.lmul, 1, 0, 0, 0, .null), (.lload_n 2, 1, 0, 0, 0, .null), (.lload 4, 2, 0, 0, 0, .null), (.lmul, 1, 0, 0, 0, .null), (.lsub, 1, 0, 0, 0, .null)])], [(9, .lreturn, 1)])
set_option maxRecDepth 100000 in
theorem m_Mo_cross : hx_mok M_Mo_cross = true := by decide +kernel
theorem pd_Mo_cross : (parseMethodDescriptor M_Mo_cross.2.1.desc).map (fun q => q.parameters.length) = some 4 := by decide +kernel
theorem y_Mo_cross : hx_okS M_Mo_cross := ⟨⟨lw_g (lw_at lw_m11 100 rfl) rfl, lw_g (lw_at lw_m11 99 rfl) rfl, lw_g (lw_at lw_m1 12 rfl) rfl, by decide, by decide⟩, rfl, by decide, plainFor_of_name (by decide), rfl⟩
noncomputable def f_Mo_cross (x1 : Int64) (x2 : Int64) (x3 : Int64) (x4 : Int64) : Option Int64 :=
  some ((x1 * x4) - (x2 * x3))
set_option maxRecDepth 20000 in
theorem k_Mo_cross (x1 : Int64) (x2 : Int64) (x3 : Int64) (x4 : Int64) (h : hH) : hx_kP S0 M_Mo_cross 1 NT [(.long x1), (.long x2), (.long x3), (.long x4)] h (f_Mo_cross x1 x2 x3 x4) cvL := by
  have hm := m_Mo_cross
  show hx_P S0 M_Mo_cross 1 0 [(0, (.long x1)), (2, (.long x2)), (4, (.long x3)), (6, (.long x4))] [] NT h (f_Mo_cross x1 x2 x3 x4) (hx_Rp cvL NT h)
  unfold f_Mo_cross
  exact hp_lr hm (at1 0 rfl) rfl (by exact trivial) (pc' := 9) rfl 0 rfl rfl (fun _ e => e)
/-! HintHouseModel.between0(JJ)Z -/
def M_Mo_between0 : hM := (11, ⟨"HintHouseModel", "between0", "(JJ)Z"⟩, prog_13_method_109_code, 4, (Option.some Jvm.ClassFile.FieldType.boolean), [], [(0, [(.lload_n 0, 1, 0, 0, 0, .null), (.lconst 0, 1, 0, 0, 0, (.long (0 : Int64))), (.lcmp, 1, 0, 0, 0, .null)]), (6, [(.lload_n 2, 1, 0, 0, 0, .null), (.lconst 0, 1, 0, 0, 0, (.long (0 : Int64))), (.lcmp, 1, 0, 0, 0, .null)]), (12, [(.lload_n 0, 1, 0, 0, 0, .null), (.lconst 0, 1, 0, 0, 0, (.long (0 : Int64))), (.lcmp, 1, 0, 0, 0, .null)]), (28, [(.iconst 0, 1, 0, 0, 0, (.int (0 : Int32)))]), (18, [(.lload_n 2, 1, 0, 0, 0, .null), (.lconst 0, 1, 0, 0, 0, (.long (0 : Int64))), (.lcmp, 1, 0, 0, 0, .null)]), (24, [(.iconst 1, 1, 0, 0, 0, (.int (1 : Int32)))])], [(9, .ifCond .ge 15, 3), (3, .ifCond .gt 9, 3), (29, .ireturn, 1), (25, .goto 4, 3), (21, .ifCond .gt 7, 3), (15, .ifCond .lt 13, 3)])
set_option maxRecDepth 100000 in
theorem m_Mo_between0 : hx_mok M_Mo_between0 = true := by decide +kernel
theorem pd_Mo_between0 : (parseMethodDescriptor M_Mo_between0.2.1.desc).map (fun q => q.parameters.length) = some 2 := by decide +kernel
theorem y_Mo_between0 : hx_okS M_Mo_between0 := ⟨⟨lw_g (lw_at lw_m11 103 rfl) rfl, lw_g (lw_at lw_m11 102 rfl) rfl, lw_g (lw_at lw_m1 12 rfl) rfl, by decide, by decide⟩, rfl, by decide, plainFor_of_name (by decide), rfl⟩
noncomputable def f_Mo_between0 (x1 : Int64) (x2 : Int64) : Option Int32 :=
  if ((0 : Int64) < x1 ∨ ¬ ((0 : Int64) ≤ x2)) then (
    if x1 < (0 : Int64) then (
      some (0 : Int32)
    ) else (
      if (0 : Int64) < x2 then (
        some (0 : Int32)
      ) else (
        some (1 : Int32)
      )
    )
  ) else (
    some (1 : Int32)
  )
set_option maxRecDepth 20000 in
theorem k_Mo_between0 (x1 : Int64) (x2 : Int64) (h : hH) : hx_kP S0 M_Mo_between0 1 NT [(.long x1), (.long x2)] h (f_Mo_between0 x1 x2) cvI := by
  have hm := m_Mo_between0
  show hx_P S0 M_Mo_between0 1 0 [(0, (.long x1)), (2, (.long x2))] [] NT h (f_Mo_between0 x1 x2) (hx_Rp cvI NT h)
  unfold f_Mo_between0
  refine hp_cI (L0 := [(0, (.long x1)), (2, (.long x2))]) (s0 := []) 12 24 ?_ (fun c5 => ?_) (fun c5 => ?_)
  · refine hp_or ?_
    refine hp_lc_gt hm (at1 0 rfl) rfl (by exact trivial) (pc' := 3) rfl 1 rfl (tgt := 12) rfl (fun c2 => ?_) (fun c2 => ?_)
    · exact hp_l0 (fun _ e => e)
    · refine hp_decn ?_
      refine hp_lc_ge hm (at1 1 rfl) rfl (by exact trivial) (pc' := 9) rfl 0 rfl (tgt := 24) rfl (fun c1 => ?_) (fun c1 => ?_)
      · exact hp_l0 (fun _ e => e)
      · exact hp_l0 (fun _ e => e)
  · refine hp_lc_lt hm (at1 2 rfl) rfl (by exact trivial) (pc' := 15) rfl 5 rfl (tgt := 28) rfl (fun c7 => ?_) (fun c7 => ?_)
    · refine hp_b hm (at1 3 rfl) (L' := [(0, (.long x1)), (2, (.long x2))]) (st' := [(.int (0 : Int32))]) rfl (by exact trivial) (pc' := 29) rfl ?_
      exact hp_ir hm at0 rfl (by exact trivial) (pc' := 29) rfl 2 rfl rfl rfl (fun _ e => e)
    · refine hp_lc_gt hm (at1 4 rfl) rfl (by exact trivial) (pc' := 21) rfl 4 rfl (tgt := 28) rfl (fun c6 => ?_) (fun c6 => ?_)
      · refine hp_b hm (at1 3 rfl) (L' := [(0, (.long x1)), (2, (.long x2))]) (st' := [(.int (0 : Int32))]) rfl (by exact trivial) (pc' := 29) rfl ?_
        exact hp_ir hm at0 rfl (by exact trivial) (pc' := 29) rfl 2 rfl rfl rfl (fun _ e => e)
      · refine hp_b hm (at1 5 rfl) (L' := [(0, (.long x1)), (2, (.long x2))]) (st' := [(.int (1 : Int32))]) rfl (by exact trivial) (pc' := 25) rfl ?_
        refine hp_goto hm 3 rfl (tgt := 29) rfl ?_
        exact hp_ir hm at0 rfl (by exact trivial) (pc' := 29) rfl 2 rfl rfl rfl (fun _ e => e)
  · refine hp_b hm (at1 5 rfl) (L' := [(0, (.long x1)), (2, (.long x2))]) (st' := [(.int (1 : Int32))]) rfl (by exact trivial) (pc' := 25) rfl ?_
    refine hp_goto hm 3 rfl (tgt := 29) rfl ?_
    exact hp_ir hm at0 rfl (by exact trivial) (pc' := 29) rfl 2 rfl rfl rfl (fun _ e => e)
/-! HintHouseModel.straight(JJJJ)V -/
def M_Mo_straight : hM := (11, ⟨"HintHouseModel", "straight", "(JJJJ)V"⟩, prog_13_method_110_code, 11, (Option.none : Option Jvm.ClassFile.FieldType), [], [(0, [(.lload_n 1, 1, 0, 0, 0, .null), (.lload_n 3, 1, 0, 0, 0, .null), (.lload 5, 2, 0, 0, 0, .null), (.lload 7, 2, 0, 0, 0, .null)]), (9, [(.lstore 9, 2, 0, 0, 0, .null), (.lload 9, 2, 0, 0, 0, .null), (.lconst 0, 1, 0, 0, 0, (.long (0 : Int64))), (.lcmp, 1, 0, 0, 0, .null)]), (18, [(.lload_n 1, 1, 0, 0, 0, .null), (.lload 5, 2, 0, 0, 0, .null)]), (27, [(.lload_n 3, 1, 0, 0, 0, .null), (.lload 7, 2, 0, 0, 0, .null)]), (36, [(.aload_n 0, 1, 0, 0, 0, .null), (.iconst 1, 1, 0, 0, 0, (.int (1 : Int32))), (.putfield 846, 3, 11, 140, 1, .null)]), (41, [(.lload_n 3, 1, 0, 0, 0, .null), (.lconst 0, 1, 0, 0, 0, (.long (0 : Int64))), (.lcmp, 1, 0, 0, 0, .null)]), (47, [(.lload 7, 2, 0, 0, 0, .null), (.lconst 0, 1, 0, 0, 0, (.long (0 : Int64))), (.lcmp, 1, 0, 0, 0, .null)]), (54, [(.lload 9, 2, 0, 0, 0, .null), (.lconst 0, 1, 0, 0, 0, (.long (0 : Int64))), (.lcmp, 1, 0, 0, 0, .null)]), (61, [(.aload_n 0, 1, 0, 0, 0, .null), (.dup, 1, 0, 0, 0, .null), (.getfield 849, 3, 11, 139, 0, .null), (.iconst 1, 1, 0, 0, 0, (.int (1 : Int32))), (.iadd, 1, 0, 0, 0, .null), (.putfield 849, 3, 11, 139, 0, .null)]), (74, [(.lload_n 3, 1, 0, 0, 0, .null), (.lconst 0, 1, 0, 0, 0, (.long (0 : Int64))), (.lcmp, 1, 0, 0, 0, .null)]), (80, [(.lload 7, 2, 0, 0, 0, .null), (.lconst 0, 1, 0, 0, 0, (.long (0 : Int64))), (.lcmp, 1, 0, 0, 0, .null)]), (87, [(.lload 9, 2, 0, 0, 0, .null), (.lconst 0, 1, 0, 0, 0, (.long (0 : Int64))), (.lcmp, 1, 0, 0, 0, .null)]), (94, [(.aload_n 0, 1, 0, 0, 0, .null), (.dup, 1, 0, 0, 0, .null), (.getfield 849, 3, 11, 139, 0, .null), (.iconst 1, 1, 0, 0, 0, (.int (1 : Int32))), (.isub, 1, 0, 0, 0, .null), (.putfield 849, 3, 11, 139, 0, .null)])], [(6, .invokestatic 838, 3), (21, .invokestatic 842, 3), (30, .invokestatic 842, 3), (33, .ifCond .eq 8, 3), (24, .ifCond .eq 17, 3), (15, .ifCond .ne 26, 3), (58, .ifCond .le 16, 3), (51, .ifCond .le 23, 3), (44, .ifCond .gt 30, 3), (104, .return_, 1), (71, .goto 33, 3), (91, .ifCond .ge 13, 3), (84, .ifCond .gt 20, 3), (77, .ifCond .le 27, 3)])
set_option maxRecDepth 100000 in
theorem m_Mo_straight : hx_mok M_Mo_straight = true := by decide +kernel
theorem pd_Mo_straight : (parseMethodDescriptor M_Mo_straight.2.1.desc).map (fun q => q.parameters.length) = some 4 := by decide +kernel
theorem y_Mo_straight : hx_okV M_Mo_straight := ⟨⟨lw_g (lw_at lw_m11 97 rfl) rfl, lw_g (lw_at lw_m11 96 rfl) rfl, qs203, lw_g (lw_at lw_m1 12 rfl) rfl, rfl, by decide, by decide, by decide⟩, rfl, by decide, plainFor_of_name (by decide)⟩
noncomputable def f_Mo_straight (x1 : Int64) (x2 : Int64) (x3 : Int64) (x4 : Int64) (h : hH) : Option (Unit × hH) :=
  bP (f_Mo_cross x1 x2 x3 x4) fun a1 =>
  bP (A := hH) (
    cO (
      if a1 = (0 : Int64) then (
        bP (f_Mo_between0 x1 x3) fun a3 =>
        cO (
          if a3 = 0 then (
            some false
          ) else (
            bP (f_Mo_between0 x2 x4) fun a4 =>
            if a4 = 0 then (
              some false
            ) else (
              some true
            )
          )
        ) (
          some true
        ) (
          some false
        )
      ) else (
        some false
      )
    ) (
      lz (wrI h 192 140 (1 : Int32)) fun h1 =>
      some h1
    ) (
      some h
    )
  ) fun p2 =>
  cO (
    if (0 : Int64) < x2 then (
      some false
    ) else (
      if (x4 ≤ (0 : Int64) ∨ a1 ≤ (0 : Int64)) then (
        some false
      ) else (
        some true
      )
    )
  ) (
    lz (wrI p2 192 139 ((rdI p2 192 139) + (1 : Int32))) fun h2 =>
    some ((), h2)
  ) (
    if x2 ≤ (0 : Int64) then (
      some ((), p2)
    ) else (
      if (0 : Int64) < x4 then (
        some ((), p2)
      ) else (
        if (0 : Int64) ≤ a1 then (
          some ((), p2)
        ) else (
          lz (wrI p2 192 139 ((rdI p2 192 139) - (1 : Int32))) fun h3 =>
          some ((), h3)
        )
      )
    )
  )
set_option maxRecDepth 20000 in
theorem k_Mo_straight (x1 : Int64) (x2 : Int64) (x3 : Int64) (x4 : Int64) (h : hH) : hx_kS S0 M_Mo_straight 2 NT [(.ref 192), (.long x1), (.long x2), (.long x3), (.long x4)] h (f_Mo_straight x1 x2 x3 x4 h) cvU := by
  have hm := m_Mo_straight
  show hx_P S0 M_Mo_straight 2 0 [(0, (.ref 192)), (1, (.long x1)), (3, (.long x2)), (5, (.long x3)), (7, (.long x4))] [] NT h (f_Mo_straight x1 x2 x3 x4 h) (hx_Rc cvU NT)
  unfold f_Mo_straight
  refine hp_cSP (M2 := M_Mo_cross) hm (at1 0 rfl) (as := [(.long x1), (.long x2), (.long x3), (.long x4)]) (rest := []) rfl (by exact trivial) (pc' := 6) rfl 0 rfl (lw_g (lw_at lw_m11 98 rfl) rfl) y_Mo_cross rfl (d2 := 1) ⟨le_b rfl, pd_Mo_cross, le_b rfl⟩ (le_b rfl) (k_Mo_cross x1 x2 x3 x4 h) (fun a1 => ?_)
  refine hp_b hm (at1 1 rfl) (L' := [(9, (.long a1)), (0, (.ref 192)), (1, (.long x1)), (3, (.long x2)), (5, (.long x3)), (7, (.long x4))]) (st' := [(.int (lg_cmp a1 (0 : Int64)))]) rfl (by exact trivial) (pc' := 15) rfl ?_
  refine hp_J 41 (fun (p2 : hH) => [(0, (.ref 192)), (3, (.long x2)), (7, (.long x4)), (9, (.long a1))]) (fun (p2 : hH) => []) (fun (p2 : hH) => p2) ?_ (fun p2 => ?_)
  · refine hp_cO (L0 := [(9, (.long a1)), (0, (.ref 192)), (1, (.long x1)), (3, (.long x2)), (5, (.long x3)), (7, (.long x4))]) (s0 := []) 36 41 ?_ ?_ ?_
    · refine hp_lc_ne hm at0 rfl (by exact trivial) (pc' := 15) rfl 5 rfl (tgt := 41) rfl (fun c10 => ?_) (fun c10 => ?_)
      · exact hp_l0 (fun _ e => e)
      · refine hp_cSP (M2 := M_Mo_between0) hm (at1 2 rfl) (as := [(.long x1), (.long x3)]) (rest := []) rfl (by exact trivial) (pc' := 21) rfl 1 rfl (lw_g (lw_at lw_m11 101 rfl) rfl) y_Mo_between0 rfl (d2 := 1) ⟨le_b rfl, pd_Mo_between0, le_b rfl⟩ (le_b rfl) (k_Mo_between0 x1 x3 h) (fun a3 => ?_)
        refine hp_cO (L0 := [(9, (.long a1)), (0, (.ref 192)), (1, (.long x1)), (3, (.long x2)), (5, (.long x3)), (7, (.long x4))]) (s0 := []) 36 41 ?_ ?_ ?_
        · refine hp_if_eq hm at0 rfl (by exact trivial) (pc' := 24) rfl 4 rfl (tgt := 41) rfl (fun c6 => ?_) (fun c6 => ?_)
          · exact hp_l0 (fun _ e => e)
          · refine hp_cSP (M2 := M_Mo_between0) hm (at1 3 rfl) (as := [(.long x2), (.long x4)]) (rest := []) rfl (by exact trivial) (pc' := 30) rfl 2 rfl (lw_g (lw_at lw_m11 101 rfl) rfl) y_Mo_between0 rfl (d2 := 1) ⟨le_b rfl, pd_Mo_between0, le_b rfl⟩ (le_b rfl) (k_Mo_between0 x2 x4 h) (fun a4 => ?_)
            refine hp_if_eq hm at0 rfl (by exact trivial) (pc' := 33) rfl 3 rfl (tgt := 41) rfl (fun c5 => ?_) (fun c5 => ?_)
            · exact hp_l0 (fun _ e => e)
            · exact hp_l0 (fun _ e => e)
        · exact hp_l0 (fun _ e => e)
        · exact hp_l0 (fun _ e => e)
    · refine hp_w hm (at1 4 rfl) (L' := [(9, (.long a1)), (0, (.ref 192)), (1, (.long x1)), (3, (.long x2)), (5, (.long x3)), (7, (.long x4))]) rfl (by exact ⟨og_192, (Or.inr rfl)⟩) (pc' := 41) rfl (fun h1 => ?_)
      exact hp_lf [1, 3, 5, 0] rfl (fun _ e => e)
    · exact hp_lf [1, 3, 5, 0] rfl (fun _ e => e)
  · refine hp_cO (L0 := [(0, (.ref 192)), (3, (.long x2)), (7, (.long x4)), (9, (.long a1))]) (s0 := []) 61 74 ?_ ?_ ?_
    · refine hp_lc_gt hm (at1 5 rfl) rfl (by exact trivial) (pc' := 44) rfl 8 rfl (tgt := 74) rfl (fun c24 => ?_) (fun c24 => ?_)
      · exact hp_l0 (fun _ e => e)
      · refine hp_cI (L0 := [(0, (.ref 192)), (3, (.long x2)), (7, (.long x4)), (9, (.long a1))]) (s0 := []) 74 61 ?_ (fun c23 => ?_) (fun c23 => ?_)
        · refine hp_or ?_
          refine hp_lc_le hm (at1 6 rfl) rfl (by exact trivial) (pc' := 51) rfl 7 rfl (tgt := 74) rfl (fun c22 => ?_) (fun c22 => ?_)
          · exact hp_l0 (fun _ e => e)
          · refine hp_dec ?_
            refine hp_lc_le hm (at1 7 rfl) rfl (by exact trivial) (pc' := 58) rfl 6 rfl (tgt := 74) rfl (fun c21 => ?_) (fun c21 => ?_)
            · exact hp_l0 (fun _ e => e)
            · exact hp_l0 (fun _ e => e)
        · exact hp_l0 (fun _ e => e)
        · exact hp_l0 (fun _ e => e)
    · refine hp_w hm (at1 8 rfl) (L' := [(0, (.ref 192)), (3, (.long x2)), (7, (.long x4)), (9, (.long a1))]) rfl (by exact ⟨og_192, og_192⟩) (pc' := 71) rfl (fun h2 => ?_)
      refine hp_goto hm 10 rfl (tgt := 104) rfl ?_
      exact hp_vr hm 9 rfl rfl (fun _ e => e)
    · refine hp_lc_le hm (at1 9 rfl) rfl (by exact trivial) (pc' := 77) rfl 13 rfl (tgt := 104) rfl (fun c33 => ?_) (fun c33 => ?_)
      · exact hp_vr hm 9 rfl rfl (fun _ e => e)
      · refine hp_lc_gt hm (at1 10 rfl) rfl (by exact trivial) (pc' := 84) rfl 12 rfl (tgt := 104) rfl (fun c32 => ?_) (fun c32 => ?_)
        · exact hp_vr hm 9 rfl rfl (fun _ e => e)
        · refine hp_lc_ge hm (at1 11 rfl) rfl (by exact trivial) (pc' := 91) rfl 11 rfl (tgt := 104) rfl (fun c31 => ?_) (fun c31 => ?_)
          · exact hp_vr hm 9 rfl rfl (fun _ e => e)
          · refine hp_w hm (at1 12 rfl) (L' := [(0, (.ref 192)), (3, (.long x2)), (7, (.long x4)), (9, (.long a1))]) rfl (by exact ⟨og_192, og_192⟩) (pc' := 104) rfl (fun h3 => ?_)
            exact hp_vr hm 9 rfl rfl (fun _ e => e)
/-! HintHouseModel.meetsZero(JJJ)Z -/
def M_Mo_meetsZero : hM := (11, ⟨"HintHouseModel", "meetsZero", "(JJJ)Z"⟩, prog_13_method_111_code, 6, (Option.some Jvm.ClassFile.FieldType.boolean), [], [(0, [(.lload_n 0, 1, 0, 0, 0, .null), (.lconst 0, 1, 0, 0, 0, (.long (0 : Int64))), (.lcmp, 1, 0, 0, 0, .null)]), (39, [(.iconst 1, 1, 0, 0, 0, (.int (1 : Int32)))]), (6, [(.lload 4, 2, 0, 0, 0, .null), (.lconst 0, 1, 0, 0, 0, (.long (0 : Int64))), (.lcmp, 1, 0, 0, 0, .null)]), (13, [(.lload_n 0, 1, 0, 0, 0, .null), (.lconst 0, 1, 0, 0, 0, (.long (0 : Int64))), (.lcmp, 1, 0, 0, 0, .null)]), (23, [(.iconst 0, 1, 0, 0, 0, (.int (0 : Int32)))]), (19, [(.iconst 1, 1, 0, 0, 0, (.int (1 : Int32)))]), (24, [(.lload 4, 2, 0, 0, 0, .null), (.lconst 0, 1, 0, 0, 0, (.long (0 : Int64))), (.lcmp, 1, 0, 0, 0, .null)]), (35, [(.iconst 0, 1, 0, 0, 0, (.int (0 : Int32)))]), (31, [(.iconst 1, 1, 0, 0, 0, (.int (1 : Int32)))]), (41, [(.lload_n 0, 1, 0, 0, 0, .null), (.lconst 0, 1, 0, 0, 0, (.long (0 : Int64))), (.lcmp, 1, 0, 0, 0, .null)]), (51, [(.iconst 0, 1, 0, 0, 0, (.int (0 : Int32)))]), (47, [(.iconst 1, 1, 0, 0, 0, (.int (1 : Int32)))]), (52, [(.lload_n 2, 1, 0, 0, 0, .null), (.lconst 0, 1, 0, 0, 0, (.long (0 : Int64))), (.lcmp, 1, 0, 0, 0, .null)]), (62, [(.iconst 0, 1, 0, 0, 0, (.int (0 : Int32)))]), (58, [(.iconst 1, 1, 0, 0, 0, (.int (1 : Int32)))]), (87, [(.iconst 0, 1, 0, 0, 0, (.int (0 : Int32)))]), (66, [(.lload_n 2, 1, 0, 0, 0, .null), (.lconst 0, 1, 0, 0, 0, (.long (0 : Int64))), (.lcmp, 1, 0, 0, 0, .null)]), (72, [(.lload_n 2, 1, 0, 0, 0, .null), (.lload_n 2, 1, 0, 0, 0, .null), (.lmul, 1, 0, 0, 0, .null), (.lload_n 0, 1, 0, 0, 0, .null), (.lload 4, 2, 0, 0, 0, .null), (.lmul, 1, 0, 0, 0, .null), (.lcmp, 1, 0, 0, 0, .null)]), (83, [(.iconst 1, 1, 0, 0, 0, (.int (1 : Int32)))])], [(40, .ireturn, 1), (20, .goto 4, 3), (16, .ifCond .ge 7, 3), (32, .goto 4, 3), (28, .ifCond .ge 7, 3), (48, .goto 4, 3), (44, .ifCond .ge 7, 3), (59, .goto 4, 3), (55, .ifCond .ge 7, 3), (88, .ireturn, 1), (84, .goto 4, 3), (80, .ifCond .lt 7, 3), (69, .ifCond .eq 18, 3), (63, .if_icmp .eq 24, 3), (36, .if_icmp .eq 5, 3), (10, .ifCond .eq 29, 3), (3, .ifCond .eq 36, 3)])
set_option maxRecDepth 100000 in
theorem m_Mo_meetsZero : hx_mok M_Mo_meetsZero = true := by decide +kernel
theorem pd_Mo_meetsZero : (parseMethodDescriptor M_Mo_meetsZero.2.1.desc).map (fun q => q.parameters.length) = some 3 := by decide +kernel
theorem y_Mo_meetsZero : hx_okS M_Mo_meetsZero := ⟨⟨lw_g (lw_at lw_m11 110 rfl) rfl, lw_g (lw_at lw_m11 109 rfl) rfl, lw_g (lw_at lw_m1 12 rfl) rfl, by decide, by decide⟩, rfl, by decide, plainFor_of_name (by decide), rfl⟩
noncomputable def f_Mo_meetsZero (x1 : Int64) (x2 : Int64) (x3 : Int64) : Option Int32 :=
  if x1 = (0 : Int64) then (
    some (1 : Int32)
  ) else (
    if x3 = (0 : Int64) then (
      some (1 : Int32)
    ) else (
      lz (A := Int32) (if (0 : Int64) ≤ x1 then (0 : Int32) else (1 : Int32)) fun p1 =>
      lz (A := Int32) (if (0 : Int64) ≤ x3 then (0 : Int32) else (1 : Int32)) fun p3 =>
      if p1 = p3 then (
        lz (A := Int32) (if (0 : Int64) ≤ x1 then (0 : Int32) else (1 : Int32)) fun p5 =>
        lz (A := Int32) (if (0 : Int64) ≤ x2 then (0 : Int32) else (1 : Int32)) fun p7 =>
        if p5 = p7 then (
          some (0 : Int32)
        ) else (
          if x2 = (0 : Int64) then (
            some (0 : Int32)
          ) else (
            if (x2 * x2) < (x1 * x3) then (
              some (0 : Int32)
            ) else (
              some (1 : Int32)
            )
          )
        )
      ) else (
        some (1 : Int32)
      )
    )
  )
set_option maxRecDepth 20000 in
theorem k_Mo_meetsZero (x1 : Int64) (x2 : Int64) (x3 : Int64) (h : hH) : hx_kP S0 M_Mo_meetsZero 1 NT [(.long x1), (.long x2), (.long x3)] h (f_Mo_meetsZero x1 x2 x3) cvI := by
  have hm := m_Mo_meetsZero
  show hx_P S0 M_Mo_meetsZero 1 0 [(0, (.long x1)), (2, (.long x2)), (4, (.long x3))] [] NT h (f_Mo_meetsZero x1 x2 x3) (hx_Rp cvI NT h)
  unfold f_Mo_meetsZero
  refine hp_lc_eq hm (at1 0 rfl) rfl (by exact trivial) (pc' := 3) rfl 16 rfl (tgt := 39) rfl (fun c14 => ?_) (fun c14 => ?_)
  · exact hp_ir hm (at1 1 rfl) rfl (by exact trivial) (pc' := 40) rfl 0 rfl rfl rfl (fun _ e => e)
  · refine hp_lc_eq hm (at1 2 rfl) rfl (by exact trivial) (pc' := 10) rfl 15 rfl (tgt := 39) rfl (fun c13 => ?_) (fun c13 => ?_)
    · exact hp_ir hm (at1 1 rfl) rfl (by exact trivial) (pc' := 40) rfl 0 rfl rfl rfl (fun _ e => e)
    · refine hp_JZ 24 (fun (p1 : Int32) => [(0, (.long x1)), (2, (.long x2)), (4, (.long x3))]) (fun (p1 : Int32) => [(.int p1)]) (fun (p1 : Int32) => h) ?_ (fun p1 => ?_)
      · refine hp_sv0 ?_
        refine hp_lc_ge hm (at1 3 rfl) rfl (by exact trivial) (pc' := 16) rfl 2 rfl (tgt := 23) rfl (fun c2 => ?_) (fun c2 => ?_)
        · refine hp_b hm (at1 4 rfl) (L' := [(0, (.long x1)), (2, (.long x2)), (4, (.long x3))]) (st' := [(.int (0 : Int32))]) rfl (by exact trivial) (pc' := 24) rfl ?_
          exact hp_lf [0, 1, 2] rfl (fun _ e => e)
        · refine hp_b hm (at1 5 rfl) (L' := [(0, (.long x1)), (2, (.long x2)), (4, (.long x3))]) (st' := [(.int (1 : Int32))]) rfl (by exact trivial) (pc' := 20) rfl ?_
          refine hp_goto hm 1 rfl (tgt := 24) rfl ?_
          exact hp_lf [0, 1, 2] rfl (fun _ e => e)
      · refine hp_JZ 36 (fun (p3 : Int32) => [(0, (.long x1)), (2, (.long x2)), (4, (.long x3))]) (fun (p3 : Int32) => [(.int p3), (.int p1)]) (fun (p3 : Int32) => h) ?_ (fun p3 => ?_)
        · refine hp_sv0 ?_
          refine hp_lc_ge hm (at1 6 rfl) rfl (by exact trivial) (pc' := 28) rfl 4 rfl (tgt := 35) rfl (fun c4 => ?_) (fun c4 => ?_)
          · refine hp_b hm (at1 7 rfl) (L' := [(0, (.long x1)), (2, (.long x2)), (4, (.long x3))]) (st' := [(.int (0 : Int32)), (.int p1)]) rfl (by exact trivial) (pc' := 36) rfl ?_
            exact hp_lf [0, 1, 2] rfl (fun _ e => e)
          · refine hp_b hm (at1 8 rfl) (L' := [(0, (.long x1)), (2, (.long x2)), (4, (.long x3))]) (st' := [(.int (1 : Int32)), (.int p1)]) rfl (by exact trivial) (pc' := 32) rfl ?_
            refine hp_goto hm 3 rfl (tgt := 36) rfl ?_
            exact hp_lf [0, 1, 2] rfl (fun _ e => e)
        · refine hp_ic_eq hm at0 rfl (by exact trivial) (pc' := 36) rfl 14 rfl (tgt := 41) rfl (fun c12 => ?_) (fun c12 => ?_)
          · refine hp_JZ 52 (fun (p5 : Int32) => [(0, (.long x1)), (2, (.long x2)), (4, (.long x3))]) (fun (p5 : Int32) => [(.int p5)]) (fun (p5 : Int32) => h) ?_ (fun p5 => ?_)
            · refine hp_sv0 ?_
              refine hp_lc_ge hm (at1 9 rfl) rfl (by exact trivial) (pc' := 44) rfl 6 rfl (tgt := 51) rfl (fun c6 => ?_) (fun c6 => ?_)
              · refine hp_b hm (at1 10 rfl) (L' := [(0, (.long x1)), (2, (.long x2)), (4, (.long x3))]) (st' := [(.int (0 : Int32))]) rfl (by exact trivial) (pc' := 52) rfl ?_
                exact hp_lf [0, 1, 2] rfl (fun _ e => e)
              · refine hp_b hm (at1 11 rfl) (L' := [(0, (.long x1)), (2, (.long x2)), (4, (.long x3))]) (st' := [(.int (1 : Int32))]) rfl (by exact trivial) (pc' := 48) rfl ?_
                refine hp_goto hm 5 rfl (tgt := 52) rfl ?_
                exact hp_lf [0, 1, 2] rfl (fun _ e => e)
            · refine hp_JZ 63 (fun (p7 : Int32) => [(0, (.long x1)), (2, (.long x2)), (4, (.long x3))]) (fun (p7 : Int32) => [(.int p7), (.int p5)]) (fun (p7 : Int32) => h) ?_ (fun p7 => ?_)
              · refine hp_sv0 ?_
                refine hp_lc_ge hm (at1 12 rfl) rfl (by exact trivial) (pc' := 55) rfl 8 rfl (tgt := 62) rfl (fun c8 => ?_) (fun c8 => ?_)
                · refine hp_b hm (at1 13 rfl) (L' := [(0, (.long x1)), (2, (.long x2)), (4, (.long x3))]) (st' := [(.int (0 : Int32)), (.int p5)]) rfl (by exact trivial) (pc' := 63) rfl ?_
                  exact hp_lf [0, 1, 2] rfl (fun _ e => e)
                · refine hp_b hm (at1 14 rfl) (L' := [(0, (.long x1)), (2, (.long x2)), (4, (.long x3))]) (st' := [(.int (1 : Int32)), (.int p5)]) rfl (by exact trivial) (pc' := 59) rfl ?_
                  refine hp_goto hm 7 rfl (tgt := 63) rfl ?_
                  exact hp_lf [0, 1, 2] rfl (fun _ e => e)
              · refine hp_ic_eq hm at0 rfl (by exact trivial) (pc' := 63) rfl 13 rfl (tgt := 87) rfl (fun c11 => ?_) (fun c11 => ?_)
                · refine hp_b hm (at1 15 rfl) (L' := [(0, (.long x1)), (2, (.long x2)), (4, (.long x3))]) (st' := [(.int (0 : Int32))]) rfl (by exact trivial) (pc' := 88) rfl ?_
                  exact hp_ir hm at0 rfl (by exact trivial) (pc' := 88) rfl 9 rfl rfl rfl (fun _ e => e)
                · refine hp_lc_eq hm (at1 16 rfl) rfl (by exact trivial) (pc' := 69) rfl 12 rfl (tgt := 87) rfl (fun c10 => ?_) (fun c10 => ?_)
                  · refine hp_b hm (at1 15 rfl) (L' := [(0, (.long x1)), (2, (.long x2)), (4, (.long x3))]) (st' := [(.int (0 : Int32))]) rfl (by exact trivial) (pc' := 88) rfl ?_
                    exact hp_ir hm at0 rfl (by exact trivial) (pc' := 88) rfl 9 rfl rfl rfl (fun _ e => e)
                  · refine hp_lc_lt hm (at1 17 rfl) rfl (by exact trivial) (pc' := 80) rfl 11 rfl (tgt := 87) rfl (fun c9 => ?_) (fun c9 => ?_)
                    · refine hp_b hm (at1 15 rfl) (L' := [(0, (.long x1)), (2, (.long x2)), (4, (.long x3))]) (st' := [(.int (0 : Int32))]) rfl (by exact trivial) (pc' := 88) rfl ?_
                      exact hp_ir hm at0 rfl (by exact trivial) (pc' := 88) rfl 9 rfl rfl rfl (fun _ e => e)
                    · refine hp_b hm (at1 18 rfl) (L' := [(0, (.long x1)), (2, (.long x2)), (4, (.long x3))]) (st' := [(.int (1 : Int32))]) rfl (by exact trivial) (pc' := 84) rfl ?_
                      refine hp_goto hm 10 rfl (tgt := 88) rfl ?_
                      exact hp_ir hm at0 rfl (by exact trivial) (pc' := 88) rfl 9 rfl rfl rfl (fun _ e => e)
          · exact hp_ir hm (at1 1 rfl) rfl (by exact trivial) (pc' := 40) rfl 0 rfl rfl rfl (fun _ e => e)
/-! HintHouseModel.curve(JJJJJJ)V -/
def M_Mo_curve : hM := (11, ⟨"HintHouseModel", "curve", "(JJJJJJ)V"⟩, prog_13_method_112_code, 23, (Option.none : Option Jvm.ClassFile.FieldType), [], [(0, [(.lload 5, 2, 0, 0, 0, .null), (.lload 7, 2, 0, 0, 0, .null), (.lload 9, 2, 0, 0, 0, .null), (.lload 11, 2, 0, 0, 0, .null)]), (11, [(.lstore 13, 2, 0, 0, 0, .null), (.lload 9, 2, 0, 0, 0, .null), (.lload 11, 2, 0, 0, 0, .null), (.lload_n 1, 1, 0, 0, 0, .null), (.lload_n 3, 1, 0, 0, 0, .null)]), (22, [(.lstore 15, 2, 0, 0, 0, .null), (.lload_n 1, 1, 0, 0, 0, .null), (.lload_n 3, 1, 0, 0, 0, .null), (.lload 5, 2, 0, 0, 0, .null), (.lload 7, 2, 0, 0, 0, .null)]), (33, [(.lstore 17, 2, 0, 0, 0, .null), (.lload 13, 2, 0, 0, 0, .null), (.lload 15, 2, 0, 0, 0, .null), (.ladd, 1, 0, 0, 0, .null), (.lload 17, 2, 0, 0, 0, .null), (.ladd, 1, 0, 0, 0, .null), (.lstore 19, 2, 0, 0, 0, .null)]), (45, [(.lload 19, 2, 0, 0, 0, .null), (.lconst 0, 1, 0, 0, 0, (.long (0 : Int64))), (.lcmp, 1, 0, 0, 0, .null)]), (147, [(.lload 19, 2, 0, 0, 0, .null), (.lconst 0, 1, 0, 0, 0, (.long (0 : Int64))), (.lcmp, 1, 0, 0, 0, .null)]), (154, [(.lload 13, 2, 0, 0, 0, .null), (.lneg, 1, 0, 0, 0, .null), (.lstore 13, 2, 0, 0, 0, .null)]), (159, [(.lload 15, 2, 0, 0, 0, .null), (.lneg, 1, 0, 0, 0, .null), (.lstore 15, 2, 0, 0, 0, .null)]), (164, [(.lload 17, 2, 0, 0, 0, .null), (.lneg, 1, 0, 0, 0, .null), (.lstore 17, 2, 0, 0, 0, .null)]), (169, [(.lload 13, 2, 0, 0, 0, .null), (.lconst 0, 1, 0, 0, 0, (.long (0 : Int64))), (.lcmp, 1, 0, 0, 0, .null)]), (176, [(.lload 15, 2, 0, 0, 0, .null), (.lconst 0, 1, 0, 0, 0, (.long (0 : Int64))), (.lcmp, 1, 0, 0, 0, .null)]), (183, [(.lload 17, 2, 0, 0, 0, .null), (.lconst 0, 1, 0, 0, 0, (.long (0 : Int64))), (.lcmp, 1, 0, 0, 0, .null)]), (190, [(.lload 15, 2, 0, 0, 0, .null), (.lload 15, 2, 0, 0, 0, .null), (.lmul, 1, 0, 0, 0, .null), (.ldc2_w 228, 3, 0, 0, 0, (.long (4 : Int64))), (.lload 13, 2, 0, 0, 0, .null), (.lmul, 1, 0, 0, 0, .null), (.lload 17, 2, 0, 0, 0, .null), (.lmul, 1, 0, 0, 0, .null), (.lsub, 1, 0, 0, 0, .null), (.lstore 21, 2, 0, 0, 0, .null)]), (207, [(.lload 21, 2, 0, 0, 0, .null), (.lconst 0, 1, 0, 0, 0, (.long (0 : Int64))), (.lcmp, 1, 0, 0, 0, .null)]), (220, [(.lload 21, 2, 0, 0, 0, .null), (.lconst 0, 1, 0, 0, 0, (.long (0 : Int64))), (.lcmp, 1, 0, 0, 0, .null)]), (227, [(.aload_n 0, 1, 0, 0, 0, .null), (.lload_n 1, 1, 0, 0, 0, .null), (.lload_n 3, 1, 0, 0, 0, .null), (.lload 5, 2, 0, 0, 0, .null), (.lload 7, 2, 0, 0, 0, .null)]), (237, [(.aload_n 0, 1, 0, 0, 0, .null), (.lload 5, 2, 0, 0, 0, .null), (.lload 7, 2, 0, 0, 0, .null), (.lload 9, 2, 0, 0, 0, .null), (.lload 11, 2, 0, 0, 0, .null)]), (214, [(.aload_n 0, 1, 0, 0, 0, .null), (.iconst 1, 1, 0, 0, 0, (.int (1 : Int32))), (.putfield 846, 3, 11, 140, 1, .null)]), (250, [(.aload_n 0, 1, 0, 0, 0, .null), (.lload_n 1, 1, 0, 0, 0, .null), (.lload_n 3, 1, 0, 0, 0, .null), (.lload 9, 2, 0, 0, 0, .null), (.lload 11, 2, 0, 0, 0, .null)]), (52, [(.lload 13, 2, 0, 0, 0, .null), (.lconst 0, 1, 0, 0, 0, (.long (0 : Int64))), (.lcmp, 1, 0, 0, 0, .null)]), (59, [(.lload 15, 2, 0, 0, 0, .null), (.lconst 0, 1, 0, 0, 0, (.long (0 : Int64))), (.lcmp, 1, 0, 0, 0, .null)]), (66, [(.lload 17, 2, 0, 0, 0, .null), (.lconst 0, 1, 0, 0, 0, (.long (0 : Int64))), (.lcmp, 1, 0, 0, 0, .null)]), (73, [(.lload_n 1, 1, 0, 0, 0, .null), (.lload 5, 2, 0, 0, 0, .null), (.lcmp, 1, 0, 0, 0, .null)]), (91, [(.iconst 0, 1, 0, 0, 0, (.int (0 : Int32)))]), (80, [(.lload_n 1, 1, 0, 0, 0, .null), (.lload 9, 2, 0, 0, 0, .null), (.lcmp, 1, 0, 0, 0, .null)]), (87, [(.iconst 1, 1, 0, 0, 0, (.int (1 : Int32)))]), (92, [(.istore 21, 2, 0, 0, 0, .null), (.iload 21, 2, 0, 0, 0, .null)]), (119, [(.lload_n 1, 1, 0, 0, 0, .null), (.lload 5, 2, 0, 0, 0, .null), (.lload 9, 2, 0, 0, 0, .null)]), (99, [(.lload_n 3, 1, 0, 0, 0, .null), (.lload 7, 2, 0, 0, 0, .null), (.lload 11, 2, 0, 0, 0, .null)]), (110, [(.lload_n 1, 1, 0, 0, 0, .null), (.lconst 0, 1, 0, 0, 0, (.long (0 : Int64))), (.lcmp, 1, 0, 0, 0, .null)]), (130, [(.aload_n 0, 1, 0, 0, 0, .null), (.iconst 1, 1, 0, 0, 0, (.int (1 : Int32))), (.putfield 846, 3, 11, 140, 1, .null)]), (136, [(.aload_n 0, 1, 0, 0, 0, .null), (.lload_n 1, 1, 0, 0, 0, .null), (.lload_n 3, 1, 0, 0, 0, .null), (.lload 9, 2, 0, 0, 0, .null), (.lload 11, 2, 0, 0, 0, .null)])], [(8, .invokestatic 838, 3), (19, .invokestatic 838, 3), (30, .invokestatic 838, 3), (151, .ifCond .ge 18, 3), (187, .ifCond .lt 63, 3), (180, .ifCond .lt 70, 3), (173, .ifCond .lt 77, 3), (234, .invokevirtual 855, 3), (246, .invokevirtual 855, 3), (249, .return_, 1), (224, .ifCond .ge 26, 3), (219, .return_, 1), (211, .ifCond .ne 9, 3), (257, .invokevirtual 855, 3), (260, .return_, 1), (70, .ifCond .ne 66, 3), (63, .ifCond .ne 73, 3), (56, .ifCond .ne 80, 3), (88, .goto 4, 3), (84, .ifCond .ne 7, 3), (77, .ifCond .ne 14, 3), (124, .invokestatic 852, 3), (127, .ifCond .eq 9, 3), (104, .invokestatic 852, 3), (113, .ifCond .ne 23, 3), (107, .ifCond .eq 29, 3), (116, .goto 14, 3), (96, .ifCond .eq 23, 3), (135, .return_, 1), (143, .invokevirtual 855, 3), (146, .return_, 1), (49, .ifCond .ne 98, 3)])
set_option maxRecDepth 100000 in
theorem m_Mo_curve : hx_mok M_Mo_curve = true := by decide +kernel
theorem pd_Mo_curve : (parseMethodDescriptor M_Mo_curve.2.1.desc).map (fun q => q.parameters.length) = some 6 := by decide +kernel
theorem y_Mo_curve : hx_okV M_Mo_curve := ⟨⟨lw_g (lw_at lw_m11 107 rfl) rfl, lw_g (lw_at lw_m11 106 rfl) rfl, qs204, lw_g (lw_at lw_m1 12 rfl) rfl, rfl, by decide, by decide, by decide⟩, rfl, by decide, plainFor_of_name (by decide)⟩
noncomputable def f_Mo_curve (x1 : Int64) (x2 : Int64) (x3 : Int64) (x4 : Int64) (x5 : Int64) (x6 : Int64) (h : hH) : Option (Unit × hH) :=
  bP (f_Mo_cross x3 x4 x5 x6) fun a1 =>
  bP (f_Mo_cross x5 x6 x1 x2) fun a2 =>
  bP (f_Mo_cross x1 x2 x3 x4) fun a3 =>
  lz (A := Int64) ((a1 + a2) + a3) fun v4 =>
  if v4 = (0 : Int64) then (
    bE (P := Unit) (X := (Unit × hH)) (
      cO (
        if a1 = (0 : Int64) then (
          if (a2 = (0 : Int64) ∧ a3 = (0 : Int64)) then (
            some true
          ) else (
            some false
          )
        ) else (
          some false
        )
      ) (
        lz (A := Int32) (if x1 = x3 then (if x1 = x5 then (1 : Int32) else (0 : Int32)) else (0 : Int32)) fun p39 =>
        bE (P := Unit) (X := (Unit ⊕ (Unit × hH))) (
          if p39 = 0 then (
            bP (f_Mo_meetsZero x1 x3 x5) fun a43 =>
            if a43 = 0 then (
              some (.inr (.inl ()))
            ) else (
              some (.inl ())
            )
          ) else (
            bP (f_Mo_meetsZero x2 x4 x6) fun a45 =>
            if (¬ (a45 = 0) ∧ x1 = (0 : Int64)) then (
              some (.inl ())
            ) else (
              some (.inr (.inl ()))
            )
          )
        ) fun p42 =>
        lz (wrI h 192 140 (1 : Int32)) fun h5 =>
        some (.inr ((), h5))
      ) (
        some (.inl ())
      )
    ) fun p26 =>
    bS (f_Mo_straight x1 x2 x5 x6 h) fun _ h6 =>
    some ((), h6)
  ) else (
    bP (A := (Int64 × Int64 × Int64)) (
      if (0 : Int64) ≤ v4 then (
        some (a1, a2, a3)
      ) else (
        lz (A := Int64) (-a1) fun v6 =>
        lz (A := Int64) (-a2) fun v7 =>
        lz (A := Int64) (-a3) fun v8 =>
        some (v6, v7, v8)
      )
    ) fun p5 =>
    bE (P := Unit) (X := (Unit × hH)) (
      cO (
        if p5.1 < (0 : Int64) then (
          some false
        ) else (
          if (p5.2.1 < (0 : Int64) ∨ p5.2.2 < (0 : Int64)) then (
            some false
          ) else (
            some true
          )
        )
      ) (
        lz (A := Int64) ((p5.2.1 * p5.2.1) - (((4 : Int64) * p5.1) * p5.2.2)) fun v23 =>
        if v23 = (0 : Int64) then (
          lz (wrI h 192 140 (1 : Int32)) fun h3 =>
          some (.inr ((), h3))
        ) else (
          if (0 : Int64) ≤ v23 then (
            some (.inl ())
          ) else (
            bS (f_Mo_straight x1 x2 x3 x4 h) fun _ h1 =>
            bS (f_Mo_straight x3 x4 x5 x6 h1) fun _ h2 =>
            some (.inr ((), h2))
          )
        )
      ) (
        some (.inl ())
      )
    ) fun p10 =>
    bS (f_Mo_straight x1 x2 x5 x6 h) fun _ h4 =>
    some ((), h4)
  )
set_option maxRecDepth 20000 in
theorem k_Mo_curve (x1 : Int64) (x2 : Int64) (x3 : Int64) (x4 : Int64) (x5 : Int64) (x6 : Int64) (h : hH) : hx_kS S0 M_Mo_curve 3 NT [(.ref 192), (.long x1), (.long x2), (.long x3), (.long x4), (.long x5), (.long x6)] h (f_Mo_curve x1 x2 x3 x4 x5 x6 h) cvU := by
  have hm := m_Mo_curve
  show hx_P S0 M_Mo_curve 3 0 [(0, (.ref 192)), (1, (.long x1)), (3, (.long x2)), (5, (.long x3)), (7, (.long x4)), (9, (.long x5)), (11, (.long x6))] [] NT h (f_Mo_curve x1 x2 x3 x4 x5 x6 h) (hx_Rc cvU NT)
  unfold f_Mo_curve
  refine hp_cSP (M2 := M_Mo_cross) hm (at1 0 rfl) (as := [(.long x3), (.long x4), (.long x5), (.long x6)]) (rest := []) rfl (by exact trivial) (pc' := 8) rfl 0 rfl (lw_g (lw_at lw_m11 98 rfl) rfl) y_Mo_cross rfl (d2 := 1) ⟨le_b rfl, pd_Mo_cross, le_b rfl⟩ (le_b rfl) (k_Mo_cross x3 x4 x5 x6 h) (fun a1 => ?_)
  refine hp_b hm (at1 1 rfl) (L' := [(13, (.long a1)), (0, (.ref 192)), (1, (.long x1)), (3, (.long x2)), (5, (.long x3)), (7, (.long x4)), (9, (.long x5)), (11, (.long x6))]) (st' := [(.long x2), (.long x1), (.long x6), (.long x5)]) rfl (by exact trivial) (pc' := 19) rfl ?_
  refine hp_cSP (M2 := M_Mo_cross) hm at0 (as := [(.long x5), (.long x6), (.long x1), (.long x2)]) (rest := []) rfl (by exact trivial) (pc' := 19) rfl 1 rfl (lw_g (lw_at lw_m11 98 rfl) rfl) y_Mo_cross rfl (d2 := 1) ⟨le_b rfl, pd_Mo_cross, le_b rfl⟩ (le_b rfl) (k_Mo_cross x5 x6 x1 x2 h) (fun a2 => ?_)
  refine hp_b hm (at1 2 rfl) (L' := [(15, (.long a2)), (13, (.long a1)), (0, (.ref 192)), (1, (.long x1)), (3, (.long x2)), (5, (.long x3)), (7, (.long x4)), (9, (.long x5)), (11, (.long x6))]) (st' := [(.long x4), (.long x3), (.long x2), (.long x1)]) rfl (by exact trivial) (pc' := 30) rfl ?_
  refine hp_cSP (M2 := M_Mo_cross) hm at0 (as := [(.long x1), (.long x2), (.long x3), (.long x4)]) (rest := []) rfl (by exact trivial) (pc' := 30) rfl 2 rfl (lw_g (lw_at lw_m11 98 rfl) rfl) y_Mo_cross rfl (d2 := 1) ⟨le_b rfl, pd_Mo_cross, le_b rfl⟩ (le_b rfl) (k_Mo_cross x1 x2 x3 x4 h) (fun a3 => ?_)
  refine hp_z hm (at1 3 rfl) (fun (v4 : Int64) => [(19, (.long v4)), (17, (.long a3)), (15, (.long a2)), (13, (.long a1)), (0, (.ref 192)), (1, (.long x1)), (3, (.long x2)), (5, (.long x3)), (7, (.long x4)), (9, (.long x5)), (11, (.long x6))]) (fun (v4 : Int64) => []) rfl (by exact trivial) (pc' := 45) rfl (fun v4 => ?_)
  refine hp_lc_ne hm (at1 4 rfl) rfl (by exact trivial) (pc' := 49) rfl 31 rfl (tgt := 147) rfl (fun c52 => ?_) (fun c52 => ?_)
  · refine hp_J 169 (fun (p5 : (Int64 × Int64 × Int64)) => [(0, (.ref 192)), (1, (.long x1)), (3, (.long x2)), (5, (.long x3)), (7, (.long x4)), (9, (.long x5)), (11, (.long x6)), (13, (.long p5.1)), (15, (.long p5.2.1)), (17, (.long p5.2.2))]) (fun (p5 : (Int64 × Int64 × Int64)) => []) (fun (p5 : (Int64 × Int64 × Int64)) => h) ?_ (fun p5 => ?_)
    · refine hp_lc_ge hm (at1 5 rfl) rfl (by exact trivial) (pc' := 151) rfl 3 rfl (tgt := 169) rfl (fun c9 => ?_) (fun c9 => ?_)
      · exact hp_lf [4, 5, 6, 7, 8, 9, 10, 3, 2, 1] rfl (fun _ e => e)
      · refine hp_z hm (at1 6 rfl) (fun (v6 : Int64) => [(13, (.long v6)), (19, (.long v4)), (17, (.long a3)), (15, (.long a2)), (0, (.ref 192)), (1, (.long x1)), (3, (.long x2)), (5, (.long x3)), (7, (.long x4)), (9, (.long x5)), (11, (.long x6))]) (fun (v6 : Int64) => []) rfl (by exact trivial) (pc' := 159) rfl (fun v6 => ?_)
        refine hp_z hm (at1 7 rfl) (fun (v7 : Int64) => [(15, (.long v7)), (13, (.long v6)), (19, (.long v4)), (17, (.long a3)), (0, (.ref 192)), (1, (.long x1)), (3, (.long x2)), (5, (.long x3)), (7, (.long x4)), (9, (.long x5)), (11, (.long x6))]) (fun (v7 : Int64) => []) rfl (by exact trivial) (pc' := 164) rfl (fun v7 => ?_)
        refine hp_z hm (at1 8 rfl) (fun (v8 : Int64) => [(17, (.long v8)), (15, (.long v7)), (13, (.long v6)), (19, (.long v4)), (0, (.ref 192)), (1, (.long x1)), (3, (.long x2)), (5, (.long x3)), (7, (.long x4)), (9, (.long x5)), (11, (.long x6))]) (fun (v8 : Int64) => []) rfl (by exact trivial) (pc' := 169) rfl (fun v8 => ?_)
        exact hp_lf [4, 5, 6, 7, 8, 9, 10, 2, 1, 0] rfl (fun _ e => e)
    · refine hp_E 250 (fun (p10 : Unit) => [(0, (.ref 192)), (1, (.long x1)), (3, (.long x2)), (9, (.long x5)), (11, (.long x6))]) (fun (p10 : Unit) => []) (fun (p10 : Unit) => h) ?_ (fun p10 => ?_)
      · refine hp_cO (L0 := [(0, (.ref 192)), (1, (.long x1)), (3, (.long x2)), (5, (.long x3)), (7, (.long x4)), (9, (.long x5)), (11, (.long x6)), (13, (.long p5.1)), (15, (.long p5.2.1)), (17, (.long p5.2.2))]) (s0 := []) 190 250 ?_ ?_ ?_
        · refine hp_lc_lt hm (at1 9 rfl) rfl (by exact trivial) (pc' := 173) rfl 6 rfl (tgt := 250) rfl (fun c16 => ?_) (fun c16 => ?_)
          · exact hp_l0 (fun _ e => e)
          · refine hp_cI (L0 := [(0, (.ref 192)), (1, (.long x1)), (3, (.long x2)), (5, (.long x3)), (7, (.long x4)), (9, (.long x5)), (11, (.long x6)), (13, (.long p5.1)), (15, (.long p5.2.1)), (17, (.long p5.2.2))]) (s0 := []) 250 190 ?_ (fun c15 => ?_) (fun c15 => ?_)
            · refine hp_or ?_
              refine hp_lc_lt hm (at1 10 rfl) rfl (by exact trivial) (pc' := 180) rfl 5 rfl (tgt := 250) rfl (fun c14 => ?_) (fun c14 => ?_)
              · exact hp_l0 (fun _ e => e)
              · refine hp_dec ?_
                refine hp_lc_lt hm (at1 11 rfl) rfl (by exact trivial) (pc' := 187) rfl 4 rfl (tgt := 250) rfl (fun c13 => ?_) (fun c13 => ?_)
                · exact hp_l0 (fun _ e => e)
                · exact hp_l0 (fun _ e => e)
            · exact hp_l0 (fun _ e => e)
            · exact hp_l0 (fun _ e => e)
        · refine hp_z hm (at1 12 rfl) (fun (v23 : Int64) => [(21, (.long v23)), (0, (.ref 192)), (1, (.long x1)), (3, (.long x2)), (5, (.long x3)), (7, (.long x4)), (9, (.long x5)), (11, (.long x6)), (13, (.long p5.1)), (15, (.long p5.2.1)), (17, (.long p5.2.2))]) (fun (v23 : Int64) => []) rfl (by exact trivial) (pc' := 207) rfl (fun v23 => ?_)
          refine hp_lc_ne hm (at1 13 rfl) rfl (by exact trivial) (pc' := 211) rfl 12 rfl (tgt := 220) rfl (fun c25 => ?_) (fun c25 => ?_)
          · refine hp_lc_ge hm (at1 14 rfl) rfl (by exact trivial) (pc' := 224) rfl 10 rfl (tgt := 250) rfl (fun c24 => ?_) (fun c24 => ?_)
            · exact hp_lf [1, 2, 3, 6, 7] rfl (fun _ e => e)
            · refine hp_cVS (M2 := M_Mo_straight) hm (at1 15 rfl) (as := [(.long x1), (.long x2), (.long x3), (.long x4)]) (rest := []) (z := 192) rfl (by exact trivial) (pc' := 234) rfl 7 rfl (lw_g (lw_at lw_m11 94 rfl) rfl) y_Mo_straight rfl (d2 := 2) ⟨le_b rfl, pd_Mo_straight, le_b rfl⟩ (le_b rfl) og_192 (k_Mo_straight x1 x2 x3 x4 h) (fun _ h1 => ?_)
              refine hp_cVS (M2 := M_Mo_straight) hm (at1 16 rfl) (as := [(.long x3), (.long x4), (.long x5), (.long x6)]) (rest := []) (z := 192) rfl (by exact trivial) (pc' := 246) rfl 8 rfl (lw_g (lw_at lw_m11 94 rfl) rfl) y_Mo_straight rfl (d2 := 2) ⟨le_b rfl, pd_Mo_straight, le_b rfl⟩ (le_b rfl) og_192 (k_Mo_straight x3 x4 x5 x6 h1) (fun _ h2 => ?_)
              exact hp_vr hm 9 rfl rfl (fun _ e => e)
          · refine hp_w hm (at1 17 rfl) (L' := [(21, (.long v23)), (0, (.ref 192)), (1, (.long x1)), (3, (.long x2)), (5, (.long x3)), (7, (.long x4)), (9, (.long x5)), (11, (.long x6)), (13, (.long p5.1)), (15, (.long p5.2.1)), (17, (.long p5.2.2))]) rfl (by exact ⟨og_192, (Or.inr rfl)⟩) (pc' := 219) rfl (fun h3 => ?_)
            exact hp_vr hm 11 rfl rfl (fun _ e => e)
        · exact hp_lf [0, 1, 2, 5, 6] rfl (fun _ e => e)
      · refine hp_cVS (M2 := M_Mo_straight) hm (at1 18 rfl) (as := [(.long x1), (.long x2), (.long x5), (.long x6)]) (rest := []) (z := 192) rfl (by exact trivial) (pc' := 257) rfl 13 rfl (lw_g (lw_at lw_m11 94 rfl) rfl) y_Mo_straight rfl (d2 := 2) ⟨le_b rfl, pd_Mo_straight, le_b rfl⟩ (le_b rfl) og_192 (k_Mo_straight x1 x2 x5 x6 h) (fun _ h4 => ?_)
        exact hp_vr hm 14 rfl rfl (fun _ e => e)
  · refine hp_E 136 (fun (p26 : Unit) => [(0, (.ref 192)), (1, (.long x1)), (3, (.long x2)), (9, (.long x5)), (11, (.long x6))]) (fun (p26 : Unit) => []) (fun (p26 : Unit) => h) ?_ (fun p26 => ?_)
    · refine hp_cO (L0 := [(19, (.long v4)), (17, (.long a3)), (15, (.long a2)), (13, (.long a1)), (0, (.ref 192)), (1, (.long x1)), (3, (.long x2)), (5, (.long x3)), (7, (.long x4)), (9, (.long x5)), (11, (.long x6))]) (s0 := []) 73 136 ?_ ?_ ?_
      · refine hp_lc_ne hm (at1 19 rfl) rfl (by exact trivial) (pc' := 56) rfl 17 rfl (tgt := 136) rfl (fun c32 => ?_) (fun c32 => ?_)
        · exact hp_l0 (fun _ e => e)
        · refine hp_cI (L0 := [(19, (.long v4)), (17, (.long a3)), (15, (.long a2)), (13, (.long a1)), (0, (.ref 192)), (1, (.long x1)), (3, (.long x2)), (5, (.long x3)), (7, (.long x4)), (9, (.long x5)), (11, (.long x6))]) (s0 := []) 73 136 ?_ (fun c31 => ?_) (fun c31 => ?_)
          · refine hp_and ?_
            refine hp_lc_ne hm (at1 20 rfl) rfl (by exact trivial) (pc' := 63) rfl 16 rfl (tgt := 136) rfl (fun c28 => ?_) (fun c28 => ?_)
            · exact hp_l0 (fun _ e => e)
            · refine hp_dec ?_
              refine hp_lc_ne hm (at1 21 rfl) rfl (by exact trivial) (pc' := 70) rfl 15 rfl (tgt := 136) rfl (fun c27 => ?_) (fun c27 => ?_)
              · exact hp_l0 (fun _ e => e)
              · exact hp_l0 (fun _ e => e)
          · exact hp_l0 (fun _ e => e)
          · exact hp_l0 (fun _ e => e)
      · refine hp_JZ 92 (fun (p39 : Int32) => [(0, (.ref 192)), (1, (.long x1)), (3, (.long x2)), (5, (.long x3)), (7, (.long x4)), (9, (.long x5)), (11, (.long x6))]) (fun (p39 : Int32) => [(.int p39)]) (fun (p39 : Int32) => h) ?_ (fun p39 => ?_)
        · refine hp_sv0 ?_
          refine hp_lc_ne hm (at1 22 rfl) rfl (by exact trivial) (pc' := 77) rfl 20 rfl (tgt := 91) rfl (fun c41 => ?_) (fun c41 => ?_)
          · refine hp_b hm (at1 23 rfl) (L' := [(19, (.long v4)), (17, (.long a3)), (15, (.long a2)), (13, (.long a1)), (0, (.ref 192)), (1, (.long x1)), (3, (.long x2)), (5, (.long x3)), (7, (.long x4)), (9, (.long x5)), (11, (.long x6))]) (st' := [(.int (0 : Int32))]) rfl (by exact trivial) (pc' := 92) rfl ?_
            exact hp_lf [4, 5, 6, 7, 8, 9, 10] rfl (fun _ e => e)
          · refine hp_sv0 ?_
            refine hp_lc_ne hm (at1 24 rfl) rfl (by exact trivial) (pc' := 84) rfl 19 rfl (tgt := 91) rfl (fun c40 => ?_) (fun c40 => ?_)
            · refine hp_b hm (at1 23 rfl) (L' := [(19, (.long v4)), (17, (.long a3)), (15, (.long a2)), (13, (.long a1)), (0, (.ref 192)), (1, (.long x1)), (3, (.long x2)), (5, (.long x3)), (7, (.long x4)), (9, (.long x5)), (11, (.long x6))]) (st' := [(.int (0 : Int32))]) rfl (by exact trivial) (pc' := 92) rfl ?_
              exact hp_lf [4, 5, 6, 7, 8, 9, 10] rfl (fun _ e => e)
            · refine hp_b hm (at1 25 rfl) (L' := [(19, (.long v4)), (17, (.long a3)), (15, (.long a2)), (13, (.long a1)), (0, (.ref 192)), (1, (.long x1)), (3, (.long x2)), (5, (.long x3)), (7, (.long x4)), (9, (.long x5)), (11, (.long x6))]) (st' := [(.int (1 : Int32))]) rfl (by exact trivial) (pc' := 88) rfl ?_
              refine hp_goto hm 18 rfl (tgt := 92) rfl ?_
              exact hp_lf [4, 5, 6, 7, 8, 9, 10] rfl (fun _ e => e)
        · refine hp_b hm (at1 26 rfl) (L' := [(21, (.int p39)), (0, (.ref 192)), (1, (.long x1)), (3, (.long x2)), (5, (.long x3)), (7, (.long x4)), (9, (.long x5)), (11, (.long x6))]) (st' := [(.int p39)]) rfl (by exact trivial) (pc' := 96) rfl ?_
          refine hp_E 130 (fun (p42 : Unit) => [(0, (.ref 192))]) (fun (p42 : Unit) => []) (fun (p42 : Unit) => h) ?_ (fun p42 => ?_)
          · refine hp_if_eq hm at0 rfl (by exact trivial) (pc' := 96) rfl 27 rfl (tgt := 119) rfl (fun c51 => ?_) (fun c51 => ?_)
            · refine hp_cSP (M2 := M_Mo_meetsZero) hm (at1 27 rfl) (as := [(.long x1), (.long x3), (.long x5)]) (rest := []) rfl (by exact trivial) (pc' := 124) rfl 21 rfl (lw_g (lw_at lw_m11 108 rfl) rfl) y_Mo_meetsZero rfl (d2 := 1) ⟨le_b rfl, pd_Mo_meetsZero, le_b rfl⟩ (le_b rfl) (k_Mo_meetsZero x1 x3 x5 h) (fun a43 => ?_)
              refine hp_if_eq hm at0 rfl (by exact trivial) (pc' := 127) rfl 22 rfl (tgt := 136) rfl (fun c44 => ?_) (fun c44 => ?_)
              · exact hp_lf [1, 2, 3, 6, 7] rfl (fun _ e => e)
              · exact hp_lf [1] rfl (fun _ e => e)
            · refine hp_cSP (M2 := M_Mo_meetsZero) hm (at1 28 rfl) (as := [(.long x2), (.long x4), (.long x6)]) (rest := []) rfl (by exact trivial) (pc' := 104) rfl 23 rfl (lw_g (lw_at lw_m11 108 rfl) rfl) y_Mo_meetsZero rfl (d2 := 1) ⟨le_b rfl, pd_Mo_meetsZero, le_b rfl⟩ (le_b rfl) (k_Mo_meetsZero x2 x4 x6 h) (fun a45 => ?_)
              refine hp_cI (L0 := [(21, (.int p39)), (0, (.ref 192)), (1, (.long x1)), (3, (.long x2)), (5, (.long x3)), (7, (.long x4)), (9, (.long x5)), (11, (.long x6))]) (s0 := []) 116 136 ?_ (fun c50 => ?_) (fun c50 => ?_)
              · refine hp_nand ?_
                refine hp_if_eq hm at0 rfl (by exact trivial) (pc' := 107) rfl 25 rfl (tgt := 136) rfl (fun c47 => ?_) (fun c47 => ?_)
                · exact hp_l0 (fun _ e => e)
                · refine hp_dec ?_
                  refine hp_lc_ne hm (at1 29 rfl) rfl (by exact trivial) (pc' := 113) rfl 24 rfl (tgt := 136) rfl (fun c46 => ?_) (fun c46 => ?_)
                  · exact hp_l0 (fun _ e => e)
                  · exact hp_l0 (fun _ e => e)
              · refine hp_goto hm 26 rfl (tgt := 130) rfl ?_
                exact hp_lf [1] rfl (fun _ e => e)
              · exact hp_lf [1, 2, 3, 6, 7] rfl (fun _ e => e)
          · refine hp_w hm (at1 30 rfl) (L' := [(0, (.ref 192))]) rfl (by exact ⟨og_192, (Or.inr rfl)⟩) (pc' := 135) rfl (fun h5 => ?_)
            exact hp_vr hm 28 rfl rfl (fun _ e => e)
      · exact hp_lf [4, 5, 6, 9, 10] rfl (fun _ e => e)
    · refine hp_cVS (M2 := M_Mo_straight) hm (at1 31 rfl) (as := [(.long x1), (.long x2), (.long x5), (.long x6)]) (rest := []) (z := 192) rfl (by exact trivial) (pc' := 143) rfl 29 rfl (lw_g (lw_at lw_m11 94 rfl) rfl) y_Mo_straight rfl (d2 := 2) ⟨le_b rfl, pd_Mo_straight, le_b rfl⟩ (le_b rfl) og_192 (k_Mo_straight x1 x2 x5 x6 h) (fun _ h6 => ?_)
      exact hp_vr hm 30 rfl rfl (fun _ e => e)
/-! HintHouseModel.contour(IIJJ)V -/
def M_Mo_contour : hM := (11, ⟨"HintHouseModel", "contour", "(IIJJ)V"⟩, prog_13_method_113_code, 12, (Option.none : Option Jvm.ClassFile.FieldType), [], [(0, [(.aload_n 0, 1, 0, 0, 0, .null), (.iconst 0, 1, 0, 0, 0, (.int (0 : Int32))), (.putfield 835, 3, 11, 135, 0, .null)]), (5, [(.iload_n 1, 1, 0, 0, 0, .null), (.istore 7, 2, 0, 0, 0, .null)]), (8, [(.iload 7, 2, 0, 0, 0, .null), (.iload_n 2, 1, 0, 0, 0, .null)]), (14, [(.iload 7, 2, 0, 0, 0, .null), (.iload_n 2, 1, 0, 0, 0, .null)]), (24, [(.iload 7, 2, 0, 0, 0, .null), (.iconst 1, 1, 0, 0, 0, (.int (1 : Int32))), (.iadd, 1, 0, 0, 0, .null)]), (20, [(.iload_n 1, 1, 0, 0, 0, .null)]), (28, [(.istore 8, 2, 0, 0, 0, .null), (.aload_n 0, 1, 0, 0, 0, .null), (.iconst 2, 1, 0, 0, 0, (.int (2 : Int32))), (.aload_n 0, 1, 0, 0, 0, .null), (.getfield 167, 3, 11, 130, 4, .null), (.iload 7, 2, 0, 0, 0, .null), (.iaload, 1, 0, 0, 0, .null), (.imul, 1, 0, 0, 0, .null), (.iconst 2, 1, 0, 0, 0, (.int (2 : Int32))), (.aload_n 0, 1, 0, 0, 0, .null), (.getfield 170, 3, 11, 131, 4, .null), (.iload 7, 2, 0, 0, 0, .null), (.iaload, 1, 0, 0, 0, .null), (.imul, 1, 0, 0, 0, .null), (.aload_n 0, 1, 0, 0, 0, .null), (.getfield 173, 3, 11, 132, 4, .null), (.iload 7, 2, 0, 0, 0, .null), (.baload, 1, 101, 0, 0, .null)]), (59, [(.aload_n 0, 1, 0, 0, 0, .null), (.getfield 173, 3, 11, 132, 4, .null), (.iload 7, 2, 0, 0, 0, .null), (.baload, 1, 101, 0, 0, .null)]), (69, [(.aload_n 0, 1, 0, 0, 0, .null), (.getfield 173, 3, 11, 132, 4, .null), (.iload 8, 2, 0, 0, 0, .null), (.baload, 1, 101, 0, 0, .null)]), (79, [(.iload_n 1, 1, 0, 0, 0, .null), (.iload_n 2, 1, 0, 0, 0, .null)]), (84, [(.aload_n 0, 1, 0, 0, 0, .null), (.aload_n 0, 1, 0, 0, 0, .null), (.getfield 167, 3, 11, 130, 4, .null), (.iload 7, 2, 0, 0, 0, .null), (.iaload, 1, 0, 0, 0, .null), (.aload_n 0, 1, 0, 0, 0, .null), (.getfield 167, 3, 11, 130, 4, .null), (.iload 8, 2, 0, 0, 0, .null), (.iaload, 1, 0, 0, 0, .null), (.iadd, 1, 0, 0, 0, .null), (.aload_n 0, 1, 0, 0, 0, .null), (.getfield 170, 3, 11, 131, 4, .null), (.iload 7, 2, 0, 0, 0, .null), (.iaload, 1, 0, 0, 0, .null), (.aload_n 0, 1, 0, 0, 0, .null), (.getfield 170, 3, 11, 131, 4, .null), (.iload 8, 2, 0, 0, 0, .null), (.iaload, 1, 0, 0, 0, .null), (.iadd, 1, 0, 0, 0, .null), (.iconst 1, 1, 0, 0, 0, (.int (1 : Int32)))]), (119, [(.iinc 7 1, 3, 0, 0, 0, (.int (1 : Int32)))]), (125, [(.iload_n 1, 1, 0, 0, 0, .null), (.iload_n 2, 1, 0, 0, 0, .null)]), (172, [(.iconst 0, 1, 0, 0, 0, (.int (0 : Int32))), (.istore 7, 2, 0, 0, 0, .null)]), (175, [(.aload_n 0, 1, 0, 0, 0, .null), (.getfield 185, 3, 11, 138, 4, .null), (.iload 7, 2, 0, 0, 0, .null), (.baload, 1, 101, 0, 0, .null)]), (185, [(.iinc 7 1, 3, 0, 0, 0, (.int (1 : Int32)))]), (191, [(.iconst 0, 1, 0, 0, 0, (.int (0 : Int32))), (.istore 8, 2, 0, 0, 0, .null)]), (194, [(.iload 8, 2, 0, 0, 0, .null), (.aload_n 0, 1, 0, 0, 0, .null), (.getfield 835, 3, 11, 135, 0, .null)]), (203, [(.iload 7, 2, 0, 0, 0, .null), (.iload 8, 2, 0, 0, 0, .null), (.iadd, 1, 0, 0, 0, .null), (.aload_n 0, 1, 0, 0, 0, .null), (.getfield 835, 3, 11, 135, 0, .null), (.irem, 1, 0, 0, 0, .null), (.istore 9, 2, 0, 0, 0, .null)]), (215, [(.iload 9, 2, 0, 0, 0, .null), (.iconst 1, 1, 0, 0, 0, (.int (1 : Int32))), (.iadd, 1, 0, 0, 0, .null), (.aload_n 0, 1, 0, 0, 0, .null), (.getfield 835, 3, 11, 135, 0, .null), (.irem, 1, 0, 0, 0, .null), (.istore 10, 2, 0, 0, 0, .null)]), (226, [(.iload 9, 2, 0, 0, 0, .null), (.iconst 2, 1, 0, 0, 0, (.int (2 : Int32))), (.iadd, 1, 0, 0, 0, .null), (.aload_n 0, 1, 0, 0, 0, .null), (.getfield 835, 3, 11, 135, 0, .null), (.irem, 1, 0, 0, 0, .null), (.istore 11, 2, 0, 0, 0, .null)]), (237, [(.aload_n 0, 1, 0, 0, 0, .null), (.getfield 185, 3, 11, 138, 4, .null), (.iload 10, 2, 0, 0, 0, .null), (.baload, 1, 101, 0, 0, .null)]), (299, [(.aload_n 0, 1, 0, 0, 0, .null), (.aload_n 0, 1, 0, 0, 0, .null), (.getfield 179, 3, 11, 136, 4, .null), (.iload 9, 2, 0, 0, 0, .null), (.iaload, 1, 0, 0, 0, .null), (.i2l, 1, 0, 0, 0, .null), (.lload_n 3, 1, 0, 0, 0, .null), (.lsub, 1, 0, 0, 0, .null), (.aload_n 0, 1, 0, 0, 0, .null), (.getfield 182, 3, 11, 137, 4, .null), (.iload 9, 2, 0, 0, 0, .null), (.iaload, 1, 0, 0, 0, .null), (.i2l, 1, 0, 0, 0, .null), (.lload 5, 2, 0, 0, 0, .null), (.lsub, 1, 0, 0, 0, .null), (.aload_n 0, 1, 0, 0, 0, .null), (.getfield 179, 3, 11, 136, 4, .null), (.iload 10, 2, 0, 0, 0, .null), (.iaload, 1, 0, 0, 0, .null), (.i2l, 1, 0, 0, 0, .null), (.lload_n 3, 1, 0, 0, 0, .null), (.lsub, 1, 0, 0, 0, .null), (.aload_n 0, 1, 0, 0, 0, .null), (.getfield 182, 3, 11, 137, 4, .null), (.iload 10, 2, 0, 0, 0, .null), (.iaload, 1, 0, 0, 0, .null), (.i2l, 1, 0, 0, 0, .null), (.lload 5, 2, 0, 0, 0, .null), (.lsub, 1, 0, 0, 0, .null), (.aload_n 0, 1, 0, 0, 0, .null), (.getfield 179, 3, 11, 136, 4, .null), (.iload 11, 2, 0, 0, 0, .null), (.iaload, 1, 0, 0, 0, .null), (.i2l, 1, 0, 0, 0, .null), (.lload_n 3, 1, 0, 0, 0, .null), (.lsub, 1, 0, 0, 0, .null), (.aload_n 0, 1, 0, 0, 0, .null), (.getfield 182, 3, 11, 137, 4, .null), (.iload 11, 2, 0, 0, 0, .null), (.iaload, 1, 0, 0, 0, .null), (.i2l, 1, 0, 0, 0, .null), (.lload 5, 2, 0, 0, 0, .null), (.lsub, 1, 0, 0, 0, .null)]), (366, [(.iinc 8 2, 3, 0, 0, 0, (.int (2 : Int32)))]), (247, [(.aload_n 0, 1, 0, 0, 0, .null), (.aload_n 0, 1, 0, 0, 0, .null), (.getfield 179, 3, 11, 136, 4, .null), (.iload 9, 2, 0, 0, 0, .null), (.iaload, 1, 0, 0, 0, .null), (.i2l, 1, 0, 0, 0, .null), (.lload_n 3, 1, 0, 0, 0, .null), (.lsub, 1, 0, 0, 0, .null), (.aload_n 0, 1, 0, 0, 0, .null), (.getfield 182, 3, 11, 137, 4, .null), (.iload 9, 2, 0, 0, 0, .null), (.iaload, 1, 0, 0, 0, .null), (.i2l, 1, 0, 0, 0, .null), (.lload 5, 2, 0, 0, 0, .null), (.lsub, 1, 0, 0, 0, .null), (.aload_n 0, 1, 0, 0, 0, .null), (.getfield 179, 3, 11, 136, 4, .null), (.iload 10, 2, 0, 0, 0, .null), (.iaload, 1, 0, 0, 0, .null), (.i2l, 1, 0, 0, 0, .null), (.lload_n 3, 1, 0, 0, 0, .null), (.lsub, 1, 0, 0, 0, .null), (.aload_n 0, 1, 0, 0, 0, .null), (.getfield 182, 3, 11, 137, 4, .null), (.iload 10, 2, 0, 0, 0, .null), (.iaload, 1, 0, 0, 0, .null), (.i2l, 1, 0, 0, 0, .null), (.lload 5, 2, 0, 0, 0, .null), (.lsub, 1, 0, 0, 0, .null)]), (293, [(.iinc 8 1, 3, 0, 0, 0, (.int (1 : Int32)))]), (130, [(.aload_n 0, 1, 0, 0, 0, .null), (.aload_n 0, 1, 0, 0, 0, .null), (.getfield 846, 3, 11, 140, 1, .null)]), (163, [(.iconst 1, 1, 0, 0, 0, (.int (1 : Int32)))]), (138, [(.aload_n 0, 1, 0, 0, 0, .null), (.getfield 179, 3, 11, 136, 4, .null), (.iconst 0, 1, 0, 0, 0, (.int (0 : Int32))), (.iaload, 1, 0, 0, 0, .null), (.i2l, 1, 0, 0, 0, .null), (.lload_n 3, 1, 0, 0, 0, .null), (.lcmp, 1, 0, 0, 0, .null)]), (167, [(.iconst 0, 1, 0, 0, 0, (.int (0 : Int32)))]), (150, [(.aload_n 0, 1, 0, 0, 0, .null), (.getfield 182, 3, 11, 137, 4, .null), (.iconst 0, 1, 0, 0, 0, (.int (0 : Int32))), (.iaload, 1, 0, 0, 0, .null), (.i2l, 1, 0, 0, 0, .null), (.lload 5, 2, 0, 0, 0, .null), (.lcmp, 1, 0, 0, 0, .null)]), (168, [(.putfield 846, 3, 11, 140, 1, .null)])], [(21, .goto 7, 3), (17, .if_icmp .ne 7, 3), (56, .invokevirtual 859, 3), (81, .if_icmp .eq 38, 3), (76, .ifCond .ne 43, 3), (66, .ifCond .ne 53, 3), (116, .invokevirtual 859, 3), (122, .goto (-114), 3), (11, .if_icmp .gt 114, 3), (188, .goto (-13), 3), (182, .ifCond .ne 9, 3), (363, .invokevirtual 863, 3), (290, .invokevirtual 855, 3), (296, .goto 73, 3), (244, .ifCond .eq 55, 3), (369, .goto (-175), 3), (200, .if_icmp .ge 172, 3), (372, .return_, 1), (164, .goto 4, 3), (160, .ifCond .ne 7, 3), (147, .ifCond .ne 20, 3), (135, .ifCond .ne 28, 3), (171, .return_, 1), (127, .if_icmp .ne 45, 3)])
set_option maxRecDepth 100000 in
theorem m_Mo_contour : hx_mok M_Mo_contour = true := by decide +kernel
theorem pd_Mo_contour : (parseMethodDescriptor M_Mo_contour.2.1.desc).map (fun q => q.parameters.length) = some 4 := by decide +kernel
theorem y_Mo_contour : hx_okV M_Mo_contour := ⟨⟨lw_g (lw_at lw_m11 89 rfl) rfl, lw_g (lw_at lw_m11 88 rfl) rfl, qs201, lw_g (lw_at lw_m1 12 rfl) rfl, rfl, by decide, by decide, by decide⟩, rfl, by decide, plainFor_of_name (by decide)⟩
noncomputable def f_Mo_contour (x1 : Int32) (x2 : Int32) (x3 : Int64) (x4 : Int64) (h : hH) : Option (Unit × hH) :=
  lz (wrI h 192 135 (0 : Int32)) fun h1 =>
  bP (A := hH) (
    wh (A := (Int32 × hH)) (B := hH) (fun p1 =>
        if x2 < p1.1 then (
          some (.inr p1.2)
        ) else (
          lz (A := Int32) (if p1.1 = x2 then x1 else (p1.1 + (1 : Int32))) fun p3 =>
          gd (vp_in p1.1 100) <|
          bS (f_Mo_node ((2 : Int32) * (rdI p1.2 243 (Int32.toNatClampNeg p1.1))) ((2 : Int32) * (rdI p1.2 244 (Int32.toNatClampNeg p1.1))) (rdI p1.2 245 (Int32.toNatClampNeg p1.1)) p1.2) fun _ h2 =>
          gd (vp_in p1.1 100) <|
          bP (A := hH) (
            cO (
              if (rdI h2 245 (Int32.toNatClampNeg p1.1)) = 0 then (
                gd (vp_in p3 100) <|
                if ((rdI h2 245 (Int32.toNatClampNeg p3)) = 0 ∧ ¬ (x1 = x2)) then (
                  some true
                ) else (
                  some false
                )
              ) else (
                some false
              )
            ) (
              gd (vp_in p1.1 100 ∧ vp_in p3 100) <|
              bS (f_Mo_node ((rdI h2 243 (Int32.toNatClampNeg p1.1)) + (rdI h2 243 (Int32.toNatClampNeg p3))) ((rdI h2 244 (Int32.toNatClampNeg p1.1)) + (rdI h2 244 (Int32.toNatClampNeg p3))) (1 : Int32) h2) fun _ h3 =>
              some h3
            ) (
              some h2
            )
          ) fun p7 =>
          lz (A := Int32) (p1.1 + (1 : Int32)) fun v23 =>
          some (.inl (v23, p7))
        )
    ) (x1, h1)
  ) fun p2 =>
  if x1 = x2 then (
    lz (A := Int32) (if (rdI p2 192 140) = 0 then (if (Int32.toInt64 (rdI p2 247 0)) = x3 then (if (Int32.toInt64 (rdI p2 248 0)) = x4 then (1 : Int32) else (0 : Int32)) else (0 : Int32)) else (1 : Int32)) fun p46 =>
    gd ((p46 = 0 ∨ p46 = 1)) <|
    lz (wrI p2 192 140 p46) fun h6 =>
    some ((), h6)
  ) else (
    bP (A := Int32) (
      wh (A := Int32) (B := Int32) (fun p25 =>
          gd (vp_in p25 220) <|
          if (rdI p2 249 (Int32.toNatClampNeg p25)) = 0 then (
            lz (A := Int32) (p25 + (1 : Int32)) fun v28 =>
            some (.inl v28)
          ) else (
            some (.inr p25)
          )
      ) (0 : Int32)
    ) fun p26 =>
    bP (A := hH) (
      wh (A := (Int32 × hH)) (B := hH) (fun p30 =>
          if (rdI p30.2 192 135) ≤ p30.1 then (
            some (.inr p30.2)
          ) else (
            gd (¬ (rdI p30.2 192 135) = 0) <|
            lz (A := Int32) (hx_rm (p26 + p30.1) (rdI p30.2 192 135)) fun v32 =>
            gd (¬ (rdI p30.2 192 135) = 0) <|
            lz (A := Int32) (hx_rm (v32 + (1 : Int32)) (rdI p30.2 192 135)) fun v34 =>
            gd (¬ (rdI p30.2 192 135) = 0) <|
            lz (A := Int32) (hx_rm (v32 + (2 : Int32)) (rdI p30.2 192 135)) fun v36 =>
            gd (vp_in v34 220) <|
            bP (A := (Int32 × hH)) (
              if (rdI p30.2 249 (Int32.toNatClampNeg v34)) = 0 then (
                gd (vp_in v32 220 ∧ vp_in v34 220 ∧ vp_in v36 220) <|
                bS (f_Mo_curve ((Int32.toInt64 (rdI p30.2 247 (Int32.toNatClampNeg v32))) - x3) ((Int32.toInt64 (rdI p30.2 248 (Int32.toNatClampNeg v32))) - x4) ((Int32.toInt64 (rdI p30.2 247 (Int32.toNatClampNeg v34))) - x3) ((Int32.toInt64 (rdI p30.2 248 (Int32.toNatClampNeg v34))) - x4) ((Int32.toInt64 (rdI p30.2 247 (Int32.toNatClampNeg v36))) - x3) ((Int32.toInt64 (rdI p30.2 248 (Int32.toNatClampNeg v36))) - x4) p30.2) fun _ h4 =>
                lz (A := Int32) (p30.1 + (2 : Int32)) fun v41 =>
                some (v41, h4)
              ) else (
                gd (vp_in v32 220 ∧ vp_in v34 220) <|
                bS (f_Mo_straight ((Int32.toInt64 (rdI p30.2 247 (Int32.toNatClampNeg v32))) - x3) ((Int32.toInt64 (rdI p30.2 248 (Int32.toNatClampNeg v32))) - x4) ((Int32.toInt64 (rdI p30.2 247 (Int32.toNatClampNeg v34))) - x3) ((Int32.toInt64 (rdI p30.2 248 (Int32.toNatClampNeg v34))) - x4) p30.2) fun _ h5 =>
                lz (A := Int32) (p30.1 + (1 : Int32)) fun v43 =>
                some (v43, h5)
              )
            ) fun p39 =>
            some (.inl (p39.1, p39.2))
          )
      ) ((0 : Int32), p2)
    ) fun p31 =>
    some ((), p31)
  )
set_option maxRecDepth 20000 in
theorem k_Mo_contour (x1 : Int32) (x2 : Int32) (x3 : Int64) (x4 : Int64) (h : hH) : hx_kS S0 M_Mo_contour 4 NT [(.ref 192), (.int x1), (.int x2), (.long x3), (.long x4)] h (f_Mo_contour x1 x2 x3 x4 h) cvU := by
  have hm := m_Mo_contour
  show hx_P S0 M_Mo_contour 4 0 [(0, (.ref 192)), (1, (.int x1)), (2, (.int x2)), (3, (.long x3)), (5, (.long x4))] [] NT h (f_Mo_contour x1 x2 x3 x4 h) (hx_Rc cvU NT)
  unfold f_Mo_contour
  refine hp_w hm (at1 0 rfl) (L' := [(0, (.ref 192)), (1, (.int x1)), (2, (.int x2)), (3, (.long x3)), (5, (.long x4))]) rfl (by exact og_192) (pc' := 5) rfl (fun h1 => ?_)
  refine hp_b hm (at1 1 rfl) (L' := [(7, (.int x1)), (0, (.ref 192)), (1, (.int x1)), (2, (.int x2)), (3, (.long x3)), (5, (.long x4))]) (st' := []) rfl (by exact trivial) (pc' := 8) rfl ?_
  refine hp_J 125 (fun (p2 : hH) => [(0, (.ref 192)), (1, (.int x1)), (2, (.int x2)), (3, (.long x3)), (5, (.long x4))]) (fun (p2 : hH) => []) (fun (p2 : hH) => p2) ?_ (fun p2 => ?_)
  · refine hp_s [1, 2, 3, 4, 5, 0] rfl (L' := [(0, (.ref 192)), (1, (.int x1)), (2, (.int x2)), (3, (.long x3)), (5, (.long x4)), (7, (.int x1))]) ?_
    refine hp_wh (fun (p1 : (Int32 × hH)) => [(0, (.ref 192)), (1, (.int x1)), (2, (.int x2)), (3, (.long x3)), (5, (.long x4)), (7, (.int p1.1))]) [] (fun (p1 : (Int32 × hH)) => p1.2) (fun p1 => ?_) (x1, h1)
    refine hp_ic_gt hm (at1 2 rfl) rfl (by exact trivial) (pc' := 11) rfl 8 rfl (tgt := 125) rfl (fun c24 => ?_) (fun c24 => ?_)
    · exact hp_lf [0, 1, 2, 3, 4] rfl (fun _ e => e)
    · refine hp_JZ 28 (fun (p3 : Int32) => [(0, (.ref 192)), (1, (.int x1)), (2, (.int x2)), (3, (.long x3)), (5, (.long x4)), (7, (.int p1.1))]) (fun (p3 : Int32) => [(.int p3)]) (fun (p3 : Int32) => p1.2) ?_ (fun p3 => ?_)
      · refine hp_sv0 ?_
        refine hp_ic_ne hm (at1 3 rfl) rfl (by exact trivial) (pc' := 17) rfl 1 rfl (tgt := 24) rfl (fun c4 => ?_) (fun c4 => ?_)
        · refine hp_b hm (at1 4 rfl) (L' := [(0, (.ref 192)), (1, (.int x1)), (2, (.int x2)), (3, (.long x3)), (5, (.long x4)), (7, (.int p1.1))]) (st' := [(.int (p1.1 + (1 : Int32)))]) rfl (by exact trivial) (pc' := 28) rfl ?_
          exact hp_lf [0, 1, 2, 3, 4, 5] rfl (fun _ e => e)
        · refine hp_b hm (at1 5 rfl) (L' := [(0, (.ref 192)), (1, (.int x1)), (2, (.int x2)), (3, (.long x3)), (5, (.long x4)), (7, (.int p1.1))]) (st' := [(.int x1)]) rfl (by exact trivial) (pc' := 21) rfl ?_
          refine hp_goto hm 0 rfl (tgt := 28) rfl ?_
          exact hp_lf [0, 1, 2, 3, 4, 5] rfl (fun _ e => e)
      · refine hp_G hm (at1 6 rfl) (L' := [(8, (.int p3)), (0, (.ref 192)), (1, (.int x1)), (2, (.int x2)), (3, (.long x3)), (5, (.long x4)), (7, (.int p1.1))]) (st' := [(.int (rdI p1.2 245 (Int32.toNatClampNeg p1.1))), (.int ((2 : Int32) * (rdI p1.2 244 (Int32.toNatClampNeg p1.1)))), (.int ((2 : Int32) * (rdI p1.2 243 (Int32.toNatClampNeg p1.1)))), (.ref 192)]) rfl (fun hP => (by exact ⟨⟨⟨⟨⟨og_192, ⟨og_243, hP⟩⟩, og_192⟩, ⟨og_244, hP⟩⟩, og_192⟩, ⟨og_245, hP⟩⟩)) (pc' := 56) rfl (fun q5 => ?_)
        refine hp_cVS (M2 := M_Mo_node) hm at0 (as := [(.int ((2 : Int32) * (rdI p1.2 243 (Int32.toNatClampNeg p1.1)))), (.int ((2 : Int32) * (rdI p1.2 244 (Int32.toNatClampNeg p1.1)))), (.int (rdI p1.2 245 (Int32.toNatClampNeg p1.1)))]) (rest := []) (z := 192) rfl (by exact trivial) (pc' := 56) rfl 2 rfl (lw_g (lw_at lw_m11 90 rfl) rfl) y_Mo_node rfl (d2 := 1) ⟨le_b rfl, pd_Mo_node, le_b rfl⟩ (le_b rfl) og_192 (k_Mo_node ((2 : Int32) * (rdI p1.2 243 (Int32.toNatClampNeg p1.1))) ((2 : Int32) * (rdI p1.2 244 (Int32.toNatClampNeg p1.1))) (rdI p1.2 245 (Int32.toNatClampNeg p1.1)) p1.2) (fun _ h2 => ?_)
        refine hp_G hm (at1 7 rfl) (L' := [(8, (.int p3)), (0, (.ref 192)), (1, (.int x1)), (2, (.int x2)), (3, (.long x3)), (5, (.long x4)), (7, (.int p1.1))]) (st' := [(.int (rdI h2 245 (Int32.toNatClampNeg p1.1)))]) rfl (fun hP => (by exact ⟨og_192, ⟨og_245, hP⟩⟩)) (pc' := 66) rfl (fun q6 => ?_)
        refine hp_J 119 (fun (p7 : hH) => [(0, (.ref 192)), (1, (.int x1)), (2, (.int x2)), (3, (.long x3)), (5, (.long x4)), (7, (.int p1.1))]) (fun (p7 : hH) => []) (fun (p7 : hH) => p7) ?_ (fun p7 => ?_)
        · refine hp_cO (L0 := [(8, (.int p3)), (0, (.ref 192)), (1, (.int x1)), (2, (.int x2)), (3, (.long x3)), (5, (.long x4)), (7, (.int p1.1))]) (s0 := []) 84 119 ?_ ?_ ?_
          · refine hp_if_ne hm at0 rfl (by exact trivial) (pc' := 66) rfl 5 rfl (tgt := 119) rfl (fun c14 => ?_) (fun c14 => ?_)
            · exact hp_l0 (fun _ e => e)
            · refine hp_G hm (at1 8 rfl) (L' := [(8, (.int p3)), (0, (.ref 192)), (1, (.int x1)), (2, (.int x2)), (3, (.long x3)), (5, (.long x4)), (7, (.int p1.1))]) (st' := [(.int (rdI h2 245 (Int32.toNatClampNeg p3)))]) rfl (fun hP => (by exact ⟨og_192, ⟨og_245, hP⟩⟩)) (pc' := 76) rfl (fun q8 => ?_)
              refine hp_cI (L0 := [(8, (.int p3)), (0, (.ref 192)), (1, (.int x1)), (2, (.int x2)), (3, (.long x3)), (5, (.long x4)), (7, (.int p1.1))]) (s0 := []) 84 119 ?_ (fun c13 => ?_) (fun c13 => ?_)
              · refine hp_and ?_
                refine hp_if_ne hm at0 rfl (by exact trivial) (pc' := 76) rfl 4 rfl (tgt := 119) rfl (fun c10 => ?_) (fun c10 => ?_)
                · exact hp_l0 (fun _ e => e)
                · refine hp_decn ?_
                  refine hp_ic_eq hm (at1 9 rfl) rfl (by exact trivial) (pc' := 81) rfl 3 rfl (tgt := 119) rfl (fun c9 => ?_) (fun c9 => ?_)
                  · exact hp_l0 (fun _ e => e)
                  · exact hp_l0 (fun _ e => e)
              · exact hp_l0 (fun _ e => e)
              · exact hp_l0 (fun _ e => e)
          · refine hp_G hm (at1 10 rfl) (L' := [(8, (.int p3)), (0, (.ref 192)), (1, (.int x1)), (2, (.int x2)), (3, (.long x3)), (5, (.long x4)), (7, (.int p1.1))]) (st' := [(.int (1 : Int32)), (.int ((rdI h2 244 (Int32.toNatClampNeg p1.1)) + (rdI h2 244 (Int32.toNatClampNeg p3)))), (.int ((rdI h2 243 (Int32.toNatClampNeg p1.1)) + (rdI h2 243 (Int32.toNatClampNeg p3)))), (.ref 192)]) rfl (fun hP => (by exact ⟨⟨⟨⟨⟨⟨⟨og_192, ⟨og_243, hP.1⟩⟩, og_192⟩, ⟨og_243, hP.2⟩⟩, og_192⟩, ⟨og_244, hP.1⟩⟩, og_192⟩, ⟨og_244, hP.2⟩⟩)) (pc' := 116) rfl (fun q22 => ?_)
            refine hp_cVS (M2 := M_Mo_node) hm at0 (as := [(.int ((rdI h2 243 (Int32.toNatClampNeg p1.1)) + (rdI h2 243 (Int32.toNatClampNeg p3)))), (.int ((rdI h2 244 (Int32.toNatClampNeg p1.1)) + (rdI h2 244 (Int32.toNatClampNeg p3)))), (.int (1 : Int32))]) (rest := []) (z := 192) rfl (by exact trivial) (pc' := 116) rfl 6 rfl (lw_g (lw_at lw_m11 90 rfl) rfl) y_Mo_node rfl (d2 := 1) ⟨le_b rfl, pd_Mo_node, le_b rfl⟩ (le_b rfl) og_192 (k_Mo_node ((rdI h2 243 (Int32.toNatClampNeg p1.1)) + (rdI h2 243 (Int32.toNatClampNeg p3))) ((rdI h2 244 (Int32.toNatClampNeg p1.1)) + (rdI h2 244 (Int32.toNatClampNeg p3))) (1 : Int32) h2) (fun _ h3 => ?_)
            exact hp_lf [1, 2, 3, 4, 5, 6] rfl (fun _ e => e)
          · exact hp_lf [1, 2, 3, 4, 5, 6] rfl (fun _ e => e)
        · refine hp_z hm (at1 11 rfl) (fun (v23 : Int32) => [(7, (.int v23)), (0, (.ref 192)), (1, (.int x1)), (2, (.int x2)), (3, (.long x3)), (5, (.long x4))]) (fun (v23 : Int32) => []) rfl (by exact trivial) (pc' := 122) rfl (fun v23 => ?_)
          refine hp_goto hm 7 rfl (tgt := 8) rfl ?_
          exact hp_lf [1, 2, 3, 4, 5, 0] rfl (fun _ e => e)
  · refine hp_ic_ne hm (at1 12 rfl) rfl (by exact trivial) (pc' := 127) rfl 23 rfl (tgt := 172) rfl (fun c51 => ?_) (fun c51 => ?_)
    · refine hp_b hm (at1 13 rfl) (L' := [(7, (.int (0 : Int32))), (0, (.ref 192)), (1, (.int x1)), (2, (.int x2)), (3, (.long x3)), (5, (.long x4))]) (st' := []) rfl (by exact trivial) (pc' := 175) rfl ?_
      refine hp_J 191 (fun (p26 : Int32) => [(0, (.ref 192)), (3, (.long x3)), (5, (.long x4)), (7, (.int p26))]) (fun (p26 : Int32) => []) (fun (p26 : Int32) => p2) ?_ (fun p26 => ?_)
      · refine hp_s [1, 4, 5, 0] rfl (L' := [(0, (.ref 192)), (3, (.long x3)), (5, (.long x4)), (7, (.int (0 : Int32)))]) ?_
        refine hp_wh (fun (p25 : Int32) => [(0, (.ref 192)), (3, (.long x3)), (5, (.long x4)), (7, (.int p25))]) [] (fun (p25 : Int32) => p2) (fun p25 => ?_) (0 : Int32)
        refine hp_G hm (at1 14 rfl) (L' := [(0, (.ref 192)), (3, (.long x3)), (5, (.long x4)), (7, (.int p25))]) (st' := [(.int (rdI p2 249 (Int32.toNatClampNeg p25)))]) rfl (fun hP => (by exact ⟨og_192, ⟨og_249, hP⟩⟩)) (pc' := 182) rfl (fun q27 => ?_)
        refine hp_if_ne hm at0 rfl (by exact trivial) (pc' := 182) rfl 10 rfl (tgt := 191) rfl (fun c29 => ?_) (fun c29 => ?_)
        · exact hp_lf [0, 1, 2, 3] rfl (fun _ e => e)
        · refine hp_z hm (at1 15 rfl) (fun (v28 : Int32) => [(7, (.int v28)), (0, (.ref 192)), (3, (.long x3)), (5, (.long x4))]) (fun (v28 : Int32) => []) rfl (by exact trivial) (pc' := 188) rfl (fun v28 => ?_)
          refine hp_goto hm 9 rfl (tgt := 175) rfl ?_
          exact hp_lf [1, 2, 3, 0] rfl (fun _ e => e)
      · refine hp_b hm (at1 16 rfl) (L' := [(8, (.int (0 : Int32))), (0, (.ref 192)), (3, (.long x3)), (5, (.long x4)), (7, (.int p26))]) (st' := []) rfl (by exact trivial) (pc' := 194) rfl ?_
        refine hp_J 372 (fun (p31 : hH) => []) (fun (p31 : hH) => []) (fun (p31 : hH) => p31) ?_ (fun p31 => ?_)
        · refine hp_s [1, 2, 3, 4, 0] rfl (L' := [(0, (.ref 192)), (3, (.long x3)), (5, (.long x4)), (7, (.int p26)), (8, (.int (0 : Int32)))]) ?_
          refine hp_wh (fun (p30 : (Int32 × hH)) => [(0, (.ref 192)), (3, (.long x3)), (5, (.long x4)), (7, (.int p26)), (8, (.int p30.1))]) [] (fun (p30 : (Int32 × hH)) => p30.2) (fun p30 => ?_) ((0 : Int32), p2)
          refine hp_ic_ge hm (at1 17 rfl) rfl (by exact og_192) (pc' := 200) rfl 16 rfl (tgt := 372) rfl (fun c45 => ?_) (fun c45 => ?_)
          · exact hp_lf [] rfl (fun _ e => e)
          · refine hp_GZ hm (at1 18 rfl) (fun (v32 : Int32) => [(9, (.int v32)), (0, (.ref 192)), (3, (.long x3)), (5, (.long x4)), (7, (.int p26)), (8, (.int p30.1))]) (fun (v32 : Int32) => []) rfl (fun hP => (by exact ⟨og_192, hP⟩)) (pc' := 215) rfl (fun q33 v32 => ?_)
            refine hp_GZ hm (at1 19 rfl) (fun (v34 : Int32) => [(10, (.int v34)), (9, (.int v32)), (0, (.ref 192)), (3, (.long x3)), (5, (.long x4)), (7, (.int p26)), (8, (.int p30.1))]) (fun (v34 : Int32) => []) rfl (fun hP => (by exact ⟨og_192, hP⟩)) (pc' := 226) rfl (fun q35 v34 => ?_)
            refine hp_GZ hm (at1 20 rfl) (fun (v36 : Int32) => [(11, (.int v36)), (10, (.int v34)), (9, (.int v32)), (0, (.ref 192)), (3, (.long x3)), (5, (.long x4)), (7, (.int p26)), (8, (.int p30.1))]) (fun (v36 : Int32) => []) rfl (fun hP => (by exact ⟨og_192, hP⟩)) (pc' := 237) rfl (fun q37 v36 => ?_)
            refine hp_G hm (at1 21 rfl) (L' := [(11, (.int v36)), (10, (.int v34)), (9, (.int v32)), (0, (.ref 192)), (3, (.long x3)), (5, (.long x4)), (7, (.int p26)), (8, (.int p30.1))]) (st' := [(.int (rdI p30.2 249 (Int32.toNatClampNeg v34)))]) rfl (fun hP => (by exact ⟨og_192, ⟨og_249, hP⟩⟩)) (pc' := 244) rfl (fun q38 => ?_)
            refine hp_J 369 (fun (p39 : (Int32 × hH)) => [(0, (.ref 192)), (3, (.long x3)), (5, (.long x4)), (7, (.int p26)), (8, (.int p39.1))]) (fun (p39 : (Int32 × hH)) => []) (fun (p39 : (Int32 × hH)) => p39.2) ?_ (fun p39 => ?_)
            · refine hp_if_eq hm at0 rfl (by exact trivial) (pc' := 244) rfl 14 rfl (tgt := 299) rfl (fun c44 => ?_) (fun c44 => ?_)
              · refine hp_G hm (at1 22 rfl) (L' := [(11, (.int v36)), (10, (.int v34)), (9, (.int v32)), (0, (.ref 192)), (3, (.long x3)), (5, (.long x4)), (7, (.int p26)), (8, (.int p30.1))]) (st' := [(.long ((Int32.toInt64 (rdI p30.2 248 (Int32.toNatClampNeg v36))) - x4)), (.long ((Int32.toInt64 (rdI p30.2 247 (Int32.toNatClampNeg v36))) - x3)), (.long ((Int32.toInt64 (rdI p30.2 248 (Int32.toNatClampNeg v34))) - x4)), (.long ((Int32.toInt64 (rdI p30.2 247 (Int32.toNatClampNeg v34))) - x3)), (.long ((Int32.toInt64 (rdI p30.2 248 (Int32.toNatClampNeg v32))) - x4)), (.long ((Int32.toInt64 (rdI p30.2 247 (Int32.toNatClampNeg v32))) - x3)), (.ref 192)]) rfl (fun hP => (by exact ⟨⟨⟨⟨⟨⟨⟨⟨⟨⟨⟨og_192, ⟨og_247, hP.1⟩⟩, og_192⟩, ⟨og_248, hP.1⟩⟩, og_192⟩, ⟨og_247, hP.2.1⟩⟩, og_192⟩, ⟨og_248, hP.2.1⟩⟩, og_192⟩, ⟨og_247, hP.2.2⟩⟩, og_192⟩, ⟨og_248, hP.2.2⟩⟩)) (pc' := 363) rfl (fun q40 => ?_)
                refine hp_cVS (M2 := M_Mo_curve) hm at0 (as := [(.long ((Int32.toInt64 (rdI p30.2 247 (Int32.toNatClampNeg v32))) - x3)), (.long ((Int32.toInt64 (rdI p30.2 248 (Int32.toNatClampNeg v32))) - x4)), (.long ((Int32.toInt64 (rdI p30.2 247 (Int32.toNatClampNeg v34))) - x3)), (.long ((Int32.toInt64 (rdI p30.2 248 (Int32.toNatClampNeg v34))) - x4)), (.long ((Int32.toInt64 (rdI p30.2 247 (Int32.toNatClampNeg v36))) - x3)), (.long ((Int32.toInt64 (rdI p30.2 248 (Int32.toNatClampNeg v36))) - x4))]) (rest := []) (z := 192) rfl (by exact trivial) (pc' := 363) rfl 11 rfl (lw_g (lw_at lw_m11 104 rfl) rfl) y_Mo_curve rfl (d2 := 3) ⟨le_b rfl, pd_Mo_curve, le_b rfl⟩ (le_b rfl) og_192 (k_Mo_curve ((Int32.toInt64 (rdI p30.2 247 (Int32.toNatClampNeg v32))) - x3) ((Int32.toInt64 (rdI p30.2 248 (Int32.toNatClampNeg v32))) - x4) ((Int32.toInt64 (rdI p30.2 247 (Int32.toNatClampNeg v34))) - x3) ((Int32.toInt64 (rdI p30.2 248 (Int32.toNatClampNeg v34))) - x4) ((Int32.toInt64 (rdI p30.2 247 (Int32.toNatClampNeg v36))) - x3) ((Int32.toInt64 (rdI p30.2 248 (Int32.toNatClampNeg v36))) - x4) p30.2) (fun _ h4 => ?_)
                refine hp_z hm (at1 23 rfl) (fun (v41 : Int32) => [(8, (.int v41)), (11, (.int v36)), (10, (.int v34)), (9, (.int v32)), (0, (.ref 192)), (3, (.long x3)), (5, (.long x4)), (7, (.int p26))]) (fun (v41 : Int32) => []) rfl (by exact trivial) (pc' := 369) rfl (fun v41 => ?_)
                exact hp_lf [4, 5, 6, 7, 0] rfl (fun _ e => e)
              · refine hp_G hm (at1 24 rfl) (L' := [(11, (.int v36)), (10, (.int v34)), (9, (.int v32)), (0, (.ref 192)), (3, (.long x3)), (5, (.long x4)), (7, (.int p26)), (8, (.int p30.1))]) (st' := [(.long ((Int32.toInt64 (rdI p30.2 248 (Int32.toNatClampNeg v34))) - x4)), (.long ((Int32.toInt64 (rdI p30.2 247 (Int32.toNatClampNeg v34))) - x3)), (.long ((Int32.toInt64 (rdI p30.2 248 (Int32.toNatClampNeg v32))) - x4)), (.long ((Int32.toInt64 (rdI p30.2 247 (Int32.toNatClampNeg v32))) - x3)), (.ref 192)]) rfl (fun hP => (by exact ⟨⟨⟨⟨⟨⟨⟨og_192, ⟨og_247, hP.1⟩⟩, og_192⟩, ⟨og_248, hP.1⟩⟩, og_192⟩, ⟨og_247, hP.2⟩⟩, og_192⟩, ⟨og_248, hP.2⟩⟩)) (pc' := 290) rfl (fun q42 => ?_)
                refine hp_cVS (M2 := M_Mo_straight) hm at0 (as := [(.long ((Int32.toInt64 (rdI p30.2 247 (Int32.toNatClampNeg v32))) - x3)), (.long ((Int32.toInt64 (rdI p30.2 248 (Int32.toNatClampNeg v32))) - x4)), (.long ((Int32.toInt64 (rdI p30.2 247 (Int32.toNatClampNeg v34))) - x3)), (.long ((Int32.toInt64 (rdI p30.2 248 (Int32.toNatClampNeg v34))) - x4))]) (rest := []) (z := 192) rfl (by exact trivial) (pc' := 290) rfl 12 rfl (lw_g (lw_at lw_m11 94 rfl) rfl) y_Mo_straight rfl (d2 := 2) ⟨le_b rfl, pd_Mo_straight, le_b rfl⟩ (le_b rfl) og_192 (k_Mo_straight ((Int32.toInt64 (rdI p30.2 247 (Int32.toNatClampNeg v32))) - x3) ((Int32.toInt64 (rdI p30.2 248 (Int32.toNatClampNeg v32))) - x4) ((Int32.toInt64 (rdI p30.2 247 (Int32.toNatClampNeg v34))) - x3) ((Int32.toInt64 (rdI p30.2 248 (Int32.toNatClampNeg v34))) - x4) p30.2) (fun _ h5 => ?_)
                refine hp_z hm (at1 25 rfl) (fun (v43 : Int32) => [(8, (.int v43)), (11, (.int v36)), (10, (.int v34)), (9, (.int v32)), (0, (.ref 192)), (3, (.long x3)), (5, (.long x4)), (7, (.int p26))]) (fun (v43 : Int32) => []) rfl (by exact trivial) (pc' := 296) rfl (fun v43 => ?_)
                refine hp_goto hm 13 rfl (tgt := 369) rfl ?_
                exact hp_lf [4, 5, 6, 7, 0] rfl (fun _ e => e)
            · refine hp_goto hm 15 rfl (tgt := 194) rfl ?_
              exact hp_lf [0, 1, 2, 3, 4] rfl (fun _ e => e)
        · exact hp_vr hm 17 rfl rfl (fun _ e => e)
    · refine hp_JZ 168 (fun (p46 : Int32) => []) (fun (p46 : Int32) => [(.int p46), (.ref 192)]) (fun (p46 : Int32) => p2) ?_ (fun p46 => ?_)
      · refine hp_sv0 ?_
        refine hp_if_ne hm (at1 26 rfl) rfl (by exact og_192) (pc' := 135) rfl 21 rfl (tgt := 163) rfl (fun c49 => ?_) (fun c49 => ?_)
        · refine hp_b hm (at1 27 rfl) (L' := [(0, (.ref 192)), (1, (.int x1)), (2, (.int x2)), (3, (.long x3)), (5, (.long x4))]) (st' := [(.int (1 : Int32)), (.ref 192)]) rfl (by exact trivial) (pc' := 164) rfl ?_
          refine hp_goto hm 18 rfl (tgt := 168) rfl ?_
          exact hp_lf [] rfl (fun _ e => e)
        · refine hp_sv0 ?_
          refine hp_lc_ne hm (at1 28 rfl) rfl (by exact ⟨og_192, ⟨og_247, (show vp_in (0 : Int32) 220 from vp_lit (by decide))⟩⟩) (pc' := 147) rfl 20 rfl (tgt := 167) rfl (fun c48 => ?_) (fun c48 => ?_)
          · refine hp_b hm (at1 29 rfl) (L' := [(0, (.ref 192)), (1, (.int x1)), (2, (.int x2)), (3, (.long x3)), (5, (.long x4))]) (st' := [(.int (0 : Int32)), (.ref 192)]) rfl (by exact trivial) (pc' := 168) rfl ?_
            exact hp_lf [] rfl (fun _ e => e)
          · refine hp_sv0 ?_
            refine hp_lc_ne hm (at1 30 rfl) rfl (by exact ⟨og_192, ⟨og_248, (show vp_in (0 : Int32) 220 from vp_lit (by decide))⟩⟩) (pc' := 160) rfl 19 rfl (tgt := 167) rfl (fun c47 => ?_) (fun c47 => ?_)
            · refine hp_b hm (at1 29 rfl) (L' := [(0, (.ref 192)), (1, (.int x1)), (2, (.int x2)), (3, (.long x3)), (5, (.long x4))]) (st' := [(.int (0 : Int32)), (.ref 192)]) rfl (by exact trivial) (pc' := 168) rfl ?_
              exact hp_lf [] rfl (fun _ e => e)
            · refine hp_b hm (at1 27 rfl) (L' := [(0, (.ref 192)), (1, (.int x1)), (2, (.int x2)), (3, (.long x3)), (5, (.long x4))]) (st' := [(.int (1 : Int32)), (.ref 192)]) rfl (by exact trivial) (pc' := 164) rfl ?_
              refine hp_goto hm 18 rfl (tgt := 168) rfl ?_
              exact hp_lf [] rfl (fun _ e => e)
      · refine hp_GW hm (at1 31 rfl) (L' := []) rfl (fun hP => (by exact ⟨og_192, hP⟩)) (pc' := 171) rfl (fun q50 h6 => ?_)
        exact hp_vr hm 22 rfl rfl (fun _ e => e)
/-! HintHouseModel.isInside(II)Z -/
def M_Mo_isInside : hM := (11, ⟨"HintHouseModel", "isInside", "(II)Z"⟩, prog_13_method_114_code, 5, (Option.some Jvm.ClassFile.FieldType.boolean), [], [(0, [(.aload_n 0, 1, 0, 0, 0, .null), (.iconst 0, 1, 0, 0, 0, (.int (0 : Int32))), (.putfield 849, 3, 11, 139, 0, .null)]), (5, [(.aload_n 0, 1, 0, 0, 0, .null), (.iconst 0, 1, 0, 0, 0, (.int (0 : Int32))), (.putfield 846, 3, 11, 140, 1, .null)]), (10, [(.iconst 0, 1, 0, 0, 0, (.int (0 : Int32))), (.istore_n 3, 1, 0, 0, 0, .null), (.iconst 0, 1, 0, 0, 0, (.int (0 : Int32))), (.istore 4, 2, 0, 0, 0, .null)]), (15, [(.iload 4, 2, 0, 0, 0, .null), (.aload_n 0, 1, 0, 0, 0, .null), (.getfield 826, 3, 11, 129, 0, .null)]), (24, [(.aload_n 0, 1, 0, 0, 0, .null), (.getfield 846, 3, 11, 140, 1, .null)]), (31, [(.aload_n 0, 1, 0, 0, 0, .null), (.iload_n 3, 1, 0, 0, 0, .null), (.aload_n 0, 1, 0, 0, 0, .null), (.getfield 176, 3, 11, 133, 4, .null), (.iload 4, 2, 0, 0, 0, .null), (.iaload, 1, 0, 0, 0, .null), (.ldc2_w 336, 3, 0, 0, 0, (.long (2 : Int64))), (.iload_n 1, 1, 0, 0, 0, .null), (.i2l, 1, 0, 0, 0, .null), (.lmul, 1, 0, 0, 0, .null), (.ldc2_w 336, 3, 0, 0, 0, (.long (2 : Int64))), (.iload_n 2, 1, 0, 0, 0, .null), (.i2l, 1, 0, 0, 0, .null), (.lmul, 1, 0, 0, 0, .null)]), (55, [(.aload_n 0, 1, 0, 0, 0, .null), (.getfield 176, 3, 11, 133, 4, .null), (.iload 4, 2, 0, 0, 0, .null), (.iaload, 1, 0, 0, 0, .null), (.iconst 1, 1, 0, 0, 0, (.int (1 : Int32))), (.iadd, 1, 0, 0, 0, .null), (.istore_n 3, 1, 0, 0, 0, .null)]), (65, [(.iinc 4 1, 3, 0, 0, 0, (.int (1 : Int32)))]), (71, [(.aload_n 0, 1, 0, 0, 0, .null), (.getfield 846, 3, 11, 140, 1, .null)]), (85, [(.iconst 1, 1, 0, 0, 0, (.int (1 : Int32)))]), (78, [(.aload_n 0, 1, 0, 0, 0, .null), (.getfield 849, 3, 11, 139, 0, .null)]), (89, [(.iconst 0, 1, 0, 0, 0, (.int (0 : Int32)))])], [(28, .ifCond .ne 43, 3), (21, .if_icmp .ge 50, 3), (52, .invokevirtual 867, 3), (68, .goto (-53), 3), (90, .ireturn, 1), (86, .goto 4, 3), (82, .ifCond .eq 7, 3), (75, .ifCond .ne 10, 3)])
set_option maxRecDepth 100000 in
theorem m_Mo_isInside : hx_mok M_Mo_isInside = true := by decide +kernel
theorem pd_Mo_isInside : (parseMethodDescriptor M_Mo_isInside.2.1.desc).map (fun q => q.parameters.length) = some 2 := by decide +kernel
theorem y_Mo_isInside : hx_okV M_Mo_isInside := ⟨⟨lw_g (lw_at lw_m11 85 rfl) rfl, lw_g (lw_at lw_m11 84 rfl) rfl, qs200, lw_g (lw_at lw_m1 12 rfl) rfl, rfl, by decide, by decide, by decide⟩, rfl, by decide, plainFor_of_name (by decide)⟩
noncomputable def f_Mo_isInside (x1 : Int32) (x2 : Int32) (h : hH) : Option (Int32 × hH) :=
  lz (wrI h 192 139 (0 : Int32)) fun h1 =>
  lz (wrI h1 192 140 (0 : Int32)) fun h2 =>
  bP (A := hH) (
    wh (A := (Int32 × Int32 × hH)) (B := hH) (fun p1 =>
        if (¬ ((rdI p1.2.2 192 129) ≤ p1.2.1) ∧ (rdI p1.2.2 192 140) = 0) then (
          gd (vp_in p1.2.1 20) <|
          bS (f_Mo_contour p1.1 (rdI p1.2.2 246 (Int32.toNatClampNeg p1.2.1)) ((2 : Int64) * (Int32.toInt64 x1)) ((2 : Int64) * (Int32.toInt64 x2)) p1.2.2) fun _ h3 =>
          gd (vp_in p1.2.1 20) <|
          lz (A := Int32) ((rdI h3 246 (Int32.toNatClampNeg p1.2.1)) + (1 : Int32)) fun v9 =>
          lz (A := Int32) (p1.2.1 + (1 : Int32)) fun v11 =>
          some (.inl (v9, v11, h3))
        ) else (
          some (.inr p1.2.2)
        )
    ) ((0 : Int32), (0 : Int32), h2)
  ) fun p2 =>
  if (rdI p2 192 140) = 0 then (
    if (rdI p2 192 139) = 0 then (
      some ((0 : Int32), p2)
    ) else (
      some ((1 : Int32), p2)
    )
  ) else (
    some ((1 : Int32), p2)
  )
set_option maxRecDepth 20000 in
theorem k_Mo_isInside (x1 : Int32) (x2 : Int32) (h : hH) : hx_kS S0 M_Mo_isInside 5 NT [(.ref 192), (.int x1), (.int x2)] h (f_Mo_isInside x1 x2 h) cvI := by
  have hm := m_Mo_isInside
  show hx_P S0 M_Mo_isInside 5 0 [(0, (.ref 192)), (1, (.int x1)), (2, (.int x2))] [] NT h (f_Mo_isInside x1 x2 h) (hx_Rc cvI NT)
  unfold f_Mo_isInside
  refine hp_w hm (at1 0 rfl) (L' := [(0, (.ref 192)), (1, (.int x1)), (2, (.int x2))]) rfl (by exact og_192) (pc' := 5) rfl (fun h1 => ?_)
  refine hp_w hm (at1 1 rfl) (L' := [(0, (.ref 192)), (1, (.int x1)), (2, (.int x2))]) rfl (by exact ⟨og_192, (Or.inl rfl)⟩) (pc' := 10) rfl (fun h2 => ?_)
  refine hp_b hm (at1 2 rfl) (L' := [(4, (.int (0 : Int32))), (3, (.int (0 : Int32))), (0, (.ref 192)), (1, (.int x1)), (2, (.int x2))]) (st' := []) rfl (by exact trivial) (pc' := 15) rfl ?_
  refine hp_J 71 (fun (p2 : hH) => [(0, (.ref 192))]) (fun (p2 : hH) => []) (fun (p2 : hH) => p2) ?_ (fun p2 => ?_)
  · refine hp_s [2, 3, 4, 1, 0] rfl (L' := [(0, (.ref 192)), (1, (.int x1)), (2, (.int x2)), (3, (.int (0 : Int32))), (4, (.int (0 : Int32)))]) ?_
    refine hp_wh (fun (p1 : (Int32 × Int32 × hH)) => [(0, (.ref 192)), (1, (.int x1)), (2, (.int x2)), (3, (.int p1.1)), (4, (.int p1.2.1))]) [] (fun (p1 : (Int32 × Int32 × hH)) => p1.2.2) (fun p1 => ?_) ((0 : Int32), (0 : Int32), h2)
    refine hp_cI (L0 := [(0, (.ref 192)), (1, (.int x1)), (2, (.int x2)), (3, (.int p1.1)), (4, (.int p1.2.1))]) (s0 := []) 31 71 ?_ (fun c7 => ?_) (fun c7 => ?_)
    · refine hp_nand ?_
      refine hp_ic_ge hm (at1 3 rfl) rfl (by exact og_192) (pc' := 21) rfl 1 rfl (tgt := 71) rfl (fun c4 => ?_) (fun c4 => ?_)
      · exact hp_l0 (fun _ e => e)
      · refine hp_dec ?_
        refine hp_if_ne hm (at1 4 rfl) rfl (by exact og_192) (pc' := 28) rfl 0 rfl (tgt := 71) rfl (fun c3 => ?_) (fun c3 => ?_)
        · exact hp_l0 (fun _ e => e)
        · exact hp_l0 (fun _ e => e)
    · refine hp_G hm (at1 5 rfl) (L' := [(0, (.ref 192)), (1, (.int x1)), (2, (.int x2)), (3, (.int p1.1)), (4, (.int p1.2.1))]) (st' := [(.long ((2 : Int64) * (Int32.toInt64 x2))), (.long ((2 : Int64) * (Int32.toInt64 x1))), (.int (rdI p1.2.2 246 (Int32.toNatClampNeg p1.2.1))), (.int p1.1), (.ref 192)]) rfl (fun hP => (by exact ⟨og_192, ⟨og_246, hP⟩⟩)) (pc' := 52) rfl (fun q8 => ?_)
      refine hp_cVS (M2 := M_Mo_contour) hm at0 (as := [(.int p1.1), (.int (rdI p1.2.2 246 (Int32.toNatClampNeg p1.2.1))), (.long ((2 : Int64) * (Int32.toInt64 x1))), (.long ((2 : Int64) * (Int32.toInt64 x2)))]) (rest := []) (z := 192) rfl (by exact trivial) (pc' := 52) rfl 2 rfl (lw_g (lw_at lw_m11 86 rfl) rfl) y_Mo_contour rfl (d2 := 4) ⟨le_b rfl, pd_Mo_contour, le_b rfl⟩ (le_b rfl) og_192 (k_Mo_contour p1.1 (rdI p1.2.2 246 (Int32.toNatClampNeg p1.2.1)) ((2 : Int64) * (Int32.toInt64 x1)) ((2 : Int64) * (Int32.toInt64 x2)) p1.2.2) (fun _ h3 => ?_)
      refine hp_GZ hm (at1 6 rfl) (fun (v9 : Int32) => [(3, (.int v9)), (0, (.ref 192)), (1, (.int x1)), (2, (.int x2)), (4, (.int p1.2.1))]) (fun (v9 : Int32) => []) rfl (fun hP => (by exact ⟨og_192, ⟨og_246, hP⟩⟩)) (pc' := 65) rfl (fun q10 v9 => ?_)
      refine hp_z hm (at1 7 rfl) (fun (v11 : Int32) => [(4, (.int v11)), (3, (.int v9)), (0, (.ref 192)), (1, (.int x1)), (2, (.int x2))]) (fun (v11 : Int32) => []) rfl (by exact trivial) (pc' := 68) rfl (fun v11 => ?_)
      refine hp_goto hm 3 rfl (tgt := 15) rfl ?_
      exact hp_lf [2, 3, 4, 1, 0] rfl (fun _ e => e)
    · exact hp_lf [0] rfl (fun _ e => e)
  · refine hp_if_ne hm (at1 8 rfl) rfl (by exact og_192) (pc' := 75) rfl 7 rfl (tgt := 85) rfl (fun c13 => ?_) (fun c13 => ?_)
    · refine hp_b hm (at1 9 rfl) (L' := [(0, (.ref 192))]) (st' := [(.int (1 : Int32))]) rfl (by exact trivial) (pc' := 86) rfl ?_
      refine hp_goto hm 5 rfl (tgt := 90) rfl ?_
      exact hp_ir hm at0 rfl (by exact trivial) (pc' := 90) rfl 4 rfl rfl rfl (fun _ e => e)
    · refine hp_if_eq hm (at1 10 rfl) rfl (by exact og_192) (pc' := 82) rfl 6 rfl (tgt := 89) rfl (fun c12 => ?_) (fun c12 => ?_)
      · refine hp_b hm (at1 11 rfl) (L' := [(0, (.ref 192))]) (st' := [(.int (0 : Int32))]) rfl (by exact trivial) (pc' := 90) rfl ?_
        exact hp_ir hm at0 rfl (by exact trivial) (pc' := 90) rfl 4 rfl rfl rfl (fun _ e => e)
      · refine hp_b hm (at1 9 rfl) (L' := [(0, (.ref 192))]) (st' := [(.int (1 : Int32))]) rfl (by exact trivial) (pc' := 86) rfl ?_
        refine hp_goto hm 5 rfl (tgt := 90) rfl ?_
        exact hp_ir hm at0 rfl (by exact trivial) (pc' := 90) rfl 4 rfl rfl rfl (fun _ e => e)
/-! HintHouseModel.isIn(II)I -/
def M_Mo_isIn : hM := (11, ⟨"HintHouseModel", "isIn", "(II)I"⟩, prog_13_method_115_code, 3, (Option.some Jvm.ClassFile.FieldType.int), [], [(0, [(.aload_n 0, 1, 0, 0, 0, .null), (.getfield 764, 3, 11, 108, 1, .null)]), (10, [(.iload_n 1, 1, 0, 0, 0, .null), (.i2l, 1, 0, 0, 0, .null), (.ldc2_w 871, 3, 0, 0, 0, (.long (-5000 : Int64))), (.ldc2_w 873, 3, 0, 0, 0, (.long (5000 : Int64)))]), (38, [(.bipush (-2), 2, 0, 0, 0, (.int (-2 : Int32)))]), (24, [(.iload_n 2, 1, 0, 0, 0, .null), (.i2l, 1, 0, 0, 0, .null), (.ldc2_w 871, 3, 0, 0, 0, (.long (-5000 : Int64))), (.ldc2_w 873, 3, 0, 0, 0, (.long (5000 : Int64)))]), (43, [(.aload_n 0, 1, 0, 0, 0, .null), (.iload_n 1, 1, 0, 0, 0, .null), (.iload_n 2, 1, 0, 0, 0, .null)]), (56, [(.iconst 0, 1, 0, 0, 0, (.int (0 : Int32)))]), (52, [(.iconst 1, 1, 0, 0, 0, (.int (1 : Int32)))]), (7, [(.bipush (-3), 2, 0, 0, 0, (.int (-3 : Int32)))])], [(18, .invokestatic 263, 3), (57, .ireturn, 1), (40, .goto 17, 3), (32, .invokestatic 263, 3), (46, .invokevirtual 875, 3), (53, .goto 4, 3), (49, .ifCond .eq 7, 3), (35, .ifCond .ne 8, 3), (21, .ifCond .eq 17, 3), (9, .ireturn, 1), (4, .ifCond .ne 6, 3)])
set_option maxRecDepth 100000 in
theorem m_Mo_isIn : hx_mok M_Mo_isIn = true := by decide +kernel
theorem pd_Mo_isIn : (parseMethodDescriptor M_Mo_isIn.2.1.desc).map (fun q => q.parameters.length) = some 2 := by decide +kernel
theorem y_Mo_isIn : hx_okV M_Mo_isIn := ⟨⟨lw_g (lw_at lw_m11 79 rfl) rfl, lw_g (lw_at lw_m11 77 rfl) rfl, lw_g (lw_at lw_m11 78 rfl) rfl, lw_g (lw_at lw_m1 12 rfl) rfl, rfl, by decide, by decide, by decide⟩, rfl, by decide, plainFor_of_name (by decide)⟩
noncomputable def f_Mo_isIn (x1 : Int32) (x2 : Int32) (h : hH) : Option (Int32 × hH) :=
  if (rdI h 192 108) = 0 then (
    some ((-3 : Int32), h)
  ) else (
    bP (f_Mo_in (Int32.toInt64 x1) (-5000 : Int64) (5000 : Int64)) fun a1 =>
    if a1 = 0 then (
      some ((-2 : Int32), h)
    ) else (
      bP (f_Mo_in (Int32.toInt64 x2) (-5000 : Int64) (5000 : Int64)) fun a2 =>
      if a2 = 0 then (
        some ((-2 : Int32), h)
      ) else (
        bS (f_Mo_isInside x1 x2 h) fun a3 h1 =>
        if a3 = 0 then (
          some ((0 : Int32), h1)
        ) else (
          some ((1 : Int32), h1)
        )
      )
    )
  )
set_option maxRecDepth 20000 in
theorem k_Mo_isIn (x1 : Int32) (x2 : Int32) (h : hH) : hx_kS S0 M_Mo_isIn 6 NT [(.ref 192), (.int x1), (.int x2)] h (f_Mo_isIn x1 x2 h) cvI := by
  have hm := m_Mo_isIn
  show hx_P S0 M_Mo_isIn 6 0 [(0, (.ref 192)), (1, (.int x1)), (2, (.int x2))] [] NT h (f_Mo_isIn x1 x2 h) (hx_Rc cvI NT)
  unfold f_Mo_isIn
  refine hp_if_ne hm (at1 0 rfl) rfl (by exact og_192) (pc' := 4) rfl 10 rfl (tgt := 10) rfl (fun c7 => ?_) (fun c7 => ?_)
  · refine hp_cSP (M2 := M_Mo_in) hm (at1 1 rfl) (as := [(.long (Int32.toInt64 x1)), (.long (-5000 : Int64)), (.long (5000 : Int64))]) (rest := []) rfl (by exact trivial) (pc' := 18) rfl 0 rfl (lw_g (lw_at lw_m9 184 rfl) rfl) y_Mo_in rfl (d2 := 1) ⟨le_b rfl, pd_Mo_in, le_b rfl⟩ (le_b rfl) (k_Mo_in (Int32.toInt64 x1) (-5000 : Int64) (5000 : Int64) h) (fun a1 => ?_)
    refine hp_if_eq hm at0 rfl (by exact trivial) (pc' := 21) rfl 8 rfl (tgt := 38) rfl (fun c6 => ?_) (fun c6 => ?_)
    · refine hp_b hm (at1 2 rfl) (L' := [(0, (.ref 192)), (1, (.int x1)), (2, (.int x2))]) (st' := [(.int (-2 : Int32))]) rfl (by exact trivial) (pc' := 40) rfl ?_
      refine hp_goto hm 2 rfl (tgt := 57) rfl ?_
      exact hp_ir hm at0 rfl (by exact trivial) (pc' := 57) rfl 1 rfl rfl (vp_nar_int _) (fun _ e => e)
    · refine hp_cSP (M2 := M_Mo_in) hm (at1 3 rfl) (as := [(.long (Int32.toInt64 x2)), (.long (-5000 : Int64)), (.long (5000 : Int64))]) (rest := []) rfl (by exact trivial) (pc' := 32) rfl 3 rfl (lw_g (lw_at lw_m9 184 rfl) rfl) y_Mo_in rfl (d2 := 1) ⟨le_b rfl, pd_Mo_in, le_b rfl⟩ (le_b rfl) (k_Mo_in (Int32.toInt64 x2) (-5000 : Int64) (5000 : Int64) h) (fun a2 => ?_)
      refine hp_if_ne hm at0 rfl (by exact trivial) (pc' := 35) rfl 7 rfl (tgt := 43) rfl (fun c5 => ?_) (fun c5 => ?_)
      · refine hp_cVS (M2 := M_Mo_isInside) hm (at1 4 rfl) (as := [(.int x1), (.int x2)]) (rest := []) (z := 192) rfl (by exact trivial) (pc' := 46) rfl 4 rfl (lw_g (lw_at lw_m11 82 rfl) rfl) y_Mo_isInside rfl (d2 := 5) ⟨le_b rfl, pd_Mo_isInside, le_b rfl⟩ (le_b rfl) og_192 (k_Mo_isInside x1 x2 h) (fun a3 h1 => ?_)
        refine hp_if_eq hm at0 rfl (by exact trivial) (pc' := 49) rfl 6 rfl (tgt := 56) rfl (fun c4 => ?_) (fun c4 => ?_)
        · refine hp_b hm (at1 5 rfl) (L' := [(0, (.ref 192)), (1, (.int x1)), (2, (.int x2))]) (st' := [(.int (0 : Int32))]) rfl (by exact trivial) (pc' := 57) rfl ?_
          exact hp_ir hm at0 rfl (by exact trivial) (pc' := 57) rfl 1 rfl rfl (vp_nar_int _) (fun _ e => e)
        · refine hp_b hm (at1 6 rfl) (L' := [(0, (.ref 192)), (1, (.int x1)), (2, (.int x2))]) (st' := [(.int (1 : Int32))]) rfl (by exact trivial) (pc' := 53) rfl ?_
          refine hp_goto hm 5 rfl (tgt := 57) rfl ?_
          exact hp_ir hm at0 rfl (by exact trivial) (pc' := 57) rfl 1 rfl rfl (vp_nar_int _) (fun _ e => e)
      · refine hp_b hm (at1 2 rfl) (L' := [(0, (.ref 192)), (1, (.int x1)), (2, (.int x2))]) (st' := [(.int (-2 : Int32))]) rfl (by exact trivial) (pc' := 40) rfl ?_
        refine hp_goto hm 2 rfl (tgt := 57) rfl ?_
        exact hp_ir hm at0 rfl (by exact trivial) (pc' := 57) rfl 1 rfl rfl (vp_nar_int _) (fun _ e => e)
  · exact hp_ir hm (at1 7 rfl) rfl (by exact trivial) (pc' := 9) rfl 9 rfl rfl (vp_nar_int _) (fun _ e => e)
/-! HintHouseModel.canvas(II)I -/
def M_Mo_canvas : hM := (11, ⟨"HintHouseModel", "canvas", "(II)I"⟩, prog_13_method_116_code, 4, (Option.some Jvm.ClassFile.FieldType.int), [], [(0, [(.iload_n 1, 1, 0, 0, 0, .null), (.i2l, 1, 0, 0, 0, .null), (.lconst 1, 1, 0, 0, 0, (.long (1 : Int64))), (.ldc2_w 879, 3, 0, 0, 0, (.long (128 : Int64)))]), (24, [(.bipush (-2), 2, 0, 0, 0, (.int (-2 : Int32)))]), (12, [(.iload_n 2, 1, 0, 0, 0, .null), (.i2l, 1, 0, 0, 0, .null), (.lconst 1, 1, 0, 0, 0, (.long (1 : Int64))), (.ldc2_w 879, 3, 0, 0, 0, (.long (128 : Int64)))]), (27, [(.aload_n 0, 1, 0, 0, 0, .null), (.iload_n 1, 1, 0, 0, 0, .null), (.putfield 881, 3, 11, 141, 0, .null)]), (32, [(.aload_n 0, 1, 0, 0, 0, .null), (.iload_n 2, 1, 0, 0, 0, .null), (.putfield 884, 3, 11, 142, 0, .null)]), (37, [(.iconst 0, 1, 0, 0, 0, (.int (0 : Int32))), (.istore_n 3, 1, 0, 0, 0, .null)]), (39, [(.iload_n 3, 1, 0, 0, 0, .null), (.sipush 16384, 3, 0, 0, 0, (.int (16384 : Int32)))]), (46, [(.aload_n 0, 1, 0, 0, 0, .null), (.getfield 188, 3, 11, 143, 4, .null), (.iload_n 3, 1, 0, 0, 0, .null), (.iconst 0, 1, 0, 0, 0, (.int (0 : Int32))), (.bastore, 1, 101, 0, 0, .null)]), (53, [(.iinc 3 1, 3, 0, 0, 0, (.int (1 : Int32)))]), (59, [(.iconst 1, 1, 0, 0, 0, (.int (1 : Int32)))])], [(6, .invokestatic 263, 3), (26, .ireturn, 1), (18, .invokestatic 263, 3), (56, .goto (-17), 3), (43, .if_icmp .ge 16, 3), (60, .ireturn, 1), (21, .ifCond .ne 6, 3), (9, .ifCond .eq 15, 3)])
set_option maxRecDepth 100000 in
theorem m_Mo_canvas : hx_mok M_Mo_canvas = true := by decide +kernel
theorem pd_Mo_canvas : (parseMethodDescriptor M_Mo_canvas.2.1.desc).map (fun q => q.parameters.length) = some 2 := by decide +kernel
theorem y_Mo_canvas : hx_okV M_Mo_canvas := ⟨⟨lw_g (lw_at lw_m11 114 rfl) rfl, lw_g (lw_at lw_m11 112 rfl) rfl, lw_g (lw_at lw_m11 113 rfl) rfl, lw_g (lw_at lw_m1 12 rfl) rfl, rfl, by decide, by decide, by decide⟩, rfl, by decide, plainFor_of_name (by decide)⟩
noncomputable def f_Mo_canvas (x1 : Int32) (x2 : Int32) (h : hH) : Option (Int32 × hH) :=
  bP (f_Mo_in (Int32.toInt64 x1) (1 : Int64) (128 : Int64)) fun a1 =>
  if a1 = 0 then (
    some ((-2 : Int32), h)
  ) else (
    bP (f_Mo_in (Int32.toInt64 x2) (1 : Int64) (128 : Int64)) fun a2 =>
    if a2 = 0 then (
      some ((-2 : Int32), h)
    ) else (
      lz (wrI h 192 141 x1) fun h1 =>
      lz (wrI h1 192 142 x2) fun h2 =>
      bP (A := hH) (
        wh (A := (Int32 × hH)) (B := hH) (fun p3 =>
            if (16384 : Int32) ≤ p3.1 then (
              some (.inr p3.2)
            ) else (
              gd (vp_in p3.1 16384) <|
              lz (wrI p3.2 250 (Int32.toNatClampNeg p3.1) ((0 : Int32) &&& 1)) fun h3 =>
              lz (A := Int32) (p3.1 + (1 : Int32)) fun v6 =>
              some (.inl (v6, h3))
            )
        ) ((0 : Int32), h2)
      ) fun p4 =>
      some ((1 : Int32), p4)
    )
  )
set_option maxRecDepth 20000 in
theorem k_Mo_canvas (x1 : Int32) (x2 : Int32) (h : hH) : hx_kS S0 M_Mo_canvas 2 NT [(.ref 192), (.int x1), (.int x2)] h (f_Mo_canvas x1 x2 h) cvI := by
  have hm := m_Mo_canvas
  show hx_P S0 M_Mo_canvas 2 0 [(0, (.ref 192)), (1, (.int x1)), (2, (.int x2))] [] NT h (f_Mo_canvas x1 x2 h) (hx_Rc cvI NT)
  unfold f_Mo_canvas
  refine hp_cSP (M2 := M_Mo_in) hm (at1 0 rfl) (as := [(.long (Int32.toInt64 x1)), (.long (1 : Int64)), (.long (128 : Int64))]) (rest := []) rfl (by exact trivial) (pc' := 6) rfl 0 rfl (lw_g (lw_at lw_m9 184 rfl) rfl) y_Mo_in rfl (d2 := 1) ⟨le_b rfl, pd_Mo_in, le_b rfl⟩ (le_b rfl) (k_Mo_in (Int32.toInt64 x1) (1 : Int64) (128 : Int64) h) (fun a1 => ?_)
  refine hp_if_eq hm at0 rfl (by exact trivial) (pc' := 9) rfl 7 rfl (tgt := 24) rfl (fun c9 => ?_) (fun c9 => ?_)
  · exact hp_ir hm (at1 1 rfl) rfl (by exact trivial) (pc' := 26) rfl 1 rfl rfl (vp_nar_int _) (fun _ e => e)
  · refine hp_cSP (M2 := M_Mo_in) hm (at1 2 rfl) (as := [(.long (Int32.toInt64 x2)), (.long (1 : Int64)), (.long (128 : Int64))]) (rest := []) rfl (by exact trivial) (pc' := 18) rfl 2 rfl (lw_g (lw_at lw_m9 184 rfl) rfl) y_Mo_in rfl (d2 := 1) ⟨le_b rfl, pd_Mo_in, le_b rfl⟩ (le_b rfl) (k_Mo_in (Int32.toInt64 x2) (1 : Int64) (128 : Int64) h) (fun a2 => ?_)
    refine hp_if_ne hm at0 rfl (by exact trivial) (pc' := 21) rfl 6 rfl (tgt := 27) rfl (fun c8 => ?_) (fun c8 => ?_)
    · refine hp_w hm (at1 3 rfl) (L' := [(0, (.ref 192)), (1, (.int x1)), (2, (.int x2))]) rfl (by exact og_192) (pc' := 32) rfl (fun h1 => ?_)
      refine hp_w hm (at1 4 rfl) (L' := [(0, (.ref 192)), (1, (.int x1)), (2, (.int x2))]) rfl (by exact og_192) (pc' := 37) rfl (fun h2 => ?_)
      refine hp_b hm (at1 5 rfl) (L' := [(3, (.int (0 : Int32))), (0, (.ref 192)), (1, (.int x1)), (2, (.int x2))]) (st' := []) rfl (by exact trivial) (pc' := 39) rfl ?_
      refine hp_J 59 (fun (p4 : hH) => []) (fun (p4 : hH) => []) (fun (p4 : hH) => p4) ?_ (fun p4 => ?_)
      · refine hp_s [1, 0] rfl (L' := [(0, (.ref 192)), (3, (.int (0 : Int32)))]) ?_
        refine hp_wh (fun (p3 : (Int32 × hH)) => [(0, (.ref 192)), (3, (.int p3.1))]) [] (fun (p3 : (Int32 × hH)) => p3.2) (fun p3 => ?_) ((0 : Int32), h2)
        refine hp_ic_ge hm (at1 6 rfl) rfl (by exact trivial) (pc' := 43) rfl 4 rfl (tgt := 59) rfl (fun c7 => ?_) (fun c7 => ?_)
        · exact hp_lf [] rfl (fun _ e => e)
        · refine hp_GW hm (at1 7 rfl) (L' := [(0, (.ref 192)), (3, (.int p3.1))]) rfl (fun hP => (by exact ⟨og_192, ⟨og_250, hP⟩⟩)) (pc' := 53) rfl (fun q5 h3 => ?_)
          refine hp_z hm (at1 8 rfl) (fun (v6 : Int32) => [(3, (.int v6)), (0, (.ref 192))]) (fun (v6 : Int32) => []) rfl (by exact trivial) (pc' := 56) rfl (fun v6 => ?_)
          refine hp_goto hm 3 rfl (tgt := 39) rfl ?_
          exact hp_lf [1, 0] rfl (fun _ e => e)
      · exact hp_ir hm (at1 9 rfl) rfl (by exact trivial) (pc' := 60) rfl 5 rfl rfl (vp_nar_int _) (fun _ e => e)
    · exact hp_ir hm (at1 1 rfl) rfl (by exact trivial) (pc' := 26) rfl 1 rfl rfl (vp_nar_int _) (fun _ e => e)
/-! HintHouseModel.drawIt(II)I -/
def M_Mo_drawIt : hM := (11, ⟨"HintHouseModel", "drawIt", "(II)I"⟩, prog_13_method_117_code, 12, (Option.some Jvm.ClassFile.FieldType.int), [], [(0, [(.sipush 5000, 3, 0, 0, 0, (.int (5000 : Int32))), (.istore_n 3, 1, 0, 0, 0, .null), (.sipush (-5000), 3, 0, 0, 0, (.int (-5000 : Int32))), (.istore 4, 2, 0, 0, 0, .null), (.sipush 5000, 3, 0, 0, 0, (.int (5000 : Int32))), (.istore 5, 2, 0, 0, 0, .null), (.sipush (-5000), 3, 0, 0, 0, (.int (-5000 : Int32))), (.istore 6, 2, 0, 0, 0, .null), (.iconst 0, 1, 0, 0, 0, (.int (0 : Int32))), (.istore 7, 2, 0, 0, 0, .null)]), (22, [(.iload 7, 2, 0, 0, 0, .null), (.aload_n 0, 1, 0, 0, 0, .null), (.getfield 823, 3, 11, 128, 0, .null)]), (31, [(.aload_n 0, 1, 0, 0, 0, .null), (.getfield 167, 3, 11, 130, 4, .null), (.iload 7, 2, 0, 0, 0, .null), (.iaload, 1, 0, 0, 0, .null), (.iload_n 3, 1, 0, 0, 0, .null)]), (52, [(.iload_n 3, 1, 0, 0, 0, .null)]), (42, [(.aload_n 0, 1, 0, 0, 0, .null), (.getfield 167, 3, 11, 130, 4, .null), (.iload 7, 2, 0, 0, 0, .null), (.iaload, 1, 0, 0, 0, .null)]), (53, [(.istore_n 3, 1, 0, 0, 0, .null), (.aload_n 0, 1, 0, 0, 0, .null), (.getfield 167, 3, 11, 130, 4, .null), (.iload 7, 2, 0, 0, 0, .null), (.iaload, 1, 0, 0, 0, .null), (.iload 4, 2, 0, 0, 0, .null)]), (76, [(.iload 4, 2, 0, 0, 0, .null)]), (66, [(.aload_n 0, 1, 0, 0, 0, .null), (.getfield 167, 3, 11, 130, 4, .null), (.iload 7, 2, 0, 0, 0, .null), (.iaload, 1, 0, 0, 0, .null)]), (78, [(.istore 4, 2, 0, 0, 0, .null), (.aload_n 0, 1, 0, 0, 0, .null), (.getfield 170, 3, 11, 131, 4, .null), (.iload 7, 2, 0, 0, 0, .null), (.iaload, 1, 0, 0, 0, .null), (.iload 5, 2, 0, 0, 0, .null)]), (102, [(.iload 5, 2, 0, 0, 0, .null)]), (92, [(.aload_n 0, 1, 0, 0, 0, .null), (.getfield 170, 3, 11, 131, 4, .null), (.iload 7, 2, 0, 0, 0, .null), (.iaload, 1, 0, 0, 0, .null)]), (104, [(.istore 5, 2, 0, 0, 0, .null), (.aload_n 0, 1, 0, 0, 0, .null), (.getfield 170, 3, 11, 131, 4, .null), (.iload 7, 2, 0, 0, 0, .null), (.iaload, 1, 0, 0, 0, .null), (.iload 6, 2, 0, 0, 0, .null)]), (128, [(.iload 6, 2, 0, 0, 0, .null)]), (118, [(.aload_n 0, 1, 0, 0, 0, .null), (.getfield 170, 3, 11, 131, 4, .null), (.iload 7, 2, 0, 0, 0, .null), (.iaload, 1, 0, 0, 0, .null)]), (130, [(.istore 6, 2, 0, 0, 0, .null), (.iinc 7 1, 3, 0, 0, 0, (.int (1 : Int32)))]), (138, [(.iconst 0, 1, 0, 0, 0, (.int (0 : Int32))), (.istore 7, 2, 0, 0, 0, .null), (.iconst 0, 1, 0, 0, 0, (.int (0 : Int32))), (.istore 8, 2, 0, 0, 0, .null)]), (144, [(.iload 8, 2, 0, 0, 0, .null), (.aload_n 0, 1, 0, 0, 0, .null), (.getfield 884, 3, 11, 142, 0, .null)]), (153, [(.bipush 64, 2, 0, 0, 0, (.int (64 : Int32))), (.iload 8, 2, 0, 0, 0, .null), (.imul, 1, 0, 0, 0, .null), (.bipush 32, 2, 0, 0, 0, (.int (32 : Int32))), (.iadd, 1, 0, 0, 0, .null), (.iload_n 2, 1, 0, 0, 0, .null), (.isub, 1, 0, 0, 0, .null), (.istore 9, 2, 0, 0, 0, .null)]), (165, [(.iconst 0, 1, 0, 0, 0, (.int (0 : Int32))), (.istore 10, 2, 0, 0, 0, .null)]), (168, [(.iload 10, 2, 0, 0, 0, .null), (.aload_n 0, 1, 0, 0, 0, .null), (.getfield 881, 3, 11, 141, 0, .null)]), (177, [(.iload 9, 2, 0, 0, 0, .null), (.i2l, 1, 0, 0, 0, .null), (.iload 5, 2, 0, 0, 0, .null), (.i2l, 1, 0, 0, 0, .null), (.iload 6, 2, 0, 0, 0, .null), (.i2l, 1, 0, 0, 0, .null)]), (192, [(.bipush 64, 2, 0, 0, 0, (.int (64 : Int32))), (.iload 10, 2, 0, 0, 0, .null), (.imul, 1, 0, 0, 0, .null), (.bipush 32, 2, 0, 0, 0, (.int (32 : Int32))), (.iadd, 1, 0, 0, 0, .null), (.iload_n 1, 1, 0, 0, 0, .null), (.isub, 1, 0, 0, 0, .null), (.istore 11, 2, 0, 0, 0, .null)]), (204, [(.iload 11, 2, 0, 0, 0, .null), (.i2l, 1, 0, 0, 0, .null), (.iload_n 3, 1, 0, 0, 0, .null), (.i2l, 1, 0, 0, 0, .null), (.iload 4, 2, 0, 0, 0, .null), (.i2l, 1, 0, 0, 0, .null)]), (218, [(.aload_n 0, 1, 0, 0, 0, .null), (.getfield 188, 3, 11, 143, 4, .null), (.sipush 128, 3, 0, 0, 0, (.int (128 : Int32))), (.iload 8, 2, 0, 0, 0, .null), (.imul, 1, 0, 0, 0, .null), (.iload 10, 2, 0, 0, 0, .null), (.iadd, 1, 0, 0, 0, .null), (.baload, 1, 101, 0, 0, .null)]), (235, [(.aload_n 0, 1, 0, 0, 0, .null), (.iload 11, 2, 0, 0, 0, .null), (.iload 9, 2, 0, 0, 0, .null)]), (246, [(.aload_n 0, 1, 0, 0, 0, .null), (.getfield 188, 3, 11, 143, 4, .null), (.sipush 128, 3, 0, 0, 0, (.int (128 : Int32))), (.iload 8, 2, 0, 0, 0, .null), (.imul, 1, 0, 0, 0, .null), (.iload 10, 2, 0, 0, 0, .null), (.iadd, 1, 0, 0, 0, .null), (.iconst 1, 1, 0, 0, 0, (.int (1 : Int32))), (.bastore, 1, 101, 0, 0, .null)]), (261, [(.iinc 7 1, 3, 0, 0, 0, (.int (1 : Int32)))]), (264, [(.iinc 10 1, 3, 0, 0, 0, (.int (1 : Int32)))]), (270, [(.iinc 8 1, 3, 0, 0, 0, (.int (1 : Int32)))]), (276, [(.iload 7, 2, 0, 0, 0, .null)])], [(49, .goto 4, 3), (39, .if_icmp .ge 13, 3), (73, .goto 5, 3), (63, .if_icmp .le 13, 3), (99, .goto 5, 3), (89, .if_icmp .ge 13, 3), (125, .goto 5, 3), (115, .if_icmp .le 13, 3), (135, .goto (-113), 3), (28, .if_icmp .ge 110, 3), (186, .invokestatic 263, 3), (189, .ifCond .eq 81, 3), (174, .if_icmp .ge 96, 3), (212, .invokestatic 263, 3), (240, .invokevirtual 875, 3), (243, .ifCond .eq 21, 3), (232, .ifCond .ne 32, 3), (215, .ifCond .eq 49, 3), (267, .goto (-99), 3), (273, .goto (-129), 3), (150, .if_icmp .ge 126, 3), (278, .ireturn, 1)])
set_option maxRecDepth 100000 in
theorem m_Mo_drawIt : hx_mok M_Mo_drawIt = true := by decide +kernel
theorem pd_Mo_drawIt : (parseMethodDescriptor M_Mo_drawIt.2.1.desc).map (fun q => q.parameters.length) = some 2 := by decide +kernel
theorem y_Mo_drawIt : hx_okV M_Mo_drawIt := ⟨⟨lw_g (lw_at lw_m11 125 rfl) rfl, lw_g (lw_at lw_m11 124 rfl) rfl, qs205, lw_g (lw_at lw_m1 12 rfl) rfl, rfl, by decide, by decide, by decide⟩, rfl, by decide, plainFor_of_name (by decide)⟩
noncomputable def f_Mo_drawIt (x1 : Int32) (x2 : Int32) (h : hH) : Option (Int32 × hH) :=
  bP (A := (Int32 × Int32 × Int32 × Int32)) (
    wh (A := (Int32 × Int32 × Int32 × Int32 × Int32)) (B := (Int32 × Int32 × Int32 × Int32)) (fun p1 =>
        if (rdI h 192 128) ≤ p1.2.2.2.2 then (
          some (.inr (p1.1, p1.2.1, p1.2.2.1, p1.2.2.2.1))
        ) else (
          gd (vp_in p1.2.2.2.2 100) <|
          bP (A := Int32) (
            if p1.1 ≤ (rdI h 243 (Int32.toNatClampNeg p1.2.2.2.2)) then (
              some p1.1
            ) else (
              gd (vp_in p1.2.2.2.2 100) <|
              some (rdI h 243 (Int32.toNatClampNeg p1.2.2.2.2))
            )
          ) fun p4 =>
          gd (vp_in p1.2.2.2.2 100) <|
          bP (A := Int32) (
            if (rdI h 243 (Int32.toNatClampNeg p1.2.2.2.2)) ≤ p1.2.1 then (
              some p1.2.1
            ) else (
              gd (vp_in p1.2.2.2.2 100) <|
              some (rdI h 243 (Int32.toNatClampNeg p1.2.2.2.2))
            )
          ) fun p8 =>
          gd (vp_in p1.2.2.2.2 100) <|
          bP (A := Int32) (
            if p1.2.2.1 ≤ (rdI h 244 (Int32.toNatClampNeg p1.2.2.2.2)) then (
              some p1.2.2.1
            ) else (
              gd (vp_in p1.2.2.2.2 100) <|
              some (rdI h 244 (Int32.toNatClampNeg p1.2.2.2.2))
            )
          ) fun p12 =>
          gd (vp_in p1.2.2.2.2 100) <|
          bP (A := Int32) (
            if (rdI h 244 (Int32.toNatClampNeg p1.2.2.2.2)) ≤ p1.2.2.2.1 then (
              some p1.2.2.2.1
            ) else (
              gd (vp_in p1.2.2.2.2 100) <|
              some (rdI h 244 (Int32.toNatClampNeg p1.2.2.2.2))
            )
          ) fun p16 =>
          lz (A := Int32) (p1.2.2.2.2 + (1 : Int32)) fun v19 =>
          some (.inl (p4, p8, p12, p16, v19))
        )
    ) ((5000 : Int32), (-5000 : Int32), (5000 : Int32), (-5000 : Int32), (0 : Int32))
  ) fun p2 =>
  bP (A := (Int32 × hH)) (
    wh (A := (Int32 × Int32 × hH)) (B := (Int32 × hH)) (fun p21 =>
        if (rdI p21.2.2 192 142) ≤ p21.2.1 then (
          some (.inr (p21.1, p21.2.2))
        ) else (
          lz (A := Int32) ((((64 : Int32) * p21.2.1) + (32 : Int32)) - x2) fun v23 =>
          bP (A := (Int32 × hH)) (
            wh (A := (Int32 × Int32 × hH)) (B := (Int32 × hH)) (fun p24 =>
                cO (
                  if (rdI p24.2.2 192 141) ≤ p24.2.1 then (
                    some false
                  ) else (
                    bP (f_Mo_in (Int32.toInt64 v23) (Int32.toInt64 p2.2.2.1) (Int32.toInt64 p2.2.2.2)) fun a26 =>
                    if a26 = 0 then (
                      some false
                    ) else (
                      some true
                    )
                  )
                ) (
                  lz (A := Int32) ((((64 : Int32) * p24.2.1) + (32 : Int32)) - x1) fun v32 =>
                  bP (f_Mo_in (Int32.toInt64 v32) (Int32.toInt64 p2.1) (Int32.toInt64 p2.2.1)) fun a33 =>
                  bP (A := (Int32 × hH)) (
                    cS (
                      if a33 = 0 then (
                        some (false, p24.2.2)
                      ) else (
                        gd (vp_in (((128 : Int32) * p21.2.1) + p24.2.1) 16384) <|
                        cS (
                          if (rdI p24.2.2 250 (Int32.toNatClampNeg (((128 : Int32) * p21.2.1) + p24.2.1))) = 0 then (
                            bS (f_Mo_isInside v32 v23 p24.2.2) fun a36 h1 =>
                            if a36 = 0 then (
                              some (false, h1)
                            ) else (
                              some (true, h1)
                            )
                          ) else (
                            some (false, p24.2.2)
                          )
                        ) (fun h3 =>
                          some (true, h3)
                        ) (fun h3 =>
                          some (false, h3)
                        )
                      )
                    ) (fun h7 =>
                      gd (vp_in (((128 : Int32) * p21.2.1) + p24.2.1) 16384) <|
                      lz (wrI h7 250 (Int32.toNatClampNeg (((128 : Int32) * p21.2.1) + p24.2.1)) ((1 : Int32) &&& 1)) fun h8 =>
                      lz (A := Int32) (p24.1 + (1 : Int32)) fun v52 =>
                      some (v52, h8)
                    ) (fun h7 =>
                      some (p24.1, h7)
                    )
                  ) fun p34 =>
                  lz (A := Int32) (p24.2.1 + (1 : Int32)) fun v53 =>
                  some (.inl (p34.1, v53, p34.2))
                ) (
                  some (.inr (p24.1, p24.2.2))
                )
            ) (p21.1, (0 : Int32), p21.2.2)
          ) fun p25 =>
          lz (A := Int32) (p21.2.1 + (1 : Int32)) fun v54 =>
          some (.inl (p25.1, v54, p25.2))
        )
    ) ((0 : Int32), (0 : Int32), h)
  ) fun p22 =>
  some (p22.1, p22.2)
set_option maxRecDepth 20000 in
theorem k_Mo_drawIt (x1 : Int32) (x2 : Int32) (h : hH) : hx_kS S0 M_Mo_drawIt 6 NT [(.ref 192), (.int x1), (.int x2)] h (f_Mo_drawIt x1 x2 h) cvI := by
  have hm := m_Mo_drawIt
  show hx_P S0 M_Mo_drawIt 6 0 [(0, (.ref 192)), (1, (.int x1)), (2, (.int x2))] [] NT h (f_Mo_drawIt x1 x2 h) (hx_Rc cvI NT)
  unfold f_Mo_drawIt
  refine hp_b hm (at1 0 rfl) (L' := [(7, (.int (0 : Int32))), (6, (.int (-5000 : Int32))), (5, (.int (5000 : Int32))), (4, (.int (-5000 : Int32))), (3, (.int (5000 : Int32))), (0, (.ref 192)), (1, (.int x1)), (2, (.int x2))]) (st' := []) rfl (by exact trivial) (pc' := 22) rfl ?_
  refine hp_J 138 (fun (p2 : (Int32 × Int32 × Int32 × Int32)) => [(0, (.ref 192)), (1, (.int x1)), (2, (.int x2)), (3, (.int p2.1)), (4, (.int p2.2.1)), (5, (.int p2.2.2.1)), (6, (.int p2.2.2.2))]) (fun (p2 : (Int32 × Int32 × Int32 × Int32)) => []) (fun (p2 : (Int32 × Int32 × Int32 × Int32)) => h) ?_ (fun p2 => ?_)
  · refine hp_s [5, 6, 7, 4, 3, 2, 1, 0] rfl (L' := [(0, (.ref 192)), (1, (.int x1)), (2, (.int x2)), (3, (.int (5000 : Int32))), (4, (.int (-5000 : Int32))), (5, (.int (5000 : Int32))), (6, (.int (-5000 : Int32))), (7, (.int (0 : Int32)))]) ?_
    refine hp_wh (fun (p1 : (Int32 × Int32 × Int32 × Int32 × Int32)) => [(0, (.ref 192)), (1, (.int x1)), (2, (.int x2)), (3, (.int p1.1)), (4, (.int p1.2.1)), (5, (.int p1.2.2.1)), (6, (.int p1.2.2.2.1)), (7, (.int p1.2.2.2.2))]) [] (fun (p1 : (Int32 × Int32 × Int32 × Int32 × Int32)) => h) (fun p1 => ?_) ((5000 : Int32), (-5000 : Int32), (5000 : Int32), (-5000 : Int32), (0 : Int32))
    refine hp_ic_ge hm (at1 1 rfl) rfl (by exact og_192) (pc' := 28) rfl 9 rfl (tgt := 138) rfl (fun c20 => ?_) (fun c20 => ?_)
    · exact hp_lf [0, 1, 2, 3, 4, 5, 6] rfl (fun _ e => e)
    · refine hp_G hm (at1 2 rfl) (L' := [(0, (.ref 192)), (1, (.int x1)), (2, (.int x2)), (3, (.int p1.1)), (4, (.int p1.2.1)), (5, (.int p1.2.2.1)), (6, (.int p1.2.2.2.1)), (7, (.int p1.2.2.2.2))]) (st' := [(.int p1.1), (.int (rdI h 243 (Int32.toNatClampNeg p1.2.2.2.2)))]) rfl (fun hP => (by exact ⟨og_192, ⟨og_243, hP⟩⟩)) (pc' := 39) rfl (fun q3 => ?_)
      refine hp_J 53 (fun (p4 : Int32) => [(0, (.ref 192)), (1, (.int x1)), (2, (.int x2)), (4, (.int p1.2.1)), (5, (.int p1.2.2.1)), (6, (.int p1.2.2.2.1)), (7, (.int p1.2.2.2.2))]) (fun (p4 : Int32) => [(.int p4)]) (fun (p4 : Int32) => h) ?_ (fun p4 => ?_)
      · refine hp_ic_ge hm at0 rfl (by exact trivial) (pc' := 39) rfl 1 rfl (tgt := 52) rfl (fun c6 => ?_) (fun c6 => ?_)
        · refine hp_b hm (at1 3 rfl) (L' := [(0, (.ref 192)), (1, (.int x1)), (2, (.int x2)), (3, (.int p1.1)), (4, (.int p1.2.1)), (5, (.int p1.2.2.1)), (6, (.int p1.2.2.2.1)), (7, (.int p1.2.2.2.2))]) (st' := [(.int p1.1)]) rfl (by exact trivial) (pc' := 53) rfl ?_
          exact hp_lf [0, 1, 2, 4, 5, 6, 7] rfl (fun _ e => e)
        · refine hp_G hm (at1 4 rfl) (L' := [(0, (.ref 192)), (1, (.int x1)), (2, (.int x2)), (3, (.int p1.1)), (4, (.int p1.2.1)), (5, (.int p1.2.2.1)), (6, (.int p1.2.2.2.1)), (7, (.int p1.2.2.2.2))]) (st' := [(.int (rdI h 243 (Int32.toNatClampNeg p1.2.2.2.2)))]) rfl (fun hP => (by exact ⟨og_192, ⟨og_243, hP⟩⟩)) (pc' := 49) rfl (fun q5 => ?_)
          refine hp_goto hm 0 rfl (tgt := 53) rfl ?_
          exact hp_lf [0, 1, 2, 4, 5, 6, 7] rfl (fun _ e => e)
      · refine hp_G hm (at1 5 rfl) (L' := [(3, (.int p4)), (0, (.ref 192)), (1, (.int x1)), (2, (.int x2)), (4, (.int p1.2.1)), (5, (.int p1.2.2.1)), (6, (.int p1.2.2.2.1)), (7, (.int p1.2.2.2.2))]) (st' := [(.int p1.2.1), (.int (rdI h 243 (Int32.toNatClampNeg p1.2.2.2.2)))]) rfl (fun hP => (by exact ⟨og_192, ⟨og_243, hP⟩⟩)) (pc' := 63) rfl (fun q7 => ?_)
        refine hp_J 78 (fun (p8 : Int32) => [(0, (.ref 192)), (1, (.int x1)), (2, (.int x2)), (3, (.int p4)), (5, (.int p1.2.2.1)), (6, (.int p1.2.2.2.1)), (7, (.int p1.2.2.2.2))]) (fun (p8 : Int32) => [(.int p8)]) (fun (p8 : Int32) => h) ?_ (fun p8 => ?_)
        · refine hp_ic_le hm at0 rfl (by exact trivial) (pc' := 63) rfl 3 rfl (tgt := 76) rfl (fun c10 => ?_) (fun c10 => ?_)
          · refine hp_b hm (at1 6 rfl) (L' := [(3, (.int p4)), (0, (.ref 192)), (1, (.int x1)), (2, (.int x2)), (4, (.int p1.2.1)), (5, (.int p1.2.2.1)), (6, (.int p1.2.2.2.1)), (7, (.int p1.2.2.2.2))]) (st' := [(.int p1.2.1)]) rfl (by exact trivial) (pc' := 78) rfl ?_
            exact hp_lf [1, 2, 3, 0, 5, 6, 7] rfl (fun _ e => e)
          · refine hp_G hm (at1 7 rfl) (L' := [(3, (.int p4)), (0, (.ref 192)), (1, (.int x1)), (2, (.int x2)), (4, (.int p1.2.1)), (5, (.int p1.2.2.1)), (6, (.int p1.2.2.2.1)), (7, (.int p1.2.2.2.2))]) (st' := [(.int (rdI h 243 (Int32.toNatClampNeg p1.2.2.2.2)))]) rfl (fun hP => (by exact ⟨og_192, ⟨og_243, hP⟩⟩)) (pc' := 73) rfl (fun q9 => ?_)
            refine hp_goto hm 2 rfl (tgt := 78) rfl ?_
            exact hp_lf [1, 2, 3, 0, 5, 6, 7] rfl (fun _ e => e)
        · refine hp_G hm (at1 8 rfl) (L' := [(4, (.int p8)), (0, (.ref 192)), (1, (.int x1)), (2, (.int x2)), (3, (.int p4)), (5, (.int p1.2.2.1)), (6, (.int p1.2.2.2.1)), (7, (.int p1.2.2.2.2))]) (st' := [(.int p1.2.2.1), (.int (rdI h 244 (Int32.toNatClampNeg p1.2.2.2.2)))]) rfl (fun hP => (by exact ⟨og_192, ⟨og_244, hP⟩⟩)) (pc' := 89) rfl (fun q11 => ?_)
          refine hp_J 104 (fun (p12 : Int32) => [(0, (.ref 192)), (1, (.int x1)), (2, (.int x2)), (3, (.int p4)), (4, (.int p8)), (6, (.int p1.2.2.2.1)), (7, (.int p1.2.2.2.2))]) (fun (p12 : Int32) => [(.int p12)]) (fun (p12 : Int32) => h) ?_ (fun p12 => ?_)
          · refine hp_ic_ge hm at0 rfl (by exact trivial) (pc' := 89) rfl 5 rfl (tgt := 102) rfl (fun c14 => ?_) (fun c14 => ?_)
            · refine hp_b hm (at1 9 rfl) (L' := [(4, (.int p8)), (0, (.ref 192)), (1, (.int x1)), (2, (.int x2)), (3, (.int p4)), (5, (.int p1.2.2.1)), (6, (.int p1.2.2.2.1)), (7, (.int p1.2.2.2.2))]) (st' := [(.int p1.2.2.1)]) rfl (by exact trivial) (pc' := 104) rfl ?_
              exact hp_lf [1, 2, 3, 4, 0, 6, 7] rfl (fun _ e => e)
            · refine hp_G hm (at1 10 rfl) (L' := [(4, (.int p8)), (0, (.ref 192)), (1, (.int x1)), (2, (.int x2)), (3, (.int p4)), (5, (.int p1.2.2.1)), (6, (.int p1.2.2.2.1)), (7, (.int p1.2.2.2.2))]) (st' := [(.int (rdI h 244 (Int32.toNatClampNeg p1.2.2.2.2)))]) rfl (fun hP => (by exact ⟨og_192, ⟨og_244, hP⟩⟩)) (pc' := 99) rfl (fun q13 => ?_)
              refine hp_goto hm 4 rfl (tgt := 104) rfl ?_
              exact hp_lf [1, 2, 3, 4, 0, 6, 7] rfl (fun _ e => e)
          · refine hp_G hm (at1 11 rfl) (L' := [(5, (.int p12)), (0, (.ref 192)), (1, (.int x1)), (2, (.int x2)), (3, (.int p4)), (4, (.int p8)), (6, (.int p1.2.2.2.1)), (7, (.int p1.2.2.2.2))]) (st' := [(.int p1.2.2.2.1), (.int (rdI h 244 (Int32.toNatClampNeg p1.2.2.2.2)))]) rfl (fun hP => (by exact ⟨og_192, ⟨og_244, hP⟩⟩)) (pc' := 115) rfl (fun q15 => ?_)
            refine hp_J 130 (fun (p16 : Int32) => [(0, (.ref 192)), (1, (.int x1)), (2, (.int x2)), (3, (.int p4)), (4, (.int p8)), (5, (.int p12)), (7, (.int p1.2.2.2.2))]) (fun (p16 : Int32) => [(.int p16)]) (fun (p16 : Int32) => h) ?_ (fun p16 => ?_)
            · refine hp_ic_le hm at0 rfl (by exact trivial) (pc' := 115) rfl 7 rfl (tgt := 128) rfl (fun c18 => ?_) (fun c18 => ?_)
              · refine hp_b hm (at1 12 rfl) (L' := [(5, (.int p12)), (0, (.ref 192)), (1, (.int x1)), (2, (.int x2)), (3, (.int p4)), (4, (.int p8)), (6, (.int p1.2.2.2.1)), (7, (.int p1.2.2.2.2))]) (st' := [(.int p1.2.2.2.1)]) rfl (by exact trivial) (pc' := 130) rfl ?_
                exact hp_lf [1, 2, 3, 4, 5, 0, 7] rfl (fun _ e => e)
              · refine hp_G hm (at1 13 rfl) (L' := [(5, (.int p12)), (0, (.ref 192)), (1, (.int x1)), (2, (.int x2)), (3, (.int p4)), (4, (.int p8)), (6, (.int p1.2.2.2.1)), (7, (.int p1.2.2.2.2))]) (st' := [(.int (rdI h 244 (Int32.toNatClampNeg p1.2.2.2.2)))]) rfl (fun hP => (by exact ⟨og_192, ⟨og_244, hP⟩⟩)) (pc' := 125) rfl (fun q17 => ?_)
                refine hp_goto hm 6 rfl (tgt := 130) rfl ?_
                exact hp_lf [1, 2, 3, 4, 5, 0, 7] rfl (fun _ e => e)
            · refine hp_z hm (at1 14 rfl) (fun (v19 : Int32) => [(7, (.int v19)), (6, (.int p16)), (0, (.ref 192)), (1, (.int x1)), (2, (.int x2)), (3, (.int p4)), (4, (.int p8)), (5, (.int p12))]) (fun (v19 : Int32) => []) rfl (by exact trivial) (pc' := 135) rfl (fun v19 => ?_)
              refine hp_goto hm 8 rfl (tgt := 22) rfl ?_
              exact hp_lf [2, 3, 4, 5, 6, 7, 1, 0] rfl (fun _ e => e)
  · refine hp_b hm (at1 15 rfl) (L' := [(8, (.int (0 : Int32))), (7, (.int (0 : Int32))), (0, (.ref 192)), (1, (.int x1)), (2, (.int x2)), (3, (.int p2.1)), (4, (.int p2.2.1)), (5, (.int p2.2.2.1)), (6, (.int p2.2.2.2))]) (st' := []) rfl (by exact trivial) (pc' := 144) rfl ?_
    refine hp_J 276 (fun (p22 : (Int32 × hH)) => [(7, (.int p22.1))]) (fun (p22 : (Int32 × hH)) => []) (fun (p22 : (Int32 × hH)) => p22.2) ?_ (fun p22 => ?_)
    · refine hp_s [2, 3, 4, 5, 6, 7, 8, 1, 0] rfl (L' := [(0, (.ref 192)), (1, (.int x1)), (2, (.int x2)), (3, (.int p2.1)), (4, (.int p2.2.1)), (5, (.int p2.2.2.1)), (6, (.int p2.2.2.2)), (7, (.int (0 : Int32))), (8, (.int (0 : Int32)))]) ?_
      refine hp_wh (fun (p21 : (Int32 × Int32 × hH)) => [(0, (.ref 192)), (1, (.int x1)), (2, (.int x2)), (3, (.int p2.1)), (4, (.int p2.2.1)), (5, (.int p2.2.2.1)), (6, (.int p2.2.2.2)), (7, (.int p21.1)), (8, (.int p21.2.1))]) [] (fun (p21 : (Int32 × Int32 × hH)) => p21.2.2) (fun p21 => ?_) ((0 : Int32), (0 : Int32), h)
      refine hp_ic_ge hm (at1 16 rfl) rfl (by exact og_192) (pc' := 150) rfl 20 rfl (tgt := 276) rfl (fun c55 => ?_) (fun c55 => ?_)
      · exact hp_lf [7] rfl (fun _ e => e)
      · refine hp_z hm (at1 17 rfl) (fun (v23 : Int32) => [(9, (.int v23)), (0, (.ref 192)), (1, (.int x1)), (2, (.int x2)), (3, (.int p2.1)), (4, (.int p2.2.1)), (5, (.int p2.2.2.1)), (6, (.int p2.2.2.2)), (7, (.int p21.1)), (8, (.int p21.2.1))]) (fun (v23 : Int32) => []) rfl (by exact trivial) (pc' := 165) rfl (fun v23 => ?_)
        refine hp_b hm (at1 18 rfl) (L' := [(10, (.int (0 : Int32))), (9, (.int v23)), (0, (.ref 192)), (1, (.int x1)), (2, (.int x2)), (3, (.int p2.1)), (4, (.int p2.2.1)), (5, (.int p2.2.2.1)), (6, (.int p2.2.2.2)), (7, (.int p21.1)), (8, (.int p21.2.1))]) (st' := []) rfl (by exact trivial) (pc' := 168) rfl ?_
        refine hp_J 270 (fun (p25 : (Int32 × hH)) => [(0, (.ref 192)), (1, (.int x1)), (2, (.int x2)), (3, (.int p2.1)), (4, (.int p2.2.1)), (5, (.int p2.2.2.1)), (6, (.int p2.2.2.2)), (7, (.int p25.1)), (8, (.int p21.2.1))]) (fun (p25 : (Int32 × hH)) => []) (fun (p25 : (Int32 × hH)) => p25.2) ?_ (fun p25 => ?_)
        · refine hp_s [2, 3, 4, 5, 6, 7, 8, 9, 10, 1, 0] rfl (L' := [(0, (.ref 192)), (1, (.int x1)), (2, (.int x2)), (3, (.int p2.1)), (4, (.int p2.2.1)), (5, (.int p2.2.2.1)), (6, (.int p2.2.2.2)), (7, (.int p21.1)), (8, (.int p21.2.1)), (9, (.int v23)), (10, (.int (0 : Int32)))]) ?_
          refine hp_wh (fun (p24 : (Int32 × Int32 × hH)) => [(0, (.ref 192)), (1, (.int x1)), (2, (.int x2)), (3, (.int p2.1)), (4, (.int p2.2.1)), (5, (.int p2.2.2.1)), (6, (.int p2.2.2.2)), (7, (.int p24.1)), (8, (.int p21.2.1)), (9, (.int v23)), (10, (.int p24.2.1))]) [] (fun (p24 : (Int32 × Int32 × hH)) => p24.2.2) (fun p24 => ?_) (p21.1, (0 : Int32), p21.2.2)
          refine hp_cO (L0 := [(0, (.ref 192)), (1, (.int x1)), (2, (.int x2)), (3, (.int p2.1)), (4, (.int p2.2.1)), (5, (.int p2.2.2.1)), (6, (.int p2.2.2.2)), (7, (.int p24.1)), (8, (.int p21.2.1)), (9, (.int v23)), (10, (.int p24.2.1))]) (s0 := []) 192 270 ?_ ?_ ?_
          · refine hp_ic_ge hm (at1 19 rfl) rfl (by exact og_192) (pc' := 174) rfl 12 rfl (tgt := 270) rfl (fun c28 => ?_) (fun c28 => ?_)
            · exact hp_l0 (fun _ e => e)
            · refine hp_cSP (M2 := M_Mo_in) hm (at1 20 rfl) (as := [(.long (Int32.toInt64 v23)), (.long (Int32.toInt64 p2.2.2.1)), (.long (Int32.toInt64 p2.2.2.2))]) (rest := []) rfl (by exact trivial) (pc' := 186) rfl 10 rfl (lw_g (lw_at lw_m9 184 rfl) rfl) y_Mo_in rfl (d2 := 1) ⟨le_b rfl, pd_Mo_in, le_b rfl⟩ (le_b rfl) (k_Mo_in (Int32.toInt64 v23) (Int32.toInt64 p2.2.2.1) (Int32.toInt64 p2.2.2.2) p24.2.2) (fun a26 => ?_)
              refine hp_if_eq hm at0 rfl (by exact trivial) (pc' := 189) rfl 11 rfl (tgt := 270) rfl (fun c27 => ?_) (fun c27 => ?_)
              · exact hp_l0 (fun _ e => e)
              · exact hp_l0 (fun _ e => e)
          · refine hp_z hm (at1 21 rfl) (fun (v32 : Int32) => [(11, (.int v32)), (0, (.ref 192)), (1, (.int x1)), (2, (.int x2)), (3, (.int p2.1)), (4, (.int p2.2.1)), (5, (.int p2.2.2.1)), (6, (.int p2.2.2.2)), (7, (.int p24.1)), (8, (.int p21.2.1)), (9, (.int v23)), (10, (.int p24.2.1))]) (fun (v32 : Int32) => []) rfl (by exact trivial) (pc' := 204) rfl (fun v32 => ?_)
            refine hp_cSP (M2 := M_Mo_in) hm (at1 22 rfl) (as := [(.long (Int32.toInt64 v32)), (.long (Int32.toInt64 p2.1)), (.long (Int32.toInt64 p2.2.1))]) (rest := []) rfl (by exact trivial) (pc' := 212) rfl 13 rfl (lw_g (lw_at lw_m9 184 rfl) rfl) y_Mo_in rfl (d2 := 1) ⟨le_b rfl, pd_Mo_in, le_b rfl⟩ (le_b rfl) (k_Mo_in (Int32.toInt64 v32) (Int32.toInt64 p2.1) (Int32.toInt64 p2.2.1) p24.2.2) (fun a33 => ?_)
            refine hp_J 264 (fun (p34 : (Int32 × hH)) => [(0, (.ref 192)), (1, (.int x1)), (2, (.int x2)), (3, (.int p2.1)), (4, (.int p2.2.1)), (5, (.int p2.2.2.1)), (6, (.int p2.2.2.2)), (7, (.int p34.1)), (8, (.int p21.2.1)), (9, (.int v23)), (10, (.int p24.2.1))]) (fun (p34 : (Int32 × hH)) => []) (fun (p34 : (Int32 × hH)) => p34.2) ?_ (fun p34 => ?_)
            · refine hp_cS (L0 := [(11, (.int v32)), (0, (.ref 192)), (1, (.int x1)), (2, (.int x2)), (3, (.int p2.1)), (4, (.int p2.2.1)), (5, (.int p2.2.2.1)), (6, (.int p2.2.2.2)), (7, (.int p24.1)), (8, (.int p21.2.1)), (9, (.int v23)), (10, (.int p24.2.1))]) (s0 := []) 246 264 ?_ (fun h7 => ?_) (fun h7 => ?_)
              · refine hp_if_eq hm at0 rfl (by exact trivial) (pc' := 215) rfl 17 rfl (tgt := 264) rfl (fun c42 => ?_) (fun c42 => ?_)
                · exact hp_l0 (fun _ e => e)
                · refine hp_G hm (at1 23 rfl) (L' := [(11, (.int v32)), (0, (.ref 192)), (1, (.int x1)), (2, (.int x2)), (3, (.int p2.1)), (4, (.int p2.2.1)), (5, (.int p2.2.2.1)), (6, (.int p2.2.2.2)), (7, (.int p24.1)), (8, (.int p21.2.1)), (9, (.int v23)), (10, (.int p24.2.1))]) (st' := [(.int (rdI p24.2.2 250 (Int32.toNatClampNeg (((128 : Int32) * p21.2.1) + p24.2.1))))]) rfl (fun hP => (by exact ⟨og_192, ⟨og_250, hP⟩⟩)) (pc' := 232) rfl (fun q35 => ?_)
                  refine hp_cS (L0 := [(11, (.int v32)), (0, (.ref 192)), (1, (.int x1)), (2, (.int x2)), (3, (.int p2.1)), (4, (.int p2.2.1)), (5, (.int p2.2.2.1)), (6, (.int p2.2.2.2)), (7, (.int p24.1)), (8, (.int p21.2.1)), (9, (.int v23)), (10, (.int p24.2.1))]) (s0 := []) 246 264 ?_ (fun h3 => ?_) (fun h3 => ?_)
                  · refine hp_if_ne hm at0 rfl (by exact trivial) (pc' := 232) rfl 16 rfl (tgt := 264) rfl (fun c38 => ?_) (fun c38 => ?_)
                    · exact hp_l0 (fun _ e => e)
                    · refine hp_cVS (M2 := M_Mo_isInside) hm (at1 24 rfl) (as := [(.int v32), (.int v23)]) (rest := []) (z := 192) rfl (by exact trivial) (pc' := 240) rfl 14 rfl (lw_g (lw_at lw_m11 82 rfl) rfl) y_Mo_isInside rfl (d2 := 5) ⟨le_b rfl, pd_Mo_isInside, le_b rfl⟩ (le_b rfl) og_192 (k_Mo_isInside v32 v23 p24.2.2) (fun a36 h1 => ?_)
                      refine hp_if_eq hm at0 rfl (by exact trivial) (pc' := 243) rfl 15 rfl (tgt := 264) rfl (fun c37 => ?_) (fun c37 => ?_)
                      · exact hp_l0 (fun _ e => e)
                      · exact hp_l0 (fun _ e => e)
                  · exact hp_l0 (fun _ e => e)
                  · exact hp_l0 (fun _ e => e)
              · refine hp_GW hm (at1 25 rfl) (L' := [(11, (.int v32)), (0, (.ref 192)), (1, (.int x1)), (2, (.int x2)), (3, (.int p2.1)), (4, (.int p2.2.1)), (5, (.int p2.2.2.1)), (6, (.int p2.2.2.2)), (7, (.int p24.1)), (8, (.int p21.2.1)), (9, (.int v23)), (10, (.int p24.2.1))]) rfl (fun hP => (by exact ⟨og_192, ⟨og_250, hP⟩⟩)) (pc' := 261) rfl (fun q51 h8 => ?_)
                refine hp_z hm (at1 26 rfl) (fun (v52 : Int32) => [(7, (.int v52)), (11, (.int v32)), (0, (.ref 192)), (1, (.int x1)), (2, (.int x2)), (3, (.int p2.1)), (4, (.int p2.2.1)), (5, (.int p2.2.2.1)), (6, (.int p2.2.2.2)), (8, (.int p21.2.1)), (9, (.int v23)), (10, (.int p24.2.1))]) (fun (v52 : Int32) => []) rfl (by exact trivial) (pc' := 264) rfl (fun v52 => ?_)
                exact hp_lf [2, 3, 4, 5, 6, 7, 8, 0, 9, 10, 11] rfl (fun _ e => e)
              · exact hp_lf [1, 2, 3, 4, 5, 6, 7, 8, 9, 10, 11] rfl (fun _ e => e)
            · refine hp_z hm (at1 27 rfl) (fun (v53 : Int32) => [(10, (.int v53)), (0, (.ref 192)), (1, (.int x1)), (2, (.int x2)), (3, (.int p2.1)), (4, (.int p2.2.1)), (5, (.int p2.2.2.1)), (6, (.int p2.2.2.2)), (7, (.int p34.1)), (8, (.int p21.2.1)), (9, (.int v23))]) (fun (v53 : Int32) => []) rfl (by exact trivial) (pc' := 267) rfl (fun v53 => ?_)
              refine hp_goto hm 18 rfl (tgt := 168) rfl ?_
              exact hp_lf [1, 2, 3, 4, 5, 6, 7, 8, 9, 10, 0] rfl (fun _ e => e)
          · exact hp_lf [0, 1, 2, 3, 4, 5, 6, 7, 8] rfl (fun _ e => e)
        · refine hp_z hm (at1 28 rfl) (fun (v54 : Int32) => [(8, (.int v54)), (0, (.ref 192)), (1, (.int x1)), (2, (.int x2)), (3, (.int p2.1)), (4, (.int p2.2.1)), (5, (.int p2.2.2.1)), (6, (.int p2.2.2.2)), (7, (.int p25.1))]) (fun (v54 : Int32) => []) rfl (by exact trivial) (pc' := 273) rfl (fun v54 => ?_)
          refine hp_goto hm 19 rfl (tgt := 144) rfl ?_
          exact hp_lf [1, 2, 3, 4, 5, 6, 7, 8, 0] rfl (fun _ e => e)
    · exact hp_ir hm (at1 29 rfl) rfl (by exact trivial) (pc' := 278) rfl 21 rfl rfl (vp_nar_int _) (fun _ e => e)
/-! HintHouseModel.draw(II)I -/
def M_Mo_draw : hM := (11, ⟨"HintHouseModel", "draw", "(II)I"⟩, prog_13_method_118_code, 3, (Option.some Jvm.ClassFile.FieldType.int), [], [(0, [(.aload_n 0, 1, 0, 0, 0, .null), (.getfield 764, 3, 11, 108, 1, .null)]), (14, [(.bipush (-3), 2, 0, 0, 0, (.int (-3 : Int32)))]), (7, [(.aload_n 0, 1, 0, 0, 0, .null), (.getfield 881, 3, 11, 141, 0, .null)]), (17, [(.iload_n 1, 1, 0, 0, 0, .null), (.i2l, 1, 0, 0, 0, .null), (.ldc2_w 887, 3, 0, 0, 0, (.long (-20000 : Int64))), (.ldc2_w 889, 3, 0, 0, 0, (.long (20000 : Int64)))]), (45, [(.bipush (-2), 2, 0, 0, 0, (.int (-2 : Int32)))]), (31, [(.iload_n 2, 1, 0, 0, 0, .null), (.i2l, 1, 0, 0, 0, .null), (.ldc2_w 887, 3, 0, 0, 0, (.long (-20000 : Int64))), (.ldc2_w 889, 3, 0, 0, 0, (.long (20000 : Int64)))]), (50, [(.aload_n 0, 1, 0, 0, 0, .null), (.iload_n 1, 1, 0, 0, 0, .null), (.iload_n 2, 1, 0, 0, 0, .null)])], [(16, .ireturn, 1), (25, .invokestatic 263, 3), (56, .ireturn, 1), (47, .goto 9, 3), (39, .invokestatic 263, 3), (53, .invokevirtual 891, 3), (42, .ifCond .ne 8, 3), (28, .ifCond .eq 17, 3), (11, .ifCond .ne 6, 3), (4, .ifCond .eq 10, 3)])
set_option maxRecDepth 100000 in
theorem m_Mo_draw : hx_mok M_Mo_draw = true := by decide +kernel
theorem pd_Mo_draw : (parseMethodDescriptor M_Mo_draw.2.1.desc).map (fun q => q.parameters.length) = some 2 := by decide +kernel
theorem y_Mo_draw : hx_okV M_Mo_draw := ⟨⟨lw_g (lw_at lw_m11 119 rfl) rfl, lw_g (lw_at lw_m11 117 rfl) rfl, lw_g (lw_at lw_m11 118 rfl) rfl, lw_g (lw_at lw_m1 12 rfl) rfl, rfl, by decide, by decide, by decide⟩, rfl, by decide, plainFor_of_name (by decide)⟩
noncomputable def f_Mo_draw (x1 : Int32) (x2 : Int32) (h : hH) : Option (Int32 × hH) :=
  if (rdI h 192 108) = 0 then (
    some ((-3 : Int32), h)
  ) else (
    if (rdI h 192 141) = 0 then (
      some ((-3 : Int32), h)
    ) else (
      bP (f_Mo_in (Int32.toInt64 x1) (-20000 : Int64) (20000 : Int64)) fun a1 =>
      if a1 = 0 then (
        some ((-2 : Int32), h)
      ) else (
        bP (f_Mo_in (Int32.toInt64 x2) (-20000 : Int64) (20000 : Int64)) fun a2 =>
        if a2 = 0 then (
          some ((-2 : Int32), h)
        ) else (
          bS (f_Mo_drawIt x1 x2 h) fun a3 h1 =>
          some (a3, h1)
        )
      )
    )
  )
set_option maxRecDepth 20000 in
theorem k_Mo_draw (x1 : Int32) (x2 : Int32) (h : hH) : hx_kS S0 M_Mo_draw 7 NT [(.ref 192), (.int x1), (.int x2)] h (f_Mo_draw x1 x2 h) cvI := by
  have hm := m_Mo_draw
  show hx_P S0 M_Mo_draw 7 0 [(0, (.ref 192)), (1, (.int x1)), (2, (.int x2))] [] NT h (f_Mo_draw x1 x2 h) (hx_Rc cvI NT)
  unfold f_Mo_draw
  refine hp_if_eq hm (at1 0 rfl) rfl (by exact og_192) (pc' := 4) rfl 9 rfl (tgt := 14) rfl (fun c7 => ?_) (fun c7 => ?_)
  · exact hp_ir hm (at1 1 rfl) rfl (by exact trivial) (pc' := 16) rfl 0 rfl rfl (vp_nar_int _) (fun _ e => e)
  · refine hp_if_ne hm (at1 2 rfl) rfl (by exact og_192) (pc' := 11) rfl 8 rfl (tgt := 17) rfl (fun c6 => ?_) (fun c6 => ?_)
    · refine hp_cSP (M2 := M_Mo_in) hm (at1 3 rfl) (as := [(.long (Int32.toInt64 x1)), (.long (-20000 : Int64)), (.long (20000 : Int64))]) (rest := []) rfl (by exact trivial) (pc' := 25) rfl 1 rfl (lw_g (lw_at lw_m9 184 rfl) rfl) y_Mo_in rfl (d2 := 1) ⟨le_b rfl, pd_Mo_in, le_b rfl⟩ (le_b rfl) (k_Mo_in (Int32.toInt64 x1) (-20000 : Int64) (20000 : Int64) h) (fun a1 => ?_)
      refine hp_if_eq hm at0 rfl (by exact trivial) (pc' := 28) rfl 7 rfl (tgt := 45) rfl (fun c5 => ?_) (fun c5 => ?_)
      · refine hp_b hm (at1 4 rfl) (L' := [(0, (.ref 192)), (1, (.int x1)), (2, (.int x2))]) (st' := [(.int (-2 : Int32))]) rfl (by exact trivial) (pc' := 47) rfl ?_
        refine hp_goto hm 3 rfl (tgt := 56) rfl ?_
        exact hp_ir hm at0 rfl (by exact trivial) (pc' := 56) rfl 2 rfl rfl (vp_nar_int _) (fun _ e => e)
      · refine hp_cSP (M2 := M_Mo_in) hm (at1 5 rfl) (as := [(.long (Int32.toInt64 x2)), (.long (-20000 : Int64)), (.long (20000 : Int64))]) (rest := []) rfl (by exact trivial) (pc' := 39) rfl 4 rfl (lw_g (lw_at lw_m9 184 rfl) rfl) y_Mo_in rfl (d2 := 1) ⟨le_b rfl, pd_Mo_in, le_b rfl⟩ (le_b rfl) (k_Mo_in (Int32.toInt64 x2) (-20000 : Int64) (20000 : Int64) h) (fun a2 => ?_)
        refine hp_if_ne hm at0 rfl (by exact trivial) (pc' := 42) rfl 6 rfl (tgt := 50) rfl (fun c4 => ?_) (fun c4 => ?_)
        · refine hp_cVS (M2 := M_Mo_drawIt) hm (at1 6 rfl) (as := [(.int x1), (.int x2)]) (rest := []) (z := 192) rfl (by exact trivial) (pc' := 53) rfl 5 rfl (lw_g (lw_at lw_m11 122 rfl) rfl) y_Mo_drawIt rfl (d2 := 6) ⟨le_b rfl, pd_Mo_drawIt, le_b rfl⟩ (le_b rfl) og_192 (k_Mo_drawIt x1 x2 h) (fun a3 h1 => ?_)
          exact hp_ir hm at0 rfl (by exact trivial) (pc' := 56) rfl 2 rfl rfl (vp_nar_int _) (fun _ e => e)
        · refine hp_b hm (at1 4 rfl) (L' := [(0, (.ref 192)), (1, (.int x1)), (2, (.int x2))]) (st' := [(.int (-2 : Int32))]) rfl (by exact trivial) (pc' := 47) rfl ?_
          refine hp_goto hm 3 rfl (tgt := 56) rfl ?_
          exact hp_ir hm at0 rfl (by exact trivial) (pc' := 56) rfl 2 rfl rfl (vp_nar_int _) (fun _ e => e)
    · exact hp_ir hm (at1 1 rfl) rfl (by exact trivial) (pc' := 16) rfl 0 rfl rfl (vp_nar_int _) (fun _ e => e)
