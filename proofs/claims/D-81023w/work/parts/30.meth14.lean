/-! LAYER 2b: methods (printed by gen/dec.py): Mo_check Mo_load Mo_font Mo_table Mo_glyphOf Mo_glyph Mo_kern Mo_point Mo_told Mo_held -/
/-! HintHouseModel.check()I -/
def M_Mo_check : hM := (11, ⟨"HintHouseModel", "check", "()I"⟩, prog_13_method_17_code, 7, (Option.some Jvm.ClassFile.FieldType.int), [], [(0, [(.aload_n 0, 1, 0, 0, 0, .null)]), (9, [(.iconst 1, 1, 0, 0, 0, (.int (1 : Int32))), (.istore_n 1, 1, 0, 0, 0, .null)]), (11, [(.iload_n 1, 1, 0, 0, 0, .null), (.aload_n 0, 1, 0, 0, 0, .null), (.getfield 216, 3, 11, 5, 0, .null)]), (19, [(.aload_n 0, 1, 0, 0, 0, .null), (.getfield 16, 3, 11, 6, 4, .null), (.iload_n 1, 1, 0, 0, 0, .null), (.iconst 1, 1, 0, 0, 0, (.int (1 : Int32))), (.isub, 1, 0, 0, 0, .null), (.iaload, 1, 0, 0, 0, .null), (.i2l, 1, 0, 0, 0, .null), (.ldc2_w 226, 3, 0, 0, 0, (.long (4294967295 : Int64))), (.land, 1, 0, 0, 0, .null), (.aload_n 0, 1, 0, 0, 0, .null), (.getfield 16, 3, 11, 6, 4, .null), (.iload_n 1, 1, 0, 0, 0, .null), (.iaload, 1, 0, 0, 0, .null), (.i2l, 1, 0, 0, 0, .null), (.ldc2_w 226, 3, 0, 0, 0, (.long (4294967295 : Int64))), (.land, 1, 0, 0, 0, .null), (.lcmp, 1, 0, 0, 0, .null)]), (49, [(.iinc 1 1, 3, 0, 0, 0, (.int (1 : Int32)))]), (47, [(.iconst 2, 1, 0, 0, 0, (.int (2 : Int32)))]), (55, [(.iconst 0, 1, 0, 0, 0, (.int (0 : Int32))), (.istore_n 1, 1, 0, 0, 0, .null)]), (57, [(.iload_n 1, 1, 0, 0, 0, .null), (.aload_n 0, 1, 0, 0, 0, .null), (.getfield 216, 3, 11, 5, 0, .null)]), (65, [(.aload_n 0, 1, 0, 0, 0, .null), (.getfield 24, 3, 11, 8, 4, .null), (.iload_n 1, 1, 0, 0, 0, .null), (.laload, 1, 0, 0, 0, .null), (.ldc2_w 228, 3, 0, 0, 0, (.long (4 : Int64))), (.lrem, 1, 0, 0, 0, .null), (.lconst 0, 1, 0, 0, 0, (.long (0 : Int64))), (.lcmp, 1, 0, 0, 0, .null)]), (125, [(.iconst 3, 1, 0, 0, 0, (.int (3 : Int32)))]), (80, [(.aload_n 0, 1, 0, 0, 0, .null), (.getfield 24, 3, 11, 8, 4, .null), (.iload_n 1, 1, 0, 0, 0, .null), (.laload, 1, 0, 0, 0, .null), (.ldc2_w 230, 3, 0, 0, 0, (.long (12 : Int64))), (.ldc2_w 232, 3, 0, 0, 0, (.long (16 : Int64))), (.aload_n 0, 1, 0, 0, 0, .null), (.getfield 216, 3, 11, 5, 0, .null), (.i2l, 1, 0, 0, 0, .null), (.lmul, 1, 0, 0, 0, .null), (.ladd, 1, 0, 0, 0, .null), (.lcmp, 1, 0, 0, 0, .null)]), (103, [(.aload_n 0, 1, 0, 0, 0, .null), (.getfield 24, 3, 11, 8, 4, .null), (.iload_n 1, 1, 0, 0, 0, .null), (.laload, 1, 0, 0, 0, .null), (.aload_n 0, 1, 0, 0, 0, .null), (.getfield 27, 3, 11, 9, 4, .null), (.iload_n 1, 1, 0, 0, 0, .null), (.laload, 1, 0, 0, 0, .null), (.ladd, 1, 0, 0, 0, .null), (.aload_n 0, 1, 0, 0, 0, .null), (.getfield 206, 3, 11, 3, 0, .null), (.i2l, 1, 0, 0, 0, .null), (.lcmp, 1, 0, 0, 0, .null)]), (127, [(.iconst 0, 1, 0, 0, 0, (.int (0 : Int32))), (.istore_n 2, 1, 0, 0, 0, .null)]), (129, [(.iload_n 2, 1, 0, 0, 0, .null), (.iload_n 1, 1, 0, 0, 0, .null)]), (134, [(.aload_n 0, 1, 0, 0, 0, .null), (.getfield 24, 3, 11, 8, 4, .null), (.iload_n 2, 1, 0, 0, 0, .null), (.laload, 1, 0, 0, 0, .null), (.aload_n 0, 1, 0, 0, 0, .null), (.getfield 24, 3, 11, 8, 4, .null), (.iload_n 1, 1, 0, 0, 0, .null), (.laload, 1, 0, 0, 0, .null), (.lcmp, 1, 0, 0, 0, .null)]), (159, [(.aload_n 0, 1, 0, 0, 0, .null), (.getfield 24, 3, 11, 8, 4, .null), (.iload_n 1, 1, 0, 0, 0, .null), (.laload, 1, 0, 0, 0, .null)]), (150, [(.aload_n 0, 1, 0, 0, 0, .null), (.getfield 24, 3, 11, 8, 4, .null), (.iload_n 2, 1, 0, 0, 0, .null), (.laload, 1, 0, 0, 0, .null)]), (165, [(.lstore_n 3, 1, 0, 0, 0, .null), (.aload_n 0, 1, 0, 0, 0, .null), (.getfield 24, 3, 11, 8, 4, .null), (.iload_n 2, 1, 0, 0, 0, .null), (.laload, 1, 0, 0, 0, .null), (.aload_n 0, 1, 0, 0, 0, .null), (.getfield 27, 3, 11, 9, 4, .null), (.iload_n 2, 1, 0, 0, 0, .null), (.laload, 1, 0, 0, 0, .null), (.ladd, 1, 0, 0, 0, .null), (.aload_n 0, 1, 0, 0, 0, .null), (.getfield 24, 3, 11, 8, 4, .null), (.iload_n 1, 1, 0, 0, 0, .null), (.laload, 1, 0, 0, 0, .null), (.aload_n 0, 1, 0, 0, 0, .null), (.getfield 27, 3, 11, 9, 4, .null), (.iload_n 1, 1, 0, 0, 0, .null), (.laload, 1, 0, 0, 0, .null), (.ladd, 1, 0, 0, 0, .null), (.lcmp, 1, 0, 0, 0, .null)]), (212, [(.aload_n 0, 1, 0, 0, 0, .null), (.getfield 24, 3, 11, 8, 4, .null), (.iload_n 1, 1, 0, 0, 0, .null), (.laload, 1, 0, 0, 0, .null), (.aload_n 0, 1, 0, 0, 0, .null), (.getfield 27, 3, 11, 9, 4, .null), (.iload_n 1, 1, 0, 0, 0, .null), (.laload, 1, 0, 0, 0, .null), (.ladd, 1, 0, 0, 0, .null)]), (196, [(.aload_n 0, 1, 0, 0, 0, .null), (.getfield 24, 3, 11, 8, 4, .null), (.iload_n 2, 1, 0, 0, 0, .null), (.laload, 1, 0, 0, 0, .null), (.aload_n 0, 1, 0, 0, 0, .null), (.getfield 27, 3, 11, 9, 4, .null), (.iload_n 2, 1, 0, 0, 0, .null), (.laload, 1, 0, 0, 0, .null), (.ladd, 1, 0, 0, 0, .null)]), (225, [(.lstore 5, 2, 0, 0, 0, .null), (.lload_n 3, 1, 0, 0, 0, .null), (.lload 5, 2, 0, 0, 0, .null), (.lcmp, 1, 0, 0, 0, .null)]), (236, [(.iinc 2 1, 3, 0, 0, 0, (.int (1 : Int32)))]), (234, [(.iconst 3, 1, 0, 0, 0, (.int (3 : Int32)))]), (242, [(.iinc 1 1, 3, 0, 0, 0, (.int (1 : Int32)))]), (248, [(.iconst 0, 1, 0, 0, 0, (.int (0 : Int32))), (.istore_n 1, 1, 0, 0, 0, .null)]), (250, [(.iload_n 1, 1, 0, 0, 0, .null), (.aload_n 0, 1, 0, 0, 0, .null), (.getfield 216, 3, 11, 5, 0, .null)]), (258, [(.aload_n 0, 1, 0, 0, 0, .null), (.getfield 24, 3, 11, 8, 4, .null), (.iload_n 1, 1, 0, 0, 0, .null), (.laload, 1, 0, 0, 0, .null), (.l2i, 1, 0, 0, 0, .null), (.istore_n 2, 1, 0, 0, 0, .null)]), (266, [(.aload_n 0, 1, 0, 0, 0, .null), (.iload_n 2, 1, 0, 0, 0, .null), (.iload_n 2, 1, 0, 0, 0, .null), (.aload_n 0, 1, 0, 0, 0, .null), (.getfield 27, 3, 11, 9, 4, .null), (.iload_n 1, 1, 0, 0, 0, .null), (.laload, 1, 0, 0, 0, .null), (.l2i, 1, 0, 0, 0, .null), (.iadd, 1, 0, 0, 0, .null), (.aload_n 0, 1, 0, 0, 0, .null), (.getfield 16, 3, 11, 6, 4, .null), (.iload_n 1, 1, 0, 0, 0, .null), (.iaload, 1, 0, 0, 0, .null), (.ldc 234, 2, 0, 0, 0, (.int (1751474532 : Int32)))]), (295, [(.iconst (-1), 1, 0, 0, 0, (.int (-1 : Int32)))]), (288, [(.iload_n 2, 1, 0, 0, 0, .null), (.bipush 8, 2, 0, 0, 0, (.int (8 : Int32))), (.iadd, 1, 0, 0, 0, .null)]), (299, [(.aload_n 0, 1, 0, 0, 0, .null), (.getfield 20, 3, 11, 7, 4, .null), (.iload_n 1, 1, 0, 0, 0, .null), (.laload, 1, 0, 0, 0, .null), (.l2i, 1, 0, 0, 0, .null)]), (311, [(.iinc 1 1, 3, 0, 0, 0, (.int (1 : Int32)))]), (309, [(.iconst 4, 1, 0, 0, 0, (.int (4 : Int32)))]), (317, [(.aload_n 0, 1, 0, 0, 0, .null), (.ldc 239, 2, 0, 0, 0, (.int (1668112752 : Int32)))]), (380, [(.iconst 5, 1, 0, 0, 0, (.int (5 : Int32)))]), (326, [(.aload_n 0, 1, 0, 0, 0, .null), (.ldc 240, 2, 0, 0, 0, (.int (1735162214 : Int32)))]), (335, [(.aload_n 0, 1, 0, 0, 0, .null), (.ldc 234, 2, 0, 0, 0, (.int (1751474532 : Int32)))]), (344, [(.aload_n 0, 1, 0, 0, 0, .null), (.ldc 241, 2, 0, 0, 0, (.int (1751672161 : Int32)))]), (353, [(.aload_n 0, 1, 0, 0, 0, .null), (.ldc 242, 2, 0, 0, 0, (.int (1752003704 : Int32)))]), (362, [(.aload_n 0, 1, 0, 0, 0, .null), (.ldc 243, 2, 0, 0, 0, (.int (1819239265 : Int32)))]), (371, [(.aload_n 0, 1, 0, 0, 0, .null), (.ldc 244, 2, 0, 0, 0, (.int (1835104368 : Int32)))]), (382, [(.aload_n 0, 1, 0, 0, 0, .null)]), (392, [(.aload_n 0, 1, 0, 0, 0, .null)]), (402, [(.aload_n 0, 1, 0, 0, 0, .null), (.ldc 241, 2, 0, 0, 0, (.int (1751672161 : Int32)))]), (408, [(.istore_n 1, 1, 0, 0, 0, .null), (.aload_n 0, 1, 0, 0, 0, .null), (.aload_n 0, 1, 0, 0, 0, .null), (.iload_n 1, 1, 0, 0, 0, .null), (.bipush 34, 2, 0, 0, 0, (.int (34 : Int32))), (.iadd, 1, 0, 0, 0, .null)]), (418, [(.putfield 254, 3, 11, 20, 0, .null)]), (421, [(.aload_n 0, 1, 0, 0, 0, .null), (.ldc 241, 2, 0, 0, 0, (.int (1751672161 : Int32)))]), (427, [(.bipush 36, 2, 0, 0, 0, (.int (36 : Int32)))]), (449, [(.bipush 8, 2, 0, 0, 0, (.int (8 : Int32)))]), (432, [(.aload_n 0, 1, 0, 0, 0, .null), (.getfield 254, 3, 11, 20, 0, .null), (.i2l, 1, 0, 0, 0, .null), (.lconst 1, 1, 0, 0, 0, (.long (1 : Int64))), (.aload_n 0, 1, 0, 0, 0, .null), (.getfield 260, 3, 11, 12, 0, .null), (.i2l, 1, 0, 0, 0, .null)]), (452, [(.aload_n 0, 1, 0, 0, 0, .null), (.ldc 242, 2, 0, 0, 0, (.int (1752003704 : Int32)))]), (458, [(.iconst 4, 1, 0, 0, 0, (.int (4 : Int32))), (.aload_n 0, 1, 0, 0, 0, .null), (.getfield 254, 3, 11, 20, 0, .null), (.imul, 1, 0, 0, 0, .null), (.iconst 2, 1, 0, 0, 0, (.int (2 : Int32))), (.aload_n 0, 1, 0, 0, 0, .null), (.getfield 260, 3, 11, 12, 0, .null), (.aload_n 0, 1, 0, 0, 0, .null), (.getfield 254, 3, 11, 20, 0, .null), (.isub, 1, 0, 0, 0, .null), (.imul, 1, 0, 0, 0, .null), (.iadd, 1, 0, 0, 0, .null)]), (482, [(.aload_n 0, 1, 0, 0, 0, .null)]), (479, [(.bipush 9, 2, 0, 0, 0, (.int (9 : Int32)))]), (399, [(.bipush 7, 2, 0, 0, 0, (.int (7 : Int32)))]), (389, [(.bipush 6, 2, 0, 0, 0, (.int (6 : Int32)))]), (7, [(.iconst 1, 1, 0, 0, 0, (.int (1 : Int32)))])], [(1, .invokevirtual 222, 3), (52, .goto (-41), 3), (48, .ireturn, 1), (44, .ifCond .lt 5, 3), (16, .if_icmp .ge 39, 3), (126, .ireturn, 1), (156, .goto 9, 3), (147, .ifCond .le 12, 3), (209, .goto 16, 3), (193, .ifCond .ge 19, 3), (239, .goto (-110), 3), (235, .ireturn, 1), (231, .ifCond .ge 5, 3), (131, .if_icmp .ge 111, 3), (245, .goto (-188), 3), (122, .ifCond .le 5, 3), (100, .ifCond .lt 25, 3), (77, .ifCond .ne 48, 3), (62, .if_icmp .ge 186, 3), (292, .goto 4, 3), (285, .if_icmp .ne 10, 3), (296, .invokevirtual 235, 3), (314, .goto (-64), 3), (310, .ireturn, 1), (306, .if_icmp .eq 5, 3), (255, .if_icmp .ge 62, 3), (320, .invokevirtual 219, 3), (381, .ireturn, 1), (329, .invokevirtual 219, 3), (338, .invokevirtual 219, 3), (347, .invokevirtual 219, 3), (356, .invokevirtual 219, 3), (365, .invokevirtual 219, 3), (374, .invokevirtual 219, 3), (383, .invokevirtual 245, 3), (393, .invokevirtual 248, 3), (405, .invokevirtual 251, 3), (415, .invokevirtual 213, 3), (424, .invokevirtual 257, 3), (451, .ireturn, 1), (443, .invokestatic 263, 3), (455, .invokevirtual 257, 3), (483, .invokevirtual 267, 3), (486, .ireturn, 1), (481, .ireturn, 1), (476, .if_icmp .ge 6, 3), (446, .ifCond .ne 6, 3), (429, .if_icmp .ne 20, 3), (401, .ireturn, 1), (396, .ifCond .ne 6, 3), (391, .ireturn, 1), (386, .ifCond .ne 6, 3), (377, .ifCond .ge 5, 3), (368, .ifCond .lt 12, 3), (359, .ifCond .lt 21, 3), (350, .ifCond .lt 30, 3), (341, .ifCond .lt 39, 3), (332, .ifCond .lt 48, 3), (323, .ifCond .lt 57, 3), (8, .ireturn, 1), (4, .ifCond .ne 5, 3)])
set_option maxRecDepth 100000 in
theorem m_Mo_check : hx_mok M_Mo_check = true := by decide +kernel
theorem pd_Mo_check : (parseMethodDescriptor M_Mo_check.2.1.desc).map (fun q => q.parameters.length) = some 0 := by decide +kernel
theorem y_Mo_check : hx_okV M_Mo_check := ⟨⟨lw_g (lw_at lw_m11 171 rfl) rfl, lw_g (lw_at lw_m11 170 rfl) rfl, qs209, lw_g (lw_at lw_m1 12 rfl) rfl, rfl, by decide, by decide, by decide⟩, rfl, by decide, plainFor_of_name (by decide)⟩
noncomputable def f_Mo_check (h : hH) : Option (Int32 × hH) :=
  bS (f_Mo_directory h) fun a1 h1 =>
  if a1 = 0 then (
    some ((1 : Int32), h1)
  ) else (
    bE (P := Unit) (X := (Int32 × hH)) (
      wh (A := Int32) (B := (Unit ⊕ (Int32 × hH))) (fun p2 =>
          if (rdI h1 192 5) ≤ p2 then (
            some (.inr (.inl ()))
          ) else (
            gd (vp_in (p2 - (1 : Int32)) 16 ∧ vp_in p2 16) <|
            if ((Int32.toInt64 (rdI h1 195 (Int32.toNatClampNeg (p2 - (1 : Int32))))) &&& (4294967295 : Int64)) < ((Int32.toInt64 (rdI h1 195 (Int32.toNatClampNeg p2))) &&& (4294967295 : Int64)) then (
              lz (A := Int32) (p2 + (1 : Int32)) fun v5 =>
              some (.inl v5)
            ) else (
              some (.inr (.inr ((2 : Int32), h1)))
            )
          )
      ) (1 : Int32)
    ) fun p3 =>
    bE (P := Unit) (X := (Int32 × hH)) (
      wh (A := Int32) (B := (Unit ⊕ (Int32 × hH))) (fun p8 =>
          if (rdI h1 192 5) ≤ p8 then (
            some (.inr (.inl ()))
          ) else (
            gd (vp_in p8 16) <|
            if (hx_rL (rdL h1 197 (Int32.toNatClampNeg p8)) (4 : Int64)) = (0 : Int64) then (
              gd (vp_in p8 16) <|
              if (rdL h1 197 (Int32.toNatClampNeg p8)) < ((12 : Int64) + ((16 : Int64) * (Int32.toInt64 (rdI h1 192 5)))) then (
                some (.inr (.inr ((3 : Int32), h1)))
              ) else (
                gd (vp_in p8 16) <|
                if ((rdL h1 197 (Int32.toNatClampNeg p8)) + (rdL h1 198 (Int32.toNatClampNeg p8))) ≤ (Int32.toInt64 (rdI h1 192 3)) then (
                  bE (P := Unit) (X := (Int32 ⊕ (Unit ⊕ (Int32 × hH)))) (
                    wh (A := Int32) (B := (Unit ⊕ (Int32 ⊕ (Unit ⊕ (Int32 × hH))))) (fun p13 =>
                        if p8 ≤ p13 then (
                          some (.inr (.inl ()))
                        ) else (
                          gd (vp_in p13 16 ∧ vp_in p8 16) <|
                          bP (A := Int64) (
                            if (rdL h1 197 (Int32.toNatClampNeg p13)) ≤ (rdL h1 197 (Int32.toNatClampNeg p8)) then (
                              gd (vp_in p8 16) <|
                              some (rdL h1 197 (Int32.toNatClampNeg p8))
                            ) else (
                              gd (vp_in p13 16) <|
                              some (rdL h1 197 (Int32.toNatClampNeg p13))
                            )
                          ) fun p16 =>
                          gd (vp_in p13 16 ∧ vp_in p8 16) <|
                          bP (A := Int64) (
                            if ((rdL h1 197 (Int32.toNatClampNeg p8)) + (rdL h1 198 (Int32.toNatClampNeg p8))) ≤ ((rdL h1 197 (Int32.toNatClampNeg p13)) + (rdL h1 198 (Int32.toNatClampNeg p13))) then (
                              gd (vp_in p8 16) <|
                              some ((rdL h1 197 (Int32.toNatClampNeg p8)) + (rdL h1 198 (Int32.toNatClampNeg p8)))
                            ) else (
                              gd (vp_in p13 16) <|
                              some ((rdL h1 197 (Int32.toNatClampNeg p13)) + (rdL h1 198 (Int32.toNatClampNeg p13)))
                            )
                          ) fun p21 =>
                          if p21 ≤ p16 then (
                            lz (A := Int32) (p13 + (1 : Int32)) fun v25 =>
                            some (.inl v25)
                          ) else (
                            some (.inr (.inr (.inr (.inr ((3 : Int32), h1)))))
                          )
                        )
                    ) (0 : Int32)
                  ) fun p14 =>
                  lz (A := Int32) (p8 + (1 : Int32)) fun v28 =>
                  some (.inl v28)
                ) else (
                  some (.inr (.inr ((3 : Int32), h1)))
                )
              )
            ) else (
              some (.inr (.inr ((3 : Int32), h1)))
            )
          )
      ) (0 : Int32)
    ) fun p9 =>
    bE (P := Unit) (X := (Int32 × hH)) (
      wh (A := Int32) (B := (Unit ⊕ (Int32 × hH))) (fun p33 =>
          if (rdI h1 192 5) ≤ p33 then (
            some (.inr (.inl ()))
          ) else (
            gd (vp_in p33 16) <|
            lz (A := Int32) (Int64.toInt32 (rdL h1 197 (Int32.toNatClampNeg p33))) fun v35 =>
            gd (vp_in p33 16) <|
            lz (A := Int32) (if (rdI h1 195 (Int32.toNatClampNeg p33)) = (1751474532 : Int32) then (v35 + (8 : Int32)) else (-1 : Int32)) fun p38 =>
            bP (f_Mo_sumOf v35 (v35 + (Int64.toInt32 (rdL h1 198 (Int32.toNatClampNeg p33)))) p38 h1) fun a40 =>
            gd (vp_in p33 16) <|
            if a40 = (Int64.toInt32 (rdL h1 196 (Int32.toNatClampNeg p33))) then (
              lz (A := Int32) (p33 + (1 : Int32)) fun v42 =>
              some (.inl v42)
            ) else (
              some (.inr (.inr ((4 : Int32), h1)))
            )
          )
      ) (0 : Int32)
    ) fun p34 =>
    bP (f_Mo_tableOf (1668112752 : Int32) h1) fun a45 =>
    if a45 < 0 then (
      some ((5 : Int32), h1)
    ) else (
      bP (f_Mo_tableOf (1735162214 : Int32) h1) fun a46 =>
      if a46 < 0 then (
        some ((5 : Int32), h1)
      ) else (
        bP (f_Mo_tableOf (1751474532 : Int32) h1) fun a47 =>
        if a47 < 0 then (
          some ((5 : Int32), h1)
        ) else (
          bP (f_Mo_tableOf (1751672161 : Int32) h1) fun a48 =>
          if a48 < 0 then (
            some ((5 : Int32), h1)
          ) else (
            bP (f_Mo_tableOf (1752003704 : Int32) h1) fun a49 =>
            if a49 < 0 then (
              some ((5 : Int32), h1)
            ) else (
              bP (f_Mo_tableOf (1819239265 : Int32) h1) fun a50 =>
              if a50 < 0 then (
                some ((5 : Int32), h1)
              ) else (
                bP (f_Mo_tableOf (1835104368 : Int32) h1) fun a51 =>
                if 0 ≤ a51 then (
                  bS (f_Mo_head h1) fun a52 h2 =>
                  if a52 = 0 then (
                    some ((6 : Int32), h2)
                  ) else (
                    bS (f_Mo_maxp h2) fun a53 h3 =>
                    if a53 = 0 then (
                      some ((7 : Int32), h3)
                    ) else (
                      bP (f_Mo_beginOf (1751672161 : Int32) h3) fun a54 =>
                      bP (f_Mo_u2 (a54 + (34 : Int32)) h3) fun a55 =>
                      lz (wrI h3 192 20 a55) fun h4 =>
                      bP (f_Mo_lengthOf (1751672161 : Int32) h4) fun a56 =>
                      if a56 = (36 : Int32) then (
                        bP (f_Mo_in (Int32.toInt64 (rdI h4 192 20)) (1 : Int64) (Int32.toInt64 (rdI h4 192 12))) fun a57 =>
                        if a57 = 0 then (
                          some ((8 : Int32), h4)
                        ) else (
                          bP (f_Mo_lengthOf (1752003704 : Int32) h4) fun a58 =>
                          if (((4 : Int32) * (rdI h4 192 20)) + ((2 : Int32) * ((rdI h4 192 12) - (rdI h4 192 20)))) ≤ a58 then (
                            bS (f_Mo_checkGlyphs h4) fun a59 h5 =>
                            some (a59, h5)
                          ) else (
                            some ((9 : Int32), h4)
                          )
                        )
                      ) else (
                        some ((8 : Int32), h4)
                      )
                    )
                  )
                ) else (
                  some ((5 : Int32), h1)
                )
              )
            )
          )
        )
      )
    )
  )
set_option maxRecDepth 20000 in
theorem k_Mo_check (h : hH) : hx_kS S0 M_Mo_check 9 NT [(.ref 192)] h (f_Mo_check h) cvI := by
  have hm := m_Mo_check
  show hx_P S0 M_Mo_check 9 0 [(0, (.ref 192))] [] NT h (f_Mo_check h) (hx_Rc cvI NT)
  unfold f_Mo_check
  refine hp_cVS (M2 := M_Mo_directory) hm (at1 0 rfl) (as := []) (rest := []) (z := 192) rfl (by exact trivial) (pc' := 1) rfl 0 rfl (lw_g (lw_at lw_m11 172 rfl) rfl) y_Mo_directory rfl (d2 := 4) ⟨le_b rfl, pd_Mo_directory, le_b rfl⟩ (le_b rfl) og_192 (k_Mo_directory h) (fun a1 h1 => ?_)
  refine hp_if_ne hm at0 rfl (by exact trivial) (pc' := 4) rfl 60 rfl (tgt := 9) rfl (fun c72 => ?_) (fun c72 => ?_)
  · refine hp_b hm (at1 1 rfl) (L' := [(1, (.int (1 : Int32))), (0, (.ref 192))]) (st' := []) rfl (by exact trivial) (pc' := 11) rfl ?_
    refine hp_E 55 (fun (p3 : Unit) => [(0, (.ref 192))]) (fun (p3 : Unit) => []) (fun (p3 : Unit) => h1) ?_ (fun p3 => ?_)
    · refine hp_s [1, 0] rfl (L' := [(0, (.ref 192)), (1, (.int (1 : Int32)))]) ?_
      refine hp_wh (fun (p2 : Int32) => [(0, (.ref 192)), (1, (.int p2))]) [] (fun (p2 : Int32) => h1) (fun p2 => ?_) (1 : Int32)
      refine hp_ic_ge hm (at1 2 rfl) rfl (by exact og_192) (pc' := 16) rfl 4 rfl (tgt := 55) rfl (fun c7 => ?_) (fun c7 => ?_)
      · exact hp_lf [0] rfl (fun _ e => e)
      · refine hp_G hm (at1 3 rfl) (L' := [(0, (.ref 192)), (1, (.int p2))]) (st' := [(.int (lg_cmp ((Int32.toInt64 (rdI h1 195 (Int32.toNatClampNeg (p2 - (1 : Int32))))) &&& (4294967295 : Int64)) ((Int32.toInt64 (rdI h1 195 (Int32.toNatClampNeg p2))) &&& (4294967295 : Int64))))]) rfl (fun hP => (by exact ⟨⟨⟨og_192, ⟨og_195, hP.1⟩⟩, og_192⟩, ⟨og_195, hP.2⟩⟩)) (pc' := 44) rfl (fun q4 => ?_)
        refine hp_lc_lt hm at0 rfl (by exact trivial) (pc' := 44) rfl 3 rfl (tgt := 49) rfl (fun c6 => ?_) (fun c6 => ?_)
        · refine hp_z hm (at1 4 rfl) (fun (v5 : Int32) => [(1, (.int v5)), (0, (.ref 192))]) (fun (v5 : Int32) => []) rfl (by exact trivial) (pc' := 52) rfl (fun v5 => ?_)
          refine hp_goto hm 1 rfl (tgt := 11) rfl ?_
          exact hp_lf [1, 0] rfl (fun _ e => e)
        · exact hp_ir hm (at1 5 rfl) rfl (by exact trivial) (pc' := 48) rfl 2 rfl rfl (vp_nar_int _) (fun _ e => e)
    · refine hp_b hm (at1 6 rfl) (L' := [(1, (.int (0 : Int32))), (0, (.ref 192))]) (st' := []) rfl (by exact trivial) (pc' := 57) rfl ?_
      refine hp_E 248 (fun (p9 : Unit) => [(0, (.ref 192))]) (fun (p9 : Unit) => []) (fun (p9 : Unit) => h1) ?_ (fun p9 => ?_)
      · refine hp_s [1, 0] rfl (L' := [(0, (.ref 192)), (1, (.int (0 : Int32)))]) ?_
        refine hp_wh (fun (p8 : Int32) => [(0, (.ref 192)), (1, (.int p8))]) [] (fun (p8 : Int32) => h1) (fun p8 => ?_) (0 : Int32)
        refine hp_ic_ge hm (at1 7 rfl) rfl (by exact og_192) (pc' := 62) rfl 18 rfl (tgt := 248) rfl (fun c32 => ?_) (fun c32 => ?_)
        · exact hp_lf [0] rfl (fun _ e => e)
        · refine hp_G hm (at1 8 rfl) (L' := [(0, (.ref 192)), (1, (.int p8))]) (st' := [(.int (lg_cmp (hx_rL (rdL h1 197 (Int32.toNatClampNeg p8)) (4 : Int64)) (0 : Int64)))]) rfl (fun hP => (by exact ⟨⟨og_192, ⟨og_197, hP⟩⟩, (show ¬ (4 : Int64) = 0 by decide)⟩)) (pc' := 77) rfl (fun q10 => ?_)
          refine hp_lc_ne hm at0 rfl (by exact trivial) (pc' := 77) rfl 17 rfl (tgt := 125) rfl (fun c31 => ?_) (fun c31 => ?_)
          · exact hp_ir hm (at1 9 rfl) rfl (by exact trivial) (pc' := 126) rfl 5 rfl rfl (vp_nar_int _) (fun _ e => e)
          · refine hp_G hm (at1 10 rfl) (L' := [(0, (.ref 192)), (1, (.int p8))]) (st' := [(.int (lg_cmp (rdL h1 197 (Int32.toNatClampNeg p8)) ((12 : Int64) + ((16 : Int64) * (Int32.toInt64 (rdI h1 192 5))))))]) rfl (fun hP => (by exact ⟨⟨og_192, ⟨og_197, hP⟩⟩, og_192⟩)) (pc' := 100) rfl (fun q11 => ?_)
            refine hp_lc_lt hm at0 rfl (by exact trivial) (pc' := 100) rfl 16 rfl (tgt := 125) rfl (fun c30 => ?_) (fun c30 => ?_)
            · exact hp_ir hm (at1 9 rfl) rfl (by exact trivial) (pc' := 126) rfl 5 rfl rfl (vp_nar_int _) (fun _ e => e)
            · refine hp_G hm (at1 11 rfl) (L' := [(0, (.ref 192)), (1, (.int p8))]) (st' := [(.int (lg_cmp ((rdL h1 197 (Int32.toNatClampNeg p8)) + (rdL h1 198 (Int32.toNatClampNeg p8))) (Int32.toInt64 (rdI h1 192 3))))]) rfl (fun hP => (by exact ⟨⟨⟨⟨og_192, ⟨og_197, hP⟩⟩, og_192⟩, ⟨og_198, hP⟩⟩, og_192⟩)) (pc' := 122) rfl (fun q12 => ?_)
              refine hp_lc_le hm at0 rfl (by exact trivial) (pc' := 122) rfl 15 rfl (tgt := 127) rfl (fun c29 => ?_) (fun c29 => ?_)
              · refine hp_b hm (at1 12 rfl) (L' := [(2, (.int (0 : Int32))), (0, (.ref 192)), (1, (.int p8))]) (st' := []) rfl (by exact trivial) (pc' := 129) rfl ?_
                refine hp_E 242 (fun (p14 : Unit) => [(0, (.ref 192)), (1, (.int p8))]) (fun (p14 : Unit) => []) (fun (p14 : Unit) => h1) ?_ (fun p14 => ?_)
                · refine hp_s [1, 2, 0] rfl (L' := [(0, (.ref 192)), (1, (.int p8)), (2, (.int (0 : Int32)))]) ?_
                  refine hp_wh (fun (p13 : Int32) => [(0, (.ref 192)), (1, (.int p8)), (2, (.int p13))]) [] (fun (p13 : Int32) => h1) (fun p13 => ?_) (0 : Int32)
                  refine hp_ic_ge hm (at1 13 rfl) rfl (by exact trivial) (pc' := 131) rfl 13 rfl (tgt := 242) rfl (fun c27 => ?_) (fun c27 => ?_)
                  · exact hp_lf [0, 1] rfl (fun _ e => e)
                  · refine hp_G hm (at1 14 rfl) (L' := [(0, (.ref 192)), (1, (.int p8)), (2, (.int p13))]) (st' := [(.int (lg_cmp (rdL h1 197 (Int32.toNatClampNeg p13)) (rdL h1 197 (Int32.toNatClampNeg p8))))]) rfl (fun hP => (by exact ⟨⟨⟨og_192, ⟨og_197, hP.1⟩⟩, og_192⟩, ⟨og_197, hP.2⟩⟩)) (pc' := 147) rfl (fun q15 => ?_)
                    refine hp_J 165 (fun (p16 : Int64) => [(0, (.ref 192)), (1, (.int p8)), (2, (.int p13))]) (fun (p16 : Int64) => [(.long p16)]) (fun (p16 : Int64) => h1) ?_ (fun p16 => ?_)
                    · refine hp_lc_le hm at0 rfl (by exact trivial) (pc' := 147) rfl 7 rfl (tgt := 159) rfl (fun c19 => ?_) (fun c19 => ?_)
                      · refine hp_G hm (at1 15 rfl) (L' := [(0, (.ref 192)), (1, (.int p8)), (2, (.int p13))]) (st' := [(.long (rdL h1 197 (Int32.toNatClampNeg p8)))]) rfl (fun hP => (by exact ⟨og_192, ⟨og_197, hP⟩⟩)) (pc' := 165) rfl (fun q17 => ?_)
                        exact hp_lf [0, 1, 2] rfl (fun _ e => e)
                      · refine hp_G hm (at1 16 rfl) (L' := [(0, (.ref 192)), (1, (.int p8)), (2, (.int p13))]) (st' := [(.long (rdL h1 197 (Int32.toNatClampNeg p13)))]) rfl (fun hP => (by exact ⟨og_192, ⟨og_197, hP⟩⟩)) (pc' := 156) rfl (fun q18 => ?_)
                        refine hp_goto hm 6 rfl (tgt := 165) rfl ?_
                        exact hp_lf [0, 1, 2] rfl (fun _ e => e)
                    · refine hp_G hm (at1 17 rfl) (L' := [(3, (.long p16)), (0, (.ref 192)), (1, (.int p8)), (2, (.int p13))]) (st' := [(.int (lg_cmp ((rdL h1 197 (Int32.toNatClampNeg p13)) + (rdL h1 198 (Int32.toNatClampNeg p13))) ((rdL h1 197 (Int32.toNatClampNeg p8)) + (rdL h1 198 (Int32.toNatClampNeg p8)))))]) rfl (fun hP => (by exact ⟨⟨⟨⟨⟨⟨⟨og_192, ⟨og_197, hP.1⟩⟩, og_192⟩, ⟨og_198, hP.1⟩⟩, og_192⟩, ⟨og_197, hP.2⟩⟩, og_192⟩, ⟨og_198, hP.2⟩⟩)) (pc' := 193) rfl (fun q20 => ?_)
                      refine hp_J 225 (fun (p21 : Int64) => [(0, (.ref 192)), (1, (.int p8)), (2, (.int p13)), (3, (.long p16))]) (fun (p21 : Int64) => [(.long p21)]) (fun (p21 : Int64) => h1) ?_ (fun p21 => ?_)
                      · refine hp_lc_ge hm at0 rfl (by exact trivial) (pc' := 193) rfl 9 rfl (tgt := 212) rfl (fun c24 => ?_) (fun c24 => ?_)
                        · refine hp_G hm (at1 18 rfl) (L' := [(3, (.long p16)), (0, (.ref 192)), (1, (.int p8)), (2, (.int p13))]) (st' := [(.long ((rdL h1 197 (Int32.toNatClampNeg p8)) + (rdL h1 198 (Int32.toNatClampNeg p8))))]) rfl (fun hP => (by exact ⟨⟨⟨og_192, ⟨og_197, hP⟩⟩, og_192⟩, ⟨og_198, hP⟩⟩)) (pc' := 225) rfl (fun q22 => ?_)
                          exact hp_lf [1, 2, 3, 0] rfl (fun _ e => e)
                        · refine hp_G hm (at1 19 rfl) (L' := [(3, (.long p16)), (0, (.ref 192)), (1, (.int p8)), (2, (.int p13))]) (st' := [(.long ((rdL h1 197 (Int32.toNatClampNeg p13)) + (rdL h1 198 (Int32.toNatClampNeg p13))))]) rfl (fun hP => (by exact ⟨⟨⟨og_192, ⟨og_197, hP⟩⟩, og_192⟩, ⟨og_198, hP⟩⟩)) (pc' := 209) rfl (fun q23 => ?_)
                          refine hp_goto hm 8 rfl (tgt := 225) rfl ?_
                          exact hp_lf [1, 2, 3, 0] rfl (fun _ e => e)
                      · refine hp_b hm (at1 20 rfl) (L' := [(5, (.long p21)), (0, (.ref 192)), (1, (.int p8)), (2, (.int p13)), (3, (.long p16))]) (st' := [(.int (lg_cmp p16 p21))]) rfl (by exact trivial) (pc' := 231) rfl ?_
                        refine hp_lc_ge hm at0 rfl (by exact trivial) (pc' := 231) rfl 12 rfl (tgt := 236) rfl (fun c26 => ?_) (fun c26 => ?_)
                        · refine hp_z hm (at1 21 rfl) (fun (v25 : Int32) => [(2, (.int v25)), (5, (.long p21)), (0, (.ref 192)), (1, (.int p8)), (3, (.long p16))]) (fun (v25 : Int32) => []) rfl (by exact trivial) (pc' := 239) rfl (fun v25 => ?_)
                          refine hp_goto hm 10 rfl (tgt := 129) rfl ?_
                          exact hp_lf [2, 3, 0] rfl (fun _ e => e)
                        · exact hp_ir hm (at1 22 rfl) rfl (by exact trivial) (pc' := 235) rfl 11 rfl rfl (vp_nar_int _) (fun _ e => e)
                · refine hp_z hm (at1 23 rfl) (fun (v28 : Int32) => [(1, (.int v28)), (0, (.ref 192))]) (fun (v28 : Int32) => []) rfl (by exact trivial) (pc' := 245) rfl (fun v28 => ?_)
                  refine hp_goto hm 14 rfl (tgt := 57) rfl ?_
                  exact hp_lf [1, 0] rfl (fun _ e => e)
              · exact hp_ir hm (at1 9 rfl) rfl (by exact trivial) (pc' := 126) rfl 5 rfl rfl (vp_nar_int _) (fun _ e => e)
      · refine hp_b hm (at1 24 rfl) (L' := [(1, (.int (0 : Int32))), (0, (.ref 192))]) (st' := []) rfl (by exact trivial) (pc' := 250) rfl ?_
        refine hp_E 317 (fun (p34 : Unit) => [(0, (.ref 192))]) (fun (p34 : Unit) => []) (fun (p34 : Unit) => h1) ?_ (fun p34 => ?_)
        · refine hp_s [1, 0] rfl (L' := [(0, (.ref 192)), (1, (.int (0 : Int32)))]) ?_
          refine hp_wh (fun (p33 : Int32) => [(0, (.ref 192)), (1, (.int p33))]) [] (fun (p33 : Int32) => h1) (fun p33 => ?_) (0 : Int32)
          refine hp_ic_ge hm (at1 25 rfl) rfl (by exact og_192) (pc' := 255) rfl 25 rfl (tgt := 317) rfl (fun c44 => ?_) (fun c44 => ?_)
          · exact hp_lf [0] rfl (fun _ e => e)
          · refine hp_GZ hm (at1 26 rfl) (fun (v35 : Int32) => [(2, (.int v35)), (0, (.ref 192)), (1, (.int p33))]) (fun (v35 : Int32) => []) rfl (fun hP => (by exact ⟨og_192, ⟨og_197, hP⟩⟩)) (pc' := 266) rfl (fun q36 v35 => ?_)
            refine hp_G hm (at1 27 rfl) (L' := [(2, (.int v35)), (0, (.ref 192)), (1, (.int p33))]) (st' := [(.int (1751474532 : Int32)), (.int (rdI h1 195 (Int32.toNatClampNeg p33))), (.int (v35 + (Int64.toInt32 (rdL h1 198 (Int32.toNatClampNeg p33))))), (.int v35), (.ref 192)]) rfl (fun hP => (by exact ⟨⟨⟨og_192, ⟨og_198, hP⟩⟩, og_192⟩, ⟨og_195, hP⟩⟩)) (pc' := 285) rfl (fun q37 => ?_)
            refine hp_JZ 296 (fun (p38 : Int32) => [(0, (.ref 192)), (1, (.int p33))]) (fun (p38 : Int32) => [(.int p38), (.int (v35 + (Int64.toInt32 (rdL h1 198 (Int32.toNatClampNeg p33))))), (.int v35), (.ref 192)]) (fun (p38 : Int32) => h1) ?_ (fun p38 => ?_)
            · refine hp_sv0 ?_
              refine hp_ic_ne hm at0 rfl (by exact trivial) (pc' := 285) rfl 20 rfl (tgt := 295) rfl (fun c39 => ?_) (fun c39 => ?_)
              · refine hp_b hm (at1 28 rfl) (L' := [(2, (.int v35)), (0, (.ref 192)), (1, (.int p33))]) (st' := [(.int (-1 : Int32)), (.int (v35 + (Int64.toInt32 (rdL h1 198 (Int32.toNatClampNeg p33))))), (.int v35), (.ref 192)]) rfl (by exact trivial) (pc' := 296) rfl ?_
                exact hp_lf [1, 2] rfl (fun _ e => e)
              · refine hp_b hm (at1 29 rfl) (L' := [(2, (.int v35)), (0, (.ref 192)), (1, (.int p33))]) (st' := [(.int (v35 + (8 : Int32))), (.int (v35 + (Int64.toInt32 (rdL h1 198 (Int32.toNatClampNeg p33))))), (.int v35), (.ref 192)]) rfl (by exact trivial) (pc' := 292) rfl ?_
                refine hp_goto hm 19 rfl (tgt := 296) rfl ?_
                exact hp_lf [1, 2] rfl (fun _ e => e)
            · refine hp_cVP (M2 := M_Mo_sumOf) hm at0 (as := [(.int v35), (.int (v35 + (Int64.toInt32 (rdL h1 198 (Int32.toNatClampNeg p33))))), (.int p38)]) (rest := []) (z := 192) rfl (by exact trivial) (pc' := 296) rfl 21 rfl (lw_g (lw_at lw_m11 180 rfl) rfl) y_Mo_sumOf rfl (d2 := 2) ⟨le_b rfl, pd_Mo_sumOf, le_b rfl⟩ (le_b rfl) og_192 (k_Mo_sumOf v35 (v35 + (Int64.toInt32 (rdL h1 198 (Int32.toNatClampNeg p33)))) p38 h1) (fun a40 => ?_)
              refine hp_G hm (at1 30 rfl) (L' := [(0, (.ref 192)), (1, (.int p33))]) (st' := [(.int (Int64.toInt32 (rdL h1 196 (Int32.toNatClampNeg p33)))), (.int a40)]) rfl (fun hP => (by exact ⟨og_192, ⟨og_196, hP⟩⟩)) (pc' := 306) rfl (fun q41 => ?_)
              refine hp_ic_eq hm at0 rfl (by exact trivial) (pc' := 306) rfl 24 rfl (tgt := 311) rfl (fun c43 => ?_) (fun c43 => ?_)
              · refine hp_z hm (at1 31 rfl) (fun (v42 : Int32) => [(1, (.int v42)), (0, (.ref 192))]) (fun (v42 : Int32) => []) rfl (by exact trivial) (pc' := 314) rfl (fun v42 => ?_)
                refine hp_goto hm 22 rfl (tgt := 250) rfl ?_
                exact hp_lf [1, 0] rfl (fun _ e => e)
              · exact hp_ir hm (at1 32 rfl) rfl (by exact trivial) (pc' := 310) rfl 23 rfl rfl (vp_nar_int _) (fun _ e => e)
        · refine hp_cVP (M2 := M_Mo_tableOf) hm (at1 33 rfl) (as := [(.int (1668112752 : Int32))]) (rest := []) (z := 192) rfl (by exact trivial) (pc' := 320) rfl 26 rfl (lw_g (lw_at lw_m9 196 rfl) rfl) y_Mo_tableOf rfl (d2 := 1) ⟨le_b rfl, pd_Mo_tableOf, le_b rfl⟩ (le_b rfl) og_192 (k_Mo_tableOf (1668112752 : Int32) h1) (fun a45 => ?_)
          refine hp_if_lt hm at0 rfl (by exact trivial) (pc' := 323) rfl 58 rfl (tgt := 380) rfl (fun c71 => ?_) (fun c71 => ?_)
          · exact hp_ir hm (at1 34 rfl) rfl (by exact trivial) (pc' := 381) rfl 27 rfl rfl (vp_nar_int _) (fun _ e => e)
          · refine hp_cVP (M2 := M_Mo_tableOf) hm (at1 35 rfl) (as := [(.int (1735162214 : Int32))]) (rest := []) (z := 192) rfl (by exact trivial) (pc' := 329) rfl 28 rfl (lw_g (lw_at lw_m9 196 rfl) rfl) y_Mo_tableOf rfl (d2 := 1) ⟨le_b rfl, pd_Mo_tableOf, le_b rfl⟩ (le_b rfl) og_192 (k_Mo_tableOf (1735162214 : Int32) h1) (fun a46 => ?_)
            refine hp_if_lt hm at0 rfl (by exact trivial) (pc' := 332) rfl 57 rfl (tgt := 380) rfl (fun c70 => ?_) (fun c70 => ?_)
            · exact hp_ir hm (at1 34 rfl) rfl (by exact trivial) (pc' := 381) rfl 27 rfl rfl (vp_nar_int _) (fun _ e => e)
            · refine hp_cVP (M2 := M_Mo_tableOf) hm (at1 36 rfl) (as := [(.int (1751474532 : Int32))]) (rest := []) (z := 192) rfl (by exact trivial) (pc' := 338) rfl 29 rfl (lw_g (lw_at lw_m9 196 rfl) rfl) y_Mo_tableOf rfl (d2 := 1) ⟨le_b rfl, pd_Mo_tableOf, le_b rfl⟩ (le_b rfl) og_192 (k_Mo_tableOf (1751474532 : Int32) h1) (fun a47 => ?_)
              refine hp_if_lt hm at0 rfl (by exact trivial) (pc' := 341) rfl 56 rfl (tgt := 380) rfl (fun c69 => ?_) (fun c69 => ?_)
              · exact hp_ir hm (at1 34 rfl) rfl (by exact trivial) (pc' := 381) rfl 27 rfl rfl (vp_nar_int _) (fun _ e => e)
              · refine hp_cVP (M2 := M_Mo_tableOf) hm (at1 37 rfl) (as := [(.int (1751672161 : Int32))]) (rest := []) (z := 192) rfl (by exact trivial) (pc' := 347) rfl 30 rfl (lw_g (lw_at lw_m9 196 rfl) rfl) y_Mo_tableOf rfl (d2 := 1) ⟨le_b rfl, pd_Mo_tableOf, le_b rfl⟩ (le_b rfl) og_192 (k_Mo_tableOf (1751672161 : Int32) h1) (fun a48 => ?_)
                refine hp_if_lt hm at0 rfl (by exact trivial) (pc' := 350) rfl 55 rfl (tgt := 380) rfl (fun c68 => ?_) (fun c68 => ?_)
                · exact hp_ir hm (at1 34 rfl) rfl (by exact trivial) (pc' := 381) rfl 27 rfl rfl (vp_nar_int _) (fun _ e => e)
                · refine hp_cVP (M2 := M_Mo_tableOf) hm (at1 38 rfl) (as := [(.int (1752003704 : Int32))]) (rest := []) (z := 192) rfl (by exact trivial) (pc' := 356) rfl 31 rfl (lw_g (lw_at lw_m9 196 rfl) rfl) y_Mo_tableOf rfl (d2 := 1) ⟨le_b rfl, pd_Mo_tableOf, le_b rfl⟩ (le_b rfl) og_192 (k_Mo_tableOf (1752003704 : Int32) h1) (fun a49 => ?_)
                  refine hp_if_lt hm at0 rfl (by exact trivial) (pc' := 359) rfl 54 rfl (tgt := 380) rfl (fun c67 => ?_) (fun c67 => ?_)
                  · exact hp_ir hm (at1 34 rfl) rfl (by exact trivial) (pc' := 381) rfl 27 rfl rfl (vp_nar_int _) (fun _ e => e)
                  · refine hp_cVP (M2 := M_Mo_tableOf) hm (at1 39 rfl) (as := [(.int (1819239265 : Int32))]) (rest := []) (z := 192) rfl (by exact trivial) (pc' := 365) rfl 32 rfl (lw_g (lw_at lw_m9 196 rfl) rfl) y_Mo_tableOf rfl (d2 := 1) ⟨le_b rfl, pd_Mo_tableOf, le_b rfl⟩ (le_b rfl) og_192 (k_Mo_tableOf (1819239265 : Int32) h1) (fun a50 => ?_)
                    refine hp_if_lt hm at0 rfl (by exact trivial) (pc' := 368) rfl 53 rfl (tgt := 380) rfl (fun c66 => ?_) (fun c66 => ?_)
                    · exact hp_ir hm (at1 34 rfl) rfl (by exact trivial) (pc' := 381) rfl 27 rfl rfl (vp_nar_int _) (fun _ e => e)
                    · refine hp_cVP (M2 := M_Mo_tableOf) hm (at1 40 rfl) (as := [(.int (1835104368 : Int32))]) (rest := []) (z := 192) rfl (by exact trivial) (pc' := 374) rfl 33 rfl (lw_g (lw_at lw_m9 196 rfl) rfl) y_Mo_tableOf rfl (d2 := 1) ⟨le_b rfl, pd_Mo_tableOf, le_b rfl⟩ (le_b rfl) og_192 (k_Mo_tableOf (1835104368 : Int32) h1) (fun a51 => ?_)
                      refine hp_if_ge hm at0 rfl (by exact trivial) (pc' := 377) rfl 52 rfl (tgt := 382) rfl (fun c65 => ?_) (fun c65 => ?_)
                      · refine hp_cVS (M2 := M_Mo_head) hm (at1 41 rfl) (as := []) (rest := []) (z := 192) rfl (by exact trivial) (pc' := 383) rfl 34 rfl (lw_g (lw_at lw_m11 187 rfl) rfl) y_Mo_head rfl (d2 := 4) ⟨le_b rfl, pd_Mo_head, le_b rfl⟩ (le_b rfl) og_192 (k_Mo_head h1) (fun a52 h2 => ?_)
                        refine hp_if_ne hm at0 rfl (by exact trivial) (pc' := 386) rfl 51 rfl (tgt := 392) rfl (fun c64 => ?_) (fun c64 => ?_)
                        · refine hp_cVS (M2 := M_Mo_maxp) hm (at1 42 rfl) (as := []) (rest := []) (z := 192) rfl (by exact trivial) (pc' := 393) rfl 35 rfl (lw_g (lw_at lw_m11 193 rfl) rfl) y_Mo_maxp rfl (d2 := 4) ⟨le_b rfl, pd_Mo_maxp, le_b rfl⟩ (le_b rfl) og_192 (k_Mo_maxp h2) (fun a53 h3 => ?_)
                          refine hp_if_ne hm at0 rfl (by exact trivial) (pc' := 396) rfl 49 rfl (tgt := 402) rfl (fun c63 => ?_) (fun c63 => ?_)
                          · refine hp_cVP (M2 := M_Mo_beginOf) hm (at1 43 rfl) (as := [(.int (1751672161 : Int32))]) (rest := []) (z := 192) rfl (by exact trivial) (pc' := 405) rfl 36 rfl (lw_g (lw_at lw_m9 192 rfl) rfl) y_Mo_beginOf rfl (d2 := 2) ⟨le_b rfl, pd_Mo_beginOf, le_b rfl⟩ (le_b rfl) og_192 (k_Mo_beginOf (1751672161 : Int32) h3) (fun a54 => ?_)
                            refine hp_b hm (at1 44 rfl) (L' := [(1, (.int a54)), (0, (.ref 192))]) (st' := [(.int (a54 + (34 : Int32))), (.ref 192), (.ref 192)]) rfl (by exact trivial) (pc' := 415) rfl ?_
                            refine hp_cVP (M2 := M_Mo_u2) hm at0 (as := [(.int (a54 + (34 : Int32)))]) (rest := [(.ref 192)]) (z := 192) rfl (by exact trivial) (pc' := 415) rfl 37 rfl (lw_g (lw_at lw_m9 204 rfl) rfl) y_Mo_u2 rfl (d2 := 2) ⟨le_b rfl, pd_Mo_u2, le_b rfl⟩ (le_b rfl) og_192 (k_Mo_u2 (a54 + (34 : Int32)) h3) (fun a55 => ?_)
                            refine hp_w hm (at1 45 rfl) (L' := [(1, (.int a54)), (0, (.ref 192))]) rfl (by exact og_192) (pc' := 421) rfl (fun h4 => ?_)
                            refine hp_cVP (M2 := M_Mo_lengthOf) hm (at1 46 rfl) (as := [(.int (1751672161 : Int32))]) (rest := []) (z := 192) rfl (by exact trivial) (pc' := 424) rfl 38 rfl (lw_g (lw_at lw_m9 228 rfl) rfl) y_Mo_lengthOf rfl (d2 := 2) ⟨le_b rfl, pd_Mo_lengthOf, le_b rfl⟩ (le_b rfl) og_192 (k_Mo_lengthOf (1751672161 : Int32) h4) (fun a56 => ?_)
                            refine hp_ic_ne hm (at1 47 rfl) rfl (by exact trivial) (pc' := 429) rfl 47 rfl (tgt := 449) rfl (fun c62 => ?_) (fun c62 => ?_)
                            · exact hp_ir hm (at1 48 rfl) rfl (by exact trivial) (pc' := 451) rfl 39 rfl rfl (vp_nar_int _) (fun _ e => e)
                            · refine hp_cSP (M2 := M_Mo_in) hm (at1 49 rfl) (as := [(.long (Int32.toInt64 (rdI h4 192 20))), (.long (1 : Int64)), (.long (Int32.toInt64 (rdI h4 192 12)))]) (rest := []) rfl (by exact ⟨og_192, og_192⟩) (pc' := 443) rfl 40 rfl (lw_g (lw_at lw_m9 184 rfl) rfl) y_Mo_in rfl (d2 := 1) ⟨le_b rfl, pd_Mo_in, le_b rfl⟩ (le_b rfl) (k_Mo_in (Int32.toInt64 (rdI h4 192 20)) (1 : Int64) (Int32.toInt64 (rdI h4 192 12)) h4) (fun a57 => ?_)
                              refine hp_if_ne hm at0 rfl (by exact trivial) (pc' := 446) rfl 46 rfl (tgt := 452) rfl (fun c61 => ?_) (fun c61 => ?_)
                              · refine hp_cVP (M2 := M_Mo_lengthOf) hm (at1 50 rfl) (as := [(.int (1752003704 : Int32))]) (rest := []) (z := 192) rfl (by exact trivial) (pc' := 455) rfl 41 rfl (lw_g (lw_at lw_m9 228 rfl) rfl) y_Mo_lengthOf rfl (d2 := 2) ⟨le_b rfl, pd_Mo_lengthOf, le_b rfl⟩ (le_b rfl) og_192 (k_Mo_lengthOf (1752003704 : Int32) h4) (fun a58 => ?_)
                                refine hp_ic_ge hm (at1 51 rfl) rfl (by exact ⟨⟨og_192, og_192⟩, og_192⟩) (pc' := 476) rfl 45 rfl (tgt := 482) rfl (fun c60 => ?_) (fun c60 => ?_)
                                · refine hp_cVS (M2 := M_Mo_checkGlyphs) hm (at1 52 rfl) (as := []) (rest := []) (z := 192) rfl (by exact trivial) (pc' := 483) rfl 42 rfl (lw_g (lw_at lw_m11 199 rfl) rfl) y_Mo_checkGlyphs rfl (d2 := 8) ⟨le_b rfl, pd_Mo_checkGlyphs, le_b rfl⟩ (le_b rfl) og_192 (k_Mo_checkGlyphs h4) (fun a59 h5 => ?_)
                                  exact hp_ir hm at0 rfl (by exact trivial) (pc' := 486) rfl 43 rfl rfl (vp_nar_int _) (fun _ e => e)
                                · exact hp_ir hm (at1 53 rfl) rfl (by exact trivial) (pc' := 481) rfl 44 rfl rfl (vp_nar_int _) (fun _ e => e)
                              · exact hp_ir hm (at1 48 rfl) rfl (by exact trivial) (pc' := 451) rfl 39 rfl rfl (vp_nar_int _) (fun _ e => e)
                          · exact hp_ir hm (at1 54 rfl) rfl (by exact trivial) (pc' := 401) rfl 48 rfl rfl (vp_nar_int _) (fun _ e => e)
                        · exact hp_ir hm (at1 55 rfl) rfl (by exact trivial) (pc' := 391) rfl 50 rfl rfl (vp_nar_int _) (fun _ e => e)
                      · exact hp_ir hm (at1 34 rfl) rfl (by exact trivial) (pc' := 381) rfl 27 rfl rfl (vp_nar_int _) (fun _ e => e)
  · exact hp_ir hm (at1 56 rfl) rfl (by exact trivial) (pc' := 8) rfl 59 rfl rfl (vp_nar_int _) (fun _ e => e)
/-! HintHouseModel.load()I -/
def M_Mo_load : hM := (11, ⟨"HintHouseModel", "load", "()I"⟩, prog_13_method_125_code, 2, (Option.some Jvm.ClassFile.FieldType.int), [], [(0, [(.aload_n 0, 1, 0, 0, 0, .null), (.aload_n 0, 1, 0, 0, 0, .null), (.getfield 910, 3, 11, 1, 0, .null), (.putfield 206, 3, 11, 3, 0, .null)]), (8, [(.iconst 0, 1, 0, 0, 0, (.int (0 : Int32))), (.istore_n 1, 1, 0, 0, 0, .null)]), (10, [(.iload_n 1, 1, 0, 0, 0, .null), (.aload_n 0, 1, 0, 0, 0, .null), (.getfield 206, 3, 11, 3, 0, .null)]), (18, [(.aload_n 0, 1, 0, 0, 0, .null), (.getfield 13, 3, 11, 2, 4, .null), (.iload_n 1, 1, 0, 0, 0, .null), (.aload_n 0, 1, 0, 0, 0, .null), (.getfield 7, 3, 11, 0, 4, .null), (.iload_n 1, 1, 0, 0, 0, .null), (.baload, 1, 102, 0, 0, .null), (.bastore, 1, 102, 0, 0, .null)]), (30, [(.iinc 1 1, 3, 0, 0, 0, (.int (1 : Int32)))]), (36, [(.aload_n 0, 1, 0, 0, 0, .null), (.iconst 0, 1, 0, 0, 0, (.int (0 : Int32))), (.putfield 767, 3, 11, 107, 1, .null)]), (41, [(.aload_n 0, 1, 0, 0, 0, .null), (.iconst 0, 1, 0, 0, 0, (.int (0 : Int32))), (.putfield 764, 3, 11, 108, 1, .null)]), (46, [(.aload_n 0, 1, 0, 0, 0, .null), (.iconst 0, 1, 0, 0, 0, (.int (0 : Int32))), (.putfield 759, 3, 11, 4, 1, .null)]), (51, [(.aload_n 0, 1, 0, 0, 0, .null), (.iconst 0, 1, 0, 0, 0, (.int (0 : Int32))), (.putfield 621, 3, 11, 62, 0, .null)]), (56, [(.aload_n 0, 1, 0, 0, 0, .null), (.iconst 0, 1, 0, 0, 0, (.int (0 : Int32))), (.putfield 424, 3, 11, 57, 0, .null)]), (61, [(.aload_n 0, 1, 0, 0, 0, .null), (.iconst 0, 1, 0, 0, 0, (.int (0 : Int32))), (.putfield 216, 3, 11, 5, 0, .null)]), (66, [(.aload_n 0, 1, 0, 0, 0, .null)]), (70, [(.istore_n 1, 1, 0, 0, 0, .null), (.iload_n 1, 1, 0, 0, 0, .null)]), (80, [(.aload_n 0, 1, 0, 0, 0, .null), (.iconst 1, 1, 0, 0, 0, (.int (1 : Int32))), (.putfield 759, 3, 11, 4, 1, .null)]), (85, [(.aload_n 0, 1, 0, 0, 0, .null), (.getfield 260, 3, 11, 12, 0, .null)]), (75, [(.bipush (-100), 2, 0, 0, 0, (.int (-100 : Int32))), (.iload_n 1, 1, 0, 0, 0, .null), (.isub, 1, 0, 0, 0, .null)])], [(33, .goto (-23), 3), (15, .if_icmp .ge 21, 3), (67, .invokevirtual 913, 3), (89, .ireturn, 1), (79, .ireturn, 1), (72, .ifCond .le 8, 3)])
set_option maxRecDepth 100000 in
theorem m_Mo_load : hx_mok M_Mo_load = true := by decide +kernel
theorem pd_Mo_load : (parseMethodDescriptor M_Mo_load.2.1.desc).map (fun q => q.parameters.length) = some 0 := by decide +kernel
theorem y_Mo_load : hx_okV M_Mo_load := ⟨⟨lw_g (lw_at lw_m11 167 rfl) rfl, lw_g (lw_at lw_m11 165 rfl) rfl, lw_g (lw_at lw_m11 166 rfl) rfl, lw_g (lw_at lw_m1 12 rfl) rfl, rfl, by decide, by decide, by decide⟩, rfl, by decide, plainFor_of_name (by decide)⟩
noncomputable def f_Mo_load (h : hH) : Option (Int32 × hH) :=
  lz (wrI h 192 3 (rdI h 192 1)) fun h1 =>
  bP (A := hH) (
    wh (A := (Int32 × hH)) (B := hH) (fun p1 =>
        if (rdI p1.2 192 3) ≤ p1.1 then (
          some (.inr p1.2)
        ) else (
          gd (vp_in p1.1 12000) <|
          lz (wrI p1.2 194 (Int32.toNatClampNeg p1.1) (Int8.toInt32 (Int32.toInt8 (rdI p1.2 193 (Int32.toNatClampNeg p1.1))))) fun h2 =>
          lz (A := Int32) (p1.1 + (1 : Int32)) fun v4 =>
          some (.inl (v4, h2))
        )
    ) ((0 : Int32), h1)
  ) fun p2 =>
  lz (wrI p2 192 107 (0 : Int32)) fun h3 =>
  lz (wrI h3 192 108 (0 : Int32)) fun h4 =>
  lz (wrI h4 192 4 (0 : Int32)) fun h5 =>
  lz (wrI h5 192 62 (0 : Int32)) fun h6 =>
  lz (wrI h6 192 57 (0 : Int32)) fun h7 =>
  lz (wrI h7 192 5 (0 : Int32)) fun h8 =>
  bS (f_Mo_check h8) fun a6 h9 =>
  if a6 ≤ 0 then (
    lz (wrI h9 192 4 (1 : Int32)) fun h10 =>
    some ((rdI h10 192 12), h10)
  ) else (
    some (((-100 : Int32) - a6), h9)
  )
set_option maxRecDepth 20000 in
theorem k_Mo_load (h : hH) : hx_kS S0 M_Mo_load 10 NT [(.ref 192)] h (f_Mo_load h) cvI := by
  have hm := m_Mo_load
  show hx_P S0 M_Mo_load 10 0 [(0, (.ref 192))] [] NT h (f_Mo_load h) (hx_Rc cvI NT)
  unfold f_Mo_load
  refine hp_w hm (at1 0 rfl) (L' := [(0, (.ref 192))]) rfl (by exact ⟨og_192, og_192⟩) (pc' := 8) rfl (fun h1 => ?_)
  refine hp_b hm (at1 1 rfl) (L' := [(1, (.int (0 : Int32))), (0, (.ref 192))]) (st' := []) rfl (by exact trivial) (pc' := 10) rfl ?_
  refine hp_J 36 (fun (p2 : hH) => [(0, (.ref 192))]) (fun (p2 : hH) => []) (fun (p2 : hH) => p2) ?_ (fun p2 => ?_)
  · refine hp_s [1, 0] rfl (L' := [(0, (.ref 192)), (1, (.int (0 : Int32)))]) ?_
    refine hp_wh (fun (p1 : (Int32 × hH)) => [(0, (.ref 192)), (1, (.int p1.1))]) [] (fun (p1 : (Int32 × hH)) => p1.2) (fun p1 => ?_) ((0 : Int32), h1)
    refine hp_ic_ge hm (at1 2 rfl) rfl (by exact og_192) (pc' := 15) rfl 1 rfl (tgt := 36) rfl (fun c5 => ?_) (fun c5 => ?_)
    · exact hp_lf [0] rfl (fun _ e => e)
    · refine hp_GW hm (at1 3 rfl) (L' := [(0, (.ref 192)), (1, (.int p1.1))]) rfl (fun hP => (by exact ⟨⟨⟨og_192, og_192⟩, ⟨og_193, hP⟩⟩, ⟨og_194, hP⟩⟩)) (pc' := 30) rfl (fun q3 h2 => ?_)
      refine hp_z hm (at1 4 rfl) (fun (v4 : Int32) => [(1, (.int v4)), (0, (.ref 192))]) (fun (v4 : Int32) => []) rfl (by exact trivial) (pc' := 33) rfl (fun v4 => ?_)
      refine hp_goto hm 0 rfl (tgt := 10) rfl ?_
      exact hp_lf [1, 0] rfl (fun _ e => e)
  · refine hp_w hm (at1 5 rfl) (L' := [(0, (.ref 192))]) rfl (by exact ⟨og_192, (Or.inl rfl)⟩) (pc' := 41) rfl (fun h3 => ?_)
    refine hp_w hm (at1 6 rfl) (L' := [(0, (.ref 192))]) rfl (by exact ⟨og_192, (Or.inl rfl)⟩) (pc' := 46) rfl (fun h4 => ?_)
    refine hp_w hm (at1 7 rfl) (L' := [(0, (.ref 192))]) rfl (by exact ⟨og_192, (Or.inl rfl)⟩) (pc' := 51) rfl (fun h5 => ?_)
    refine hp_w hm (at1 8 rfl) (L' := [(0, (.ref 192))]) rfl (by exact og_192) (pc' := 56) rfl (fun h6 => ?_)
    refine hp_w hm (at1 9 rfl) (L' := [(0, (.ref 192))]) rfl (by exact og_192) (pc' := 61) rfl (fun h7 => ?_)
    refine hp_w hm (at1 10 rfl) (L' := [(0, (.ref 192))]) rfl (by exact og_192) (pc' := 66) rfl (fun h8 => ?_)
    refine hp_cVS (M2 := M_Mo_check) hm (at1 11 rfl) (as := []) (rest := []) (z := 192) rfl (by exact trivial) (pc' := 67) rfl 2 rfl (lw_g (lw_at lw_m11 168 rfl) rfl) y_Mo_check rfl (d2 := 9) ⟨le_b rfl, pd_Mo_check, le_b rfl⟩ (le_b rfl) og_192 (k_Mo_check h8) (fun a6 h9 => ?_)
    refine hp_b hm (at1 12 rfl) (L' := [(1, (.int a6)), (0, (.ref 192))]) (st' := [(.int a6)]) rfl (by exact trivial) (pc' := 72) rfl ?_
    refine hp_if_le hm at0 rfl (by exact trivial) (pc' := 72) rfl 5 rfl (tgt := 80) rfl (fun c7 => ?_) (fun c7 => ?_)
    · refine hp_w hm (at1 13 rfl) (L' := [(1, (.int a6)), (0, (.ref 192))]) rfl (by exact ⟨og_192, (Or.inr rfl)⟩) (pc' := 85) rfl (fun h10 => ?_)
      exact hp_ir hm (at1 14 rfl) rfl (by exact og_192) (pc' := 89) rfl 3 rfl rfl (vp_nar_int _) (fun _ e => e)
    · exact hp_ir hm (at1 15 rfl) rfl (by exact trivial) (pc' := 79) rfl 4 rfl rfl (vp_nar_int _) (fun _ e => e)
/-! HintHouseModel.font(I)I -/
def M_Mo_font : hM := (11, ⟨"HintHouseModel", "font", "(I)I"⟩, prog_13_method_126_code, 2, (Option.some Jvm.ClassFile.FieldType.int), [], [(0, [(.aload_n 0, 1, 0, 0, 0, .null), (.getfield 759, 3, 11, 4, 1, .null)]), (10, [(.iload_n 1, 1, 0, 0, 0, .null)]), (64, [(.aload_n 0, 1, 0, 0, 0, .null), (.getfield 302, 3, 11, 10, 0, .null)]), (69, [(.aload_n 0, 1, 0, 0, 0, .null), (.getfield 260, 3, 11, 12, 0, .null)]), (74, [(.aload_n 0, 1, 0, 0, 0, .null), (.getfield 254, 3, 11, 20, 0, .null)]), (79, [(.aload_n 0, 1, 0, 0, 0, .null), (.getfield 271, 3, 11, 11, 0, .null)]), (84, [(.aload_n 0, 1, 0, 0, 0, .null), (.getfield 216, 3, 11, 5, 0, .null)]), (89, [(.aload_n 0, 1, 0, 0, 0, .null), (.getfield 387, 3, 11, 22, 0, .null)]), (94, [(.aload_n 0, 1, 0, 0, 0, .null), (.getfield 405, 3, 11, 24, 0, .null)]), (99, [(.aload_n 0, 1, 0, 0, 0, .null), (.getfield 294, 3, 11, 25, 0, .null)]), (104, [(.aload_n 0, 1, 0, 0, 0, .null), (.getfield 399, 3, 11, 23, 0, .null)]), (109, [(.aload_n 0, 1, 0, 0, 0, .null), (.getfield 206, 3, 11, 3, 0, .null)]), (114, [(.bipush (-2), 2, 0, 0, 0, (.int (-2 : Int32)))]), (7, [(.bipush (-3), 2, 0, 0, 0, (.int (-3 : Int32)))])], [(11, .tableswitch 103 0 9 #[53, 58, 63, 68, 73, 78, 83, 88, 93, 98], 53), (68, .ireturn, 1), (73, .ireturn, 1), (78, .ireturn, 1), (83, .ireturn, 1), (88, .ireturn, 1), (93, .ireturn, 1), (98, .ireturn, 1), (103, .ireturn, 1), (108, .ireturn, 1), (113, .ireturn, 1), (116, .ireturn, 1), (9, .ireturn, 1), (4, .ifCond .ne 6, 3)])
set_option maxRecDepth 100000 in
theorem m_Mo_font : hx_mok M_Mo_font = true := by decide +kernel
theorem pd_Mo_font : (parseMethodDescriptor M_Mo_font.2.1.desc).map (fun q => q.parameters.length) = some 1 := by decide +kernel
theorem y_Mo_font : hx_okV M_Mo_font := ⟨⟨lw_g (lw_at lw_m11 231 rfl) rfl, lw_g (lw_at lw_m11 229 rfl) rfl, lw_g (lw_at lw_m11 230 rfl) rfl, lw_g (lw_at lw_m1 12 rfl) rfl, rfl, by decide, by decide, by decide⟩, rfl, by decide, plainFor_of_name (by decide)⟩
noncomputable def f_Mo_font (x1 : Int32) (h : hH) : Option Int32 :=
  if (rdI h 192 4) = 0 then (
    some (-3 : Int32)
  ) else (
    if x1 = (0 : Int32) then (
      some (rdI h 192 10)
    ) else (
      if x1 = (1 : Int32) then (
        some (rdI h 192 12)
      ) else (
        if x1 = (2 : Int32) then (
          some (rdI h 192 20)
        ) else (
          if x1 = (3 : Int32) then (
            some (rdI h 192 11)
          ) else (
            if x1 = (4 : Int32) then (
              some (rdI h 192 5)
            ) else (
              if x1 = (5 : Int32) then (
                some (rdI h 192 22)
              ) else (
                if x1 = (6 : Int32) then (
                  some (rdI h 192 24)
                ) else (
                  if x1 = (7 : Int32) then (
                    some (rdI h 192 25)
                  ) else (
                    if x1 = (8 : Int32) then (
                      some (rdI h 192 23)
                    ) else (
                      if x1 = (9 : Int32) then (
                        some (rdI h 192 3)
                      ) else (
                        some (-2 : Int32)
                      )
                    )
                  )
                )
              )
            )
          )
        )
      )
    )
  )
set_option maxRecDepth 20000 in
theorem k_Mo_font (x1 : Int32) (h : hH) : hx_kP S0 M_Mo_font 1 NT [(.ref 192), (.int x1)] h (f_Mo_font x1 h) cvI := by
  have hm := m_Mo_font
  show hx_P S0 M_Mo_font 1 0 [(0, (.ref 192)), (1, (.int x1))] [] NT h (f_Mo_font x1 h) (hx_Rp cvI NT h)
  unfold f_Mo_font
  refine hp_if_ne hm (at1 0 rfl) rfl (by exact og_192) (pc' := 4) rfl 13 rfl (tgt := 10) rfl (fun c11 => ?_) (fun c11 => ?_)
  · refine hp_b hm (at1 1 rfl) (L' := [(0, (.ref 192)), (1, (.int x1))]) (st' := [(.int x1)]) rfl (by exact trivial) (pc' := 11) rfl ?_
    refine hp_sw hm 0 rfl (cs := [0]) (off := 53) (by decide) (tgt := 64) rfl (sw1 _ _) ?_ (fun c1 => ?_)
    · exact hp_ir hm (at1 2 rfl) rfl (by exact og_192) (pc' := 68) rfl 1 rfl rfl (vp_nar_int _) (fun _ e => e)
    · refine hp_sw hm 0 rfl (cs := [1]) (off := 58) (by decide) (tgt := 69) rfl (sw1 _ _) ?_ (fun c2 => ?_)
      · exact hp_ir hm (at1 3 rfl) rfl (by exact og_192) (pc' := 73) rfl 2 rfl rfl (vp_nar_int _) (fun _ e => e)
      · refine hp_sw hm 0 rfl (cs := [2]) (off := 63) (by decide) (tgt := 74) rfl (sw1 _ _) ?_ (fun c3 => ?_)
        · exact hp_ir hm (at1 4 rfl) rfl (by exact og_192) (pc' := 78) rfl 3 rfl rfl (vp_nar_int _) (fun _ e => e)
        · refine hp_sw hm 0 rfl (cs := [3]) (off := 68) (by decide) (tgt := 79) rfl (sw1 _ _) ?_ (fun c4 => ?_)
          · exact hp_ir hm (at1 5 rfl) rfl (by exact og_192) (pc' := 83) rfl 4 rfl rfl (vp_nar_int _) (fun _ e => e)
          · refine hp_sw hm 0 rfl (cs := [4]) (off := 73) (by decide) (tgt := 84) rfl (sw1 _ _) ?_ (fun c5 => ?_)
            · exact hp_ir hm (at1 6 rfl) rfl (by exact og_192) (pc' := 88) rfl 5 rfl rfl (vp_nar_int _) (fun _ e => e)
            · refine hp_sw hm 0 rfl (cs := [5]) (off := 78) (by decide) (tgt := 89) rfl (sw1 _ _) ?_ (fun c6 => ?_)
              · exact hp_ir hm (at1 7 rfl) rfl (by exact og_192) (pc' := 93) rfl 6 rfl rfl (vp_nar_int _) (fun _ e => e)
              · refine hp_sw hm 0 rfl (cs := [6]) (off := 83) (by decide) (tgt := 94) rfl (sw1 _ _) ?_ (fun c7 => ?_)
                · exact hp_ir hm (at1 8 rfl) rfl (by exact og_192) (pc' := 98) rfl 7 rfl rfl (vp_nar_int _) (fun _ e => e)
                · refine hp_sw hm 0 rfl (cs := [7]) (off := 88) (by decide) (tgt := 99) rfl (sw1 _ _) ?_ (fun c8 => ?_)
                  · exact hp_ir hm (at1 9 rfl) rfl (by exact og_192) (pc' := 103) rfl 8 rfl rfl (vp_nar_int _) (fun _ e => e)
                  · refine hp_sw hm 0 rfl (cs := [8]) (off := 93) (by decide) (tgt := 104) rfl (sw1 _ _) ?_ (fun c9 => ?_)
                    · exact hp_ir hm (at1 10 rfl) rfl (by exact og_192) (pc' := 108) rfl 9 rfl rfl (vp_nar_int _) (fun _ e => e)
                    · refine hp_sw hm 0 rfl (cs := [9]) (off := 98) (by decide) (tgt := 109) rfl (sw1 _ _) ?_ (fun c10 => ?_)
                      · exact hp_ir hm (at1 11 rfl) rfl (by exact og_192) (pc' := 113) rfl 10 rfl rfl (vp_nar_int _) (fun _ e => e)
                      · refine hp_sd2 hm 0 rfl (css := [[0], [1], [2], [3], [4], [5], [6], [7], [8], [9]]) (by decide) (by decide) (List.forall_mem_cons.mpr ⟨c1, (List.forall_mem_cons.mpr ⟨c2, (List.forall_mem_cons.mpr ⟨c3, (List.forall_mem_cons.mpr ⟨c4, (List.forall_mem_cons.mpr ⟨c5, (List.forall_mem_cons.mpr ⟨c6, (List.forall_mem_cons.mpr ⟨c7, (List.forall_mem_cons.mpr ⟨c8, (List.forall_mem_cons.mpr ⟨c9, (List.forall_mem_cons.mpr ⟨c10, (fun _ h => absurd h List.not_mem_nil)⟩)⟩)⟩)⟩)⟩)⟩)⟩)⟩)⟩)⟩) (tgt := 114) rfl ?_
                        exact hp_ir hm (at1 12 rfl) rfl (by exact trivial) (pc' := 116) rfl 11 rfl rfl (vp_nar_int _) (fun _ e => e)
  · exact hp_ir hm (at1 13 rfl) rfl (by exact trivial) (pc' := 9) rfl 12 rfl rfl (vp_nar_int _) (fun _ e => e)
/-! HintHouseModel.table(II)J -/
def M_Mo_table : hM := (11, ⟨"HintHouseModel", "table", "(II)J"⟩, prog_13_method_127_code, 3, (Option.some Jvm.ClassFile.FieldType.long), [], [(0, [(.aload_n 0, 1, 0, 0, 0, .null), (.getfield 759, 3, 11, 4, 1, .null)]), (11, [(.iload_n 1, 1, 0, 0, 0, .null), (.i2l, 1, 0, 0, 0, .null), (.lconst 0, 1, 0, 0, 0, (.long (0 : Int64))), (.aload_n 0, 1, 0, 0, 0, .null), (.getfield 216, 3, 11, 5, 0, .null), (.iconst 1, 1, 0, 0, 0, (.int (1 : Int32))), (.isub, 1, 0, 0, 0, .null), (.i2l, 1, 0, 0, 0, .null)]), (31, [(.iload_n 2, 1, 0, 0, 0, .null)]), (49, [(.iload_n 2, 1, 0, 0, 0, .null), (.iconst 1, 1, 0, 0, 0, (.int (1 : Int32)))]), (63, [(.iload_n 2, 1, 0, 0, 0, .null), (.iconst 2, 1, 0, 0, 0, (.int (2 : Int32)))]), (77, [(.iload_n 2, 1, 0, 0, 0, .null), (.iconst 3, 1, 0, 0, 0, (.int (3 : Int32)))]), (91, [(.ldc2_w 920, 3, 0, 0, 0, (.long (-2 : Int64)))]), (82, [(.aload_n 0, 1, 0, 0, 0, .null), (.getfield 27, 3, 11, 9, 4, .null), (.iload_n 1, 1, 0, 0, 0, .null), (.laload, 1, 0, 0, 0, .null)]), (68, [(.aload_n 0, 1, 0, 0, 0, .null), (.getfield 24, 3, 11, 8, 4, .null), (.iload_n 1, 1, 0, 0, 0, .null), (.laload, 1, 0, 0, 0, .null)]), (54, [(.aload_n 0, 1, 0, 0, 0, .null), (.getfield 20, 3, 11, 7, 4, .null), (.iload_n 1, 1, 0, 0, 0, .null), (.laload, 1, 0, 0, 0, .null)]), (35, [(.aload_n 0, 1, 0, 0, 0, .null), (.getfield 16, 3, 11, 6, 4, .null), (.iload_n 1, 1, 0, 0, 0, .null), (.iaload, 1, 0, 0, 0, .null), (.i2l, 1, 0, 0, 0, .null), (.ldc2_w 226, 3, 0, 0, 0, (.long (4294967295 : Int64))), (.land, 1, 0, 0, 0, .null)]), (27, [(.ldc2_w 918, 3, 0, 0, 0, (.long (-1 : Int64)))]), (7, [(.ldc2_w 916, 3, 0, 0, 0, (.long (-3 : Int64)))])], [(21, .invokestatic 263, 3), (94, .lreturn, 1), (88, .goto 6, 3), (79, .if_icmp .ne 12, 3), (74, .goto 20, 3), (65, .if_icmp .ne 12, 3), (60, .goto 34, 3), (51, .if_icmp .ne 12, 3), (46, .goto 48, 3), (32, .ifCond .ne 17, 3), (30, .lreturn, 1), (24, .ifCond .ne 7, 3), (10, .lreturn, 1), (4, .ifCond .ne 7, 3)])
set_option maxRecDepth 100000 in
theorem m_Mo_table : hx_mok M_Mo_table = true := by decide +kernel
theorem pd_Mo_table : (parseMethodDescriptor M_Mo_table.2.1.desc).map (fun q => q.parameters.length) = some 2 := by decide +kernel
theorem y_Mo_table : hx_okV M_Mo_table := ⟨⟨lw_g (lw_at lw_m11 235 rfl) rfl, lw_g (lw_at lw_m11 233 rfl) rfl, lw_g (lw_at lw_m11 234 rfl) rfl, lw_g (lw_at lw_m1 12 rfl) rfl, rfl, by decide, by decide, by decide⟩, rfl, by decide, plainFor_of_name (by decide)⟩
noncomputable def f_Mo_table (x1 : Int32) (x2 : Int32) (h : hH) : Option Int64 :=
  if (rdI h 192 4) = 0 then (
    some (-3 : Int64)
  ) else (
    bP (f_Mo_in (Int32.toInt64 x1) (0 : Int64) (Int32.toInt64 ((rdI h 192 5) - (1 : Int32)))) fun a1 =>
    if a1 = 0 then (
      some (-1 : Int64)
    ) else (
      if x2 = 0 then (
        gd (vp_in x1 16) <|
        some ((Int32.toInt64 (rdI h 195 (Int32.toNatClampNeg x1))) &&& (4294967295 : Int64))
      ) else (
        if x2 = (1 : Int32) then (
          gd (vp_in x1 16) <|
          some (rdL h 196 (Int32.toNatClampNeg x1))
        ) else (
          if x2 = (2 : Int32) then (
            gd (vp_in x1 16) <|
            some (rdL h 197 (Int32.toNatClampNeg x1))
          ) else (
            if x2 = (3 : Int32) then (
              gd (vp_in x1 16) <|
              some (rdL h 198 (Int32.toNatClampNeg x1))
            ) else (
              some (-2 : Int64)
            )
          )
        )
      )
    )
  )
set_option maxRecDepth 20000 in
theorem k_Mo_table (x1 : Int32) (x2 : Int32) (h : hH) : hx_kP S0 M_Mo_table 2 NT [(.ref 192), (.int x1), (.int x2)] h (f_Mo_table x1 x2 h) cvL := by
  have hm := m_Mo_table
  show hx_P S0 M_Mo_table 2 0 [(0, (.ref 192)), (1, (.int x1)), (2, (.int x2))] [] NT h (f_Mo_table x1 x2 h) (hx_Rp cvL NT h)
  unfold f_Mo_table
  refine hp_if_ne hm (at1 0 rfl) rfl (by exact og_192) (pc' := 4) rfl 13 rfl (tgt := 11) rfl (fun c11 => ?_) (fun c11 => ?_)
  · refine hp_cSP (M2 := M_Mo_in) hm (at1 1 rfl) (as := [(.long (Int32.toInt64 x1)), (.long (0 : Int64)), (.long (Int32.toInt64 ((rdI h 192 5) - (1 : Int32))))]) (rest := []) rfl (by exact og_192) (pc' := 21) rfl 0 rfl (lw_g (lw_at lw_m9 184 rfl) rfl) y_Mo_in rfl (d2 := 1) ⟨le_b rfl, pd_Mo_in, le_b rfl⟩ (le_b rfl) (k_Mo_in (Int32.toInt64 x1) (0 : Int64) (Int32.toInt64 ((rdI h 192 5) - (1 : Int32))) h) (fun a1 => ?_)
    refine hp_if_ne hm at0 rfl (by exact trivial) (pc' := 24) rfl 11 rfl (tgt := 31) rfl (fun c10 => ?_) (fun c10 => ?_)
    · refine hp_if_ne hm (at1 2 rfl) rfl (by exact trivial) (pc' := 32) rfl 9 rfl (tgt := 49) rfl (fun c9 => ?_) (fun c9 => ?_)
      · refine hp_ic_ne hm (at1 3 rfl) rfl (by exact trivial) (pc' := 51) rfl 7 rfl (tgt := 63) rfl (fun c7 => ?_) (fun c7 => ?_)
        · refine hp_ic_ne hm (at1 4 rfl) rfl (by exact trivial) (pc' := 65) rfl 5 rfl (tgt := 77) rfl (fun c5 => ?_) (fun c5 => ?_)
          · refine hp_ic_ne hm (at1 5 rfl) rfl (by exact trivial) (pc' := 79) rfl 3 rfl (tgt := 91) rfl (fun c3 => ?_) (fun c3 => ?_)
            · refine hp_b hm (at1 6 rfl) (L' := [(0, (.ref 192)), (1, (.int x1)), (2, (.int x2))]) (st' := [(.long (-2 : Int64))]) rfl (by exact trivial) (pc' := 94) rfl ?_
              exact hp_lr hm at0 rfl (by exact trivial) (pc' := 94) rfl 1 rfl rfl (fun _ e => e)
            · refine hp_G hm (at1 7 rfl) (L' := [(0, (.ref 192)), (1, (.int x1)), (2, (.int x2))]) (st' := [(.long (rdL h 198 (Int32.toNatClampNeg x1)))]) rfl (fun hP => (by exact ⟨og_192, ⟨og_198, hP⟩⟩)) (pc' := 88) rfl (fun q2 => ?_)
              refine hp_goto hm 2 rfl (tgt := 94) rfl ?_
              exact hp_lr hm at0 rfl (by exact trivial) (pc' := 94) rfl 1 rfl rfl (fun _ e => e)
          · refine hp_G hm (at1 8 rfl) (L' := [(0, (.ref 192)), (1, (.int x1)), (2, (.int x2))]) (st' := [(.long (rdL h 197 (Int32.toNatClampNeg x1)))]) rfl (fun hP => (by exact ⟨og_192, ⟨og_197, hP⟩⟩)) (pc' := 74) rfl (fun q4 => ?_)
            refine hp_goto hm 4 rfl (tgt := 94) rfl ?_
            exact hp_lr hm at0 rfl (by exact trivial) (pc' := 94) rfl 1 rfl rfl (fun _ e => e)
        · refine hp_G hm (at1 9 rfl) (L' := [(0, (.ref 192)), (1, (.int x1)), (2, (.int x2))]) (st' := [(.long (rdL h 196 (Int32.toNatClampNeg x1)))]) rfl (fun hP => (by exact ⟨og_192, ⟨og_196, hP⟩⟩)) (pc' := 60) rfl (fun q6 => ?_)
          refine hp_goto hm 6 rfl (tgt := 94) rfl ?_
          exact hp_lr hm at0 rfl (by exact trivial) (pc' := 94) rfl 1 rfl rfl (fun _ e => e)
      · refine hp_G hm (at1 10 rfl) (L' := [(0, (.ref 192)), (1, (.int x1)), (2, (.int x2))]) (st' := [(.long ((Int32.toInt64 (rdI h 195 (Int32.toNatClampNeg x1))) &&& (4294967295 : Int64)))]) rfl (fun hP => (by exact ⟨og_192, ⟨og_195, hP⟩⟩)) (pc' := 46) rfl (fun q8 => ?_)
        refine hp_goto hm 8 rfl (tgt := 94) rfl ?_
        exact hp_lr hm at0 rfl (by exact trivial) (pc' := 94) rfl 1 rfl rfl (fun _ e => e)
    · exact hp_lr hm (at1 11 rfl) rfl (by exact trivial) (pc' := 30) rfl 10 rfl rfl (fun _ e => e)
  · exact hp_lr hm (at1 12 rfl) rfl (by exact trivial) (pc' := 10) rfl 12 rfl rfl (fun _ e => e)
/-! HintHouseModel.glyphOf(I)I -/
def M_Mo_glyphOf : hM := (11, ⟨"HintHouseModel", "glyphOf", "(I)I"⟩, prog_13_method_128_code, 2, (Option.some Jvm.ClassFile.FieldType.int), [], [(0, [(.aload_n 0, 1, 0, 0, 0, .null), (.getfield 759, 3, 11, 4, 1, .null)]), (10, [(.iload_n 1, 1, 0, 0, 0, .null), (.i2l, 1, 0, 0, 0, .null), (.lconst 0, 1, 0, 0, 0, (.long (0 : Int64))), (.ldc2_w 894, 3, 0, 0, 0, (.long (1114111 : Int64)))]), (30, [(.bipush (-2), 2, 0, 0, 0, (.int (-2 : Int32)))]), (22, [(.aload_n 0, 1, 0, 0, 0, .null), (.iload_n 1, 1, 0, 0, 0, .null)]), (7, [(.bipush (-3), 2, 0, 0, 0, (.int (-3 : Int32)))])], [(16, .invokestatic 263, 3), (32, .ireturn, 1), (24, .invokevirtual 902, 3), (27, .goto 5, 3), (19, .ifCond .eq 11, 3), (9, .ireturn, 1), (4, .ifCond .ne 6, 3)])
set_option maxRecDepth 100000 in
theorem m_Mo_glyphOf : hx_mok M_Mo_glyphOf = true := by decide +kernel
theorem pd_Mo_glyphOf : (parseMethodDescriptor M_Mo_glyphOf.2.1.desc).map (fun q => q.parameters.length) = some 1 := by decide +kernel
theorem y_Mo_glyphOf : hx_okV M_Mo_glyphOf := ⟨⟨lw_g (lw_at lw_m12 2 rfl) rfl, lw_g (lw_at lw_m12 0 rfl) rfl, lw_g (lw_at lw_m12 1 rfl) rfl, lw_g (lw_at lw_m1 12 rfl) rfl, rfl, by decide, by decide, by decide⟩, rfl, by decide, plainFor_of_name (by decide)⟩
noncomputable def f_Mo_glyphOf (x1 : Int32) (h : hH) : Option Int32 :=
  if (rdI h 192 4) = 0 then (
    some (-3 : Int32)
  ) else (
    bP (f_Mo_in (Int32.toInt64 x1) (0 : Int64) (1114111 : Int64)) fun a1 =>
    if a1 = 0 then (
      some (-2 : Int32)
    ) else (
      bP (f_Mo_glyphAt x1 h) fun a2 =>
      some a2
    )
  )
set_option maxRecDepth 20000 in
theorem k_Mo_glyphOf (x1 : Int32) (h : hH) : hx_kP S0 M_Mo_glyphOf 6 NT [(.ref 192), (.int x1)] h (f_Mo_glyphOf x1 h) cvI := by
  have hm := m_Mo_glyphOf
  show hx_P S0 M_Mo_glyphOf 6 0 [(0, (.ref 192)), (1, (.int x1))] [] NT h (f_Mo_glyphOf x1 h) (hx_Rp cvI NT h)
  unfold f_Mo_glyphOf
  refine hp_if_ne hm (at1 0 rfl) rfl (by exact og_192) (pc' := 4) rfl 6 rfl (tgt := 10) rfl (fun c4 => ?_) (fun c4 => ?_)
  · refine hp_cSP (M2 := M_Mo_in) hm (at1 1 rfl) (as := [(.long (Int32.toInt64 x1)), (.long (0 : Int64)), (.long (1114111 : Int64))]) (rest := []) rfl (by exact trivial) (pc' := 16) rfl 0 rfl (lw_g (lw_at lw_m9 184 rfl) rfl) y_Mo_in rfl (d2 := 1) ⟨le_b rfl, pd_Mo_in, le_b rfl⟩ (le_b rfl) (k_Mo_in (Int32.toInt64 x1) (0 : Int64) (1114111 : Int64) h) (fun a1 => ?_)
    refine hp_if_eq hm at0 rfl (by exact trivial) (pc' := 19) rfl 4 rfl (tgt := 30) rfl (fun c3 => ?_) (fun c3 => ?_)
    · refine hp_b hm (at1 2 rfl) (L' := [(0, (.ref 192)), (1, (.int x1))]) (st' := [(.int (-2 : Int32))]) rfl (by exact trivial) (pc' := 32) rfl ?_
      exact hp_ir hm at0 rfl (by exact trivial) (pc' := 32) rfl 1 rfl rfl (vp_nar_int _) (fun _ e => e)
    · refine hp_cVP (M2 := M_Mo_glyphAt) hm (at1 3 rfl) (as := [(.int x1)]) (rest := []) (z := 192) rfl (by exact trivial) (pc' := 24) rfl 2 rfl (lw_g (lw_at lw_m11 139 rfl) rfl) y_Mo_glyphAt rfl (d2 := 5) ⟨le_b rfl, pd_Mo_glyphAt, le_b rfl⟩ (le_b rfl) og_192 (k_Mo_glyphAt x1 h) (fun a2 => ?_)
      refine hp_goto hm 3 rfl (tgt := 32) rfl ?_
      exact hp_ir hm at0 rfl (by exact trivial) (pc' := 32) rfl 1 rfl rfl (vp_nar_int _) (fun _ e => e)
  · exact hp_ir hm (at1 4 rfl) rfl (by exact trivial) (pc' := 9) rfl 5 rfl rfl (vp_nar_int _) (fun _ e => e)
/-! HintHouseModel.glyph(II)I -/
def M_Mo_glyph : hM := (11, ⟨"HintHouseModel", "glyph", "(II)I"⟩, prog_13_method_129_code, 4, (Option.some Jvm.ClassFile.FieldType.int), [], [(0, [(.aload_n 0, 1, 0, 0, 0, .null), (.getfield 759, 3, 11, 4, 1, .null)]), (10, [(.iload_n 1, 1, 0, 0, 0, .null), (.i2l, 1, 0, 0, 0, .null), (.lconst 0, 1, 0, 0, 0, (.long (0 : Int64))), (.aload_n 0, 1, 0, 0, 0, .null), (.getfield 260, 3, 11, 12, 0, .null), (.iconst 1, 1, 0, 0, 0, (.int (1 : Int32))), (.isub, 1, 0, 0, 0, .null), (.i2l, 1, 0, 0, 0, .null)]), (28, [(.aload_n 0, 1, 0, 0, 0, .null), (.iload_n 1, 1, 0, 0, 0, .null)]), (33, [(.istore_n 3, 1, 0, 0, 0, .null), (.iload_n 2, 1, 0, 0, 0, .null)]), (80, [(.aload_n 0, 1, 0, 0, 0, .null), (.iload_n 1, 1, 0, 0, 0, .null)]), (86, [(.aload_n 0, 1, 0, 0, 0, .null), (.iload_n 1, 1, 0, 0, 0, .null)]), (92, [(.aload_n 0, 1, 0, 0, 0, .null), (.getfield 345, 3, 11, 27, 0, .null), (.aload_n 0, 1, 0, 0, 0, .null), (.getfield 342, 3, 11, 26, 0, .null), (.isub, 1, 0, 0, 0, .null)]), (102, [(.aload_n 0, 1, 0, 0, 0, .null), (.getfield 348, 3, 11, 28, 0, .null)]), (107, [(.aload_n 0, 1, 0, 0, 0, .null), (.iload_n 1, 1, 0, 0, 0, .null)]), (113, [(.aload_n 0, 1, 0, 0, 0, .null), (.getfield 351, 3, 11, 29, 0, .null)]), (118, [(.aload_n 0, 1, 0, 0, 0, .null), (.getfield 354, 3, 11, 30, 0, .null)]), (123, [(.aload_n 0, 1, 0, 0, 0, .null), (.getfield 360, 3, 11, 32, 0, .null)]), (128, [(.bipush (-2), 2, 0, 0, 0, (.int (-2 : Int32)))]), (26, [(.iconst (-1), 1, 0, 0, 0, (.int (-1 : Int32)))]), (7, [(.bipush (-3), 2, 0, 0, 0, (.int (-3 : Int32)))])], [(20, .invokestatic 263, 3), (30, .invokevirtual 278, 3), (35, .tableswitch 93 0 7 #[45, 51, 57, 67, 72, 78, 83, 88], 45), (82, .invokevirtual 785, 3), (85, .ireturn, 1), (88, .invokevirtual 782, 3), (91, .ireturn, 1), (101, .ireturn, 1), (106, .ireturn, 1), (109, .invokevirtual 779, 3), (112, .ireturn, 1), (117, .ireturn, 1), (122, .ireturn, 1), (127, .ireturn, 1), (130, .ireturn, 1), (27, .ireturn, 1), (23, .ifCond .ne 5, 3), (9, .ireturn, 1), (4, .ifCond .ne 6, 3)])
set_option maxRecDepth 100000 in
theorem m_Mo_glyph : hx_mok M_Mo_glyph = true := by decide +kernel
theorem pd_Mo_glyph : (parseMethodDescriptor M_Mo_glyph.2.1.desc).map (fun q => q.parameters.length) = some 2 := by decide +kernel
theorem y_Mo_glyph : hx_okV M_Mo_glyph := ⟨⟨lw_g (lw_at lw_m12 6 rfl) rfl, lw_g (lw_at lw_m12 4 rfl) rfl, lw_g (lw_at lw_m12 5 rfl) rfl, lw_g (lw_at lw_m1 12 rfl) rfl, rfl, by decide, by decide, by decide⟩, rfl, by decide, plainFor_of_name (by decide)⟩
noncomputable def f_Mo_glyph (x1 : Int32) (x2 : Int32) (h : hH) : Option (Int32 × hH) :=
  if (rdI h 192 4) = 0 then (
    some ((-3 : Int32), h)
  ) else (
    bP (f_Mo_in (Int32.toInt64 x1) (0 : Int64) (Int32.toInt64 ((rdI h 192 12) - (1 : Int32)))) fun a1 =>
    if a1 = 0 then (
      some ((-1 : Int32), h)
    ) else (
      bS (f_Mo_isGlyph x1 h) fun a2 h1 =>
      if x2 = (0 : Int32) then (
        bP (f_Mo_advanceOf x1 h1) fun a3 =>
        some (a3, h1)
      ) else (
        if x2 = (1 : Int32) then (
          bP (f_Mo_bearingOf x1 h1) fun a5 =>
          some (a5, h1)
        ) else (
          if x2 = (2 : Int32) then (
            some (((rdI h1 192 27) - (rdI h1 192 26)), h1)
          ) else (
            if x2 = (3 : Int32) then (
              some ((rdI h1 192 28), h1)
            ) else (
              if x2 = (4 : Int32) then (
                bS (f_Mo_leftOf x1 h1) fun a9 h2 =>
                some (a9, h2)
              ) else (
                if x2 = (5 : Int32) then (
                  some ((rdI h1 192 29), h1)
                ) else (
                  if x2 = (6 : Int32) then (
                    some ((rdI h1 192 30), h1)
                  ) else (
                    if x2 = (7 : Int32) then (
                      some ((rdI h1 192 32), h1)
                    ) else (
                      some ((-2 : Int32), h1)
                    )
                  )
                )
              )
            )
          )
        )
      )
    )
  )
set_option maxRecDepth 20000 in
theorem k_Mo_glyph (x1 : Int32) (x2 : Int32) (h : hH) : hx_kS S0 M_Mo_glyph 7 NT [(.ref 192), (.int x1), (.int x2)] h (f_Mo_glyph x1 x2 h) cvI := by
  have hm := m_Mo_glyph
  show hx_P S0 M_Mo_glyph 7 0 [(0, (.ref 192)), (1, (.int x1)), (2, (.int x2))] [] NT h (f_Mo_glyph x1 x2 h) (hx_Rc cvI NT)
  unfold f_Mo_glyph
  refine hp_if_ne hm (at1 0 rfl) rfl (by exact og_192) (pc' := 4) rfl 18 rfl (tgt := 10) rfl (fun c15 => ?_) (fun c15 => ?_)
  · refine hp_cSP (M2 := M_Mo_in) hm (at1 1 rfl) (as := [(.long (Int32.toInt64 x1)), (.long (0 : Int64)), (.long (Int32.toInt64 ((rdI h 192 12) - (1 : Int32))))]) (rest := []) rfl (by exact og_192) (pc' := 20) rfl 0 rfl (lw_g (lw_at lw_m9 184 rfl) rfl) y_Mo_in rfl (d2 := 1) ⟨le_b rfl, pd_Mo_in, le_b rfl⟩ (le_b rfl) (k_Mo_in (Int32.toInt64 x1) (0 : Int64) (Int32.toInt64 ((rdI h 192 12) - (1 : Int32))) h) (fun a1 => ?_)
    refine hp_if_ne hm at0 rfl (by exact trivial) (pc' := 23) rfl 16 rfl (tgt := 28) rfl (fun c14 => ?_) (fun c14 => ?_)
    · refine hp_cVS (M2 := M_Mo_isGlyph) hm (at1 2 rfl) (as := [(.int x1)]) (rest := []) (z := 192) rfl (by exact trivial) (pc' := 30) rfl 1 rfl (lw_g (lw_at lw_m11 31 rfl) rfl) y_Mo_isGlyph rfl (d2 := 6) ⟨le_b rfl, pd_Mo_isGlyph, le_b rfl⟩ (le_b rfl) og_192 (k_Mo_isGlyph x1 h) (fun a2 h1 => ?_)
      refine hp_b hm (at1 3 rfl) (L' := [(3, (.int a2)), (0, (.ref 192)), (1, (.int x1)), (2, (.int x2))]) (st' := [(.int x2)]) rfl (by exact trivial) (pc' := 35) rfl ?_
      refine hp_sw hm 2 rfl (cs := [0]) (off := 45) (by decide) (tgt := 80) rfl (sw1 _ _) ?_ (fun c4 => ?_)
      · refine hp_cVP (M2 := M_Mo_advanceOf) hm (at1 4 rfl) (as := [(.int x1)]) (rest := []) (z := 192) rfl (by exact trivial) (pc' := 82) rfl 3 rfl (lw_g (lw_at lw_m11 27 rfl) rfl) y_Mo_advanceOf rfl (d2 := 3) ⟨le_b rfl, pd_Mo_advanceOf, le_b rfl⟩ (le_b rfl) og_192 (k_Mo_advanceOf x1 h1) (fun a3 => ?_)
        exact hp_ir hm at0 rfl (by exact trivial) (pc' := 85) rfl 4 rfl rfl (vp_nar_int _) (fun _ e => e)
      · refine hp_sw hm 2 rfl (cs := [1]) (off := 51) (by decide) (tgt := 86) rfl (sw1 _ _) ?_ (fun c6 => ?_)
        · refine hp_cVP (M2 := M_Mo_bearingOf) hm (at1 5 rfl) (as := [(.int x1)]) (rest := []) (z := 192) rfl (by exact trivial) (pc' := 88) rfl 5 rfl (lw_g (lw_at lw_m11 22 rfl) rfl) y_Mo_bearingOf rfl (d2 := 4) ⟨le_b rfl, pd_Mo_bearingOf, le_b rfl⟩ (le_b rfl) og_192 (k_Mo_bearingOf x1 h1) (fun a5 => ?_)
          exact hp_ir hm at0 rfl (by exact trivial) (pc' := 91) rfl 6 rfl rfl (vp_nar_int _) (fun _ e => e)
        · refine hp_sw hm 2 rfl (cs := [2]) (off := 57) (by decide) (tgt := 92) rfl (sw1 _ _) ?_ (fun c7 => ?_)
          · exact hp_ir hm (at1 6 rfl) rfl (by exact ⟨og_192, og_192⟩) (pc' := 101) rfl 7 rfl rfl (vp_nar_int _) (fun _ e => e)
          · refine hp_sw hm 2 rfl (cs := [3]) (off := 67) (by decide) (tgt := 102) rfl (sw1 _ _) ?_ (fun c8 => ?_)
            · exact hp_ir hm (at1 7 rfl) rfl (by exact og_192) (pc' := 106) rfl 8 rfl rfl (vp_nar_int _) (fun _ e => e)
            · refine hp_sw hm 2 rfl (cs := [4]) (off := 72) (by decide) (tgt := 107) rfl (sw1 _ _) ?_ (fun c10 => ?_)
              · refine hp_cVS (M2 := M_Mo_leftOf) hm (at1 8 rfl) (as := [(.int x1)]) (rest := []) (z := 192) rfl (by exact trivial) (pc' := 109) rfl 9 rfl (lw_g (lw_at lw_m11 4 rfl) rfl) y_Mo_leftOf rfl (d2 := 6) ⟨le_b rfl, pd_Mo_leftOf, le_b rfl⟩ (le_b rfl) og_192 (k_Mo_leftOf x1 h1) (fun a9 h2 => ?_)
                exact hp_ir hm at0 rfl (by exact trivial) (pc' := 112) rfl 10 rfl rfl (vp_nar_int _) (fun _ e => e)
              · refine hp_sw hm 2 rfl (cs := [5]) (off := 78) (by decide) (tgt := 113) rfl (sw1 _ _) ?_ (fun c11 => ?_)
                · exact hp_ir hm (at1 9 rfl) rfl (by exact og_192) (pc' := 117) rfl 11 rfl rfl (vp_nar_int _) (fun _ e => e)
                · refine hp_sw hm 2 rfl (cs := [6]) (off := 83) (by decide) (tgt := 118) rfl (sw1 _ _) ?_ (fun c12 => ?_)
                  · exact hp_ir hm (at1 10 rfl) rfl (by exact og_192) (pc' := 122) rfl 12 rfl rfl (vp_nar_int _) (fun _ e => e)
                  · refine hp_sw hm 2 rfl (cs := [7]) (off := 88) (by decide) (tgt := 123) rfl (sw1 _ _) ?_ (fun c13 => ?_)
                    · exact hp_ir hm (at1 11 rfl) rfl (by exact og_192) (pc' := 127) rfl 13 rfl rfl (vp_nar_int _) (fun _ e => e)
                    · refine hp_sd2 hm 2 rfl (css := [[0], [1], [2], [3], [4], [5], [6], [7]]) (by decide) (by decide) (List.forall_mem_cons.mpr ⟨c4, (List.forall_mem_cons.mpr ⟨c6, (List.forall_mem_cons.mpr ⟨c7, (List.forall_mem_cons.mpr ⟨c8, (List.forall_mem_cons.mpr ⟨c10, (List.forall_mem_cons.mpr ⟨c11, (List.forall_mem_cons.mpr ⟨c12, (List.forall_mem_cons.mpr ⟨c13, (fun _ h => absurd h List.not_mem_nil)⟩)⟩)⟩)⟩)⟩)⟩)⟩)⟩) (tgt := 128) rfl ?_
                      exact hp_ir hm (at1 12 rfl) rfl (by exact trivial) (pc' := 130) rfl 14 rfl rfl (vp_nar_int _) (fun _ e => e)
    · exact hp_ir hm (at1 13 rfl) rfl (by exact trivial) (pc' := 27) rfl 15 rfl rfl (vp_nar_int _) (fun _ e => e)
  · exact hp_ir hm (at1 14 rfl) rfl (by exact trivial) (pc' := 9) rfl 17 rfl rfl (vp_nar_int _) (fun _ e => e)
/-! HintHouseModel.kern(II)I -/
def M_Mo_kern : hM := (11, ⟨"HintHouseModel", "kern", "(II)I"⟩, prog_13_method_130_code, 3, (Option.some Jvm.ClassFile.FieldType.int), [], [(0, [(.aload_n 0, 1, 0, 0, 0, .null), (.getfield 759, 3, 11, 4, 1, .null)]), (10, [(.iload_n 1, 1, 0, 0, 0, .null), (.i2l, 1, 0, 0, 0, .null), (.lconst 0, 1, 0, 0, 0, (.long (0 : Int64))), (.aload_n 0, 1, 0, 0, 0, .null), (.getfield 260, 3, 11, 12, 0, .null), (.iconst 1, 1, 0, 0, 0, (.int (1 : Int32))), (.isub, 1, 0, 0, 0, .null), (.i2l, 1, 0, 0, 0, .null)]), (51, [(.iconst (-1), 1, 0, 0, 0, (.int (-1 : Int32)))]), (26, [(.iload_n 2, 1, 0, 0, 0, .null), (.i2l, 1, 0, 0, 0, .null), (.lconst 0, 1, 0, 0, 0, (.long (0 : Int64))), (.aload_n 0, 1, 0, 0, 0, .null), (.getfield 260, 3, 11, 12, 0, .null), (.iconst 1, 1, 0, 0, 0, (.int (1 : Int32))), (.isub, 1, 0, 0, 0, .null), (.i2l, 1, 0, 0, 0, .null)]), (42, [(.aload_n 0, 1, 0, 0, 0, .null), (.iload_n 1, 1, 0, 0, 0, .null), (.iload_n 2, 1, 0, 0, 0, .null)]), (7, [(.bipush (-3), 2, 0, 0, 0, (.int (-3 : Int32)))])], [(20, .invokestatic 263, 3), (52, .ireturn, 1), (36, .invokestatic 263, 3), (45, .invokevirtual 905, 3), (48, .goto 4, 3), (39, .ifCond .eq 12, 3), (23, .ifCond .eq 28, 3), (9, .ireturn, 1), (4, .ifCond .ne 6, 3)])
set_option maxRecDepth 100000 in
theorem m_Mo_kern : hx_mok M_Mo_kern = true := by decide +kernel
theorem pd_Mo_kern : (parseMethodDescriptor M_Mo_kern.2.1.desc).map (fun q => q.parameters.length) = some 2 := by decide +kernel
theorem y_Mo_kern : hx_okV M_Mo_kern := ⟨⟨lw_g (lw_at lw_m12 10 rfl) rfl, lw_g (lw_at lw_m12 8 rfl) rfl, lw_g (lw_at lw_m12 9 rfl) rfl, lw_g (lw_at lw_m1 12 rfl) rfl, rfl, by decide, by decide, by decide⟩, rfl, by decide, plainFor_of_name (by decide)⟩
noncomputable def f_Mo_kern (x1 : Int32) (x2 : Int32) (h : hH) : Option Int32 :=
  if (rdI h 192 4) = 0 then (
    some (-3 : Int32)
  ) else (
    bP (f_Mo_in (Int32.toInt64 x1) (0 : Int64) (Int32.toInt64 ((rdI h 192 12) - (1 : Int32)))) fun a1 =>
    if a1 = 0 then (
      some (-1 : Int32)
    ) else (
      bP (f_Mo_in (Int32.toInt64 x2) (0 : Int64) (Int32.toInt64 ((rdI h 192 12) - (1 : Int32)))) fun a2 =>
      if a2 = 0 then (
        some (-1 : Int32)
      ) else (
        bP (f_Mo_kernOf x1 x2 h) fun a3 =>
        some a3
      )
    )
  )
set_option maxRecDepth 20000 in
theorem k_Mo_kern (x1 : Int32) (x2 : Int32) (h : hH) : hx_kP S0 M_Mo_kern 5 NT [(.ref 192), (.int x1), (.int x2)] h (f_Mo_kern x1 x2 h) cvI := by
  have hm := m_Mo_kern
  show hx_P S0 M_Mo_kern 5 0 [(0, (.ref 192)), (1, (.int x1)), (2, (.int x2))] [] NT h (f_Mo_kern x1 x2 h) (hx_Rp cvI NT h)
  unfold f_Mo_kern
  refine hp_if_ne hm (at1 0 rfl) rfl (by exact og_192) (pc' := 4) rfl 8 rfl (tgt := 10) rfl (fun c6 => ?_) (fun c6 => ?_)
  · refine hp_cSP (M2 := M_Mo_in) hm (at1 1 rfl) (as := [(.long (Int32.toInt64 x1)), (.long (0 : Int64)), (.long (Int32.toInt64 ((rdI h 192 12) - (1 : Int32))))]) (rest := []) rfl (by exact og_192) (pc' := 20) rfl 0 rfl (lw_g (lw_at lw_m9 184 rfl) rfl) y_Mo_in rfl (d2 := 1) ⟨le_b rfl, pd_Mo_in, le_b rfl⟩ (le_b rfl) (k_Mo_in (Int32.toInt64 x1) (0 : Int64) (Int32.toInt64 ((rdI h 192 12) - (1 : Int32))) h) (fun a1 => ?_)
    refine hp_if_eq hm at0 rfl (by exact trivial) (pc' := 23) rfl 6 rfl (tgt := 51) rfl (fun c5 => ?_) (fun c5 => ?_)
    · refine hp_b hm (at1 2 rfl) (L' := [(0, (.ref 192)), (1, (.int x1)), (2, (.int x2))]) (st' := [(.int (-1 : Int32))]) rfl (by exact trivial) (pc' := 52) rfl ?_
      exact hp_ir hm at0 rfl (by exact trivial) (pc' := 52) rfl 1 rfl rfl (vp_nar_int _) (fun _ e => e)
    · refine hp_cSP (M2 := M_Mo_in) hm (at1 3 rfl) (as := [(.long (Int32.toInt64 x2)), (.long (0 : Int64)), (.long (Int32.toInt64 ((rdI h 192 12) - (1 : Int32))))]) (rest := []) rfl (by exact og_192) (pc' := 36) rfl 2 rfl (lw_g (lw_at lw_m9 184 rfl) rfl) y_Mo_in rfl (d2 := 1) ⟨le_b rfl, pd_Mo_in, le_b rfl⟩ (le_b rfl) (k_Mo_in (Int32.toInt64 x2) (0 : Int64) (Int32.toInt64 ((rdI h 192 12) - (1 : Int32))) h) (fun a2 => ?_)
      refine hp_if_eq hm at0 rfl (by exact trivial) (pc' := 39) rfl 5 rfl (tgt := 51) rfl (fun c4 => ?_) (fun c4 => ?_)
      · refine hp_b hm (at1 2 rfl) (L' := [(0, (.ref 192)), (1, (.int x1)), (2, (.int x2))]) (st' := [(.int (-1 : Int32))]) rfl (by exact trivial) (pc' := 52) rfl ?_
        exact hp_ir hm at0 rfl (by exact trivial) (pc' := 52) rfl 1 rfl rfl (vp_nar_int _) (fun _ e => e)
      · refine hp_cVP (M2 := M_Mo_kernOf) hm (at1 4 rfl) (as := [(.int x1), (.int x2)]) (rest := []) (z := 192) rfl (by exact trivial) (pc' := 45) rfl 3 rfl (lw_g (lw_at lw_m11 148 rfl) rfl) y_Mo_kernOf rfl (d2 := 4) ⟨le_b rfl, pd_Mo_kernOf, le_b rfl⟩ (le_b rfl) og_192 (k_Mo_kernOf x1 x2 h) (fun a3 => ?_)
        refine hp_goto hm 4 rfl (tgt := 52) rfl ?_
        exact hp_ir hm at0 rfl (by exact trivial) (pc' := 52) rfl 1 rfl rfl (vp_nar_int _) (fun _ e => e)
  · exact hp_ir hm (at1 5 rfl) rfl (by exact trivial) (pc' := 9) rfl 7 rfl rfl (vp_nar_int _) (fun _ e => e)
/-! HintHouseModel.point(II)I -/
def M_Mo_point : hM := (11, ⟨"HintHouseModel", "point", "(II)I"⟩, prog_13_method_131_code, 4, (Option.some Jvm.ClassFile.FieldType.int), [], [(0, [(.aload_n 0, 1, 0, 0, 0, .null), (.getfield 764, 3, 11, 108, 1, .null)]), (23, [(.iconst 0, 1, 0, 0, 0, (.int (0 : Int32)))]), (7, [(.iload_n 1, 1, 0, 0, 0, .null), (.i2l, 1, 0, 0, 0, .null), (.lconst 0, 1, 0, 0, 0, (.long (0 : Int64))), (.aload_n 0, 1, 0, 0, 0, .null), (.getfield 823, 3, 11, 128, 0, .null), (.iconst 1, 1, 0, 0, 0, (.int (1 : Int32))), (.isub, 1, 0, 0, 0, .null), (.i2l, 1, 0, 0, 0, .null)]), (25, [(.iconst 0, 1, 0, 0, 0, (.int (0 : Int32))), (.istore_n 3, 1, 0, 0, 0, .null)]), (27, [(.aload_n 0, 1, 0, 0, 0, .null), (.getfield 176, 3, 11, 133, 4, .null), (.iload_n 3, 1, 0, 0, 0, .null), (.iaload, 1, 0, 0, 0, .null), (.iload_n 1, 1, 0, 0, 0, .null)]), (37, [(.iinc 3 1, 3, 0, 0, 0, (.int (1 : Int32)))]), (43, [(.iload_n 2, 1, 0, 0, 0, .null)]), (56, [(.iload_n 2, 1, 0, 0, 0, .null), (.iconst 1, 1, 0, 0, 0, (.int (1 : Int32)))]), (70, [(.iload_n 2, 1, 0, 0, 0, .null), (.iconst 2, 1, 0, 0, 0, (.int (2 : Int32)))]), (92, [(.iload_n 2, 1, 0, 0, 0, .null), (.iconst 3, 1, 0, 0, 0, (.int (3 : Int32)))]), (101, [(.iconst 0, 1, 0, 0, 0, (.int (0 : Int32)))]), (97, [(.iload_n 3, 1, 0, 0, 0, .null)]), (75, [(.aload_n 0, 1, 0, 0, 0, .null), (.getfield 173, 3, 11, 132, 4, .null), (.iload_n 1, 1, 0, 0, 0, .null), (.baload, 1, 101, 0, 0, .null)]), (88, [(.iconst 0, 1, 0, 0, 0, (.int (0 : Int32)))]), (84, [(.iconst 1, 1, 0, 0, 0, (.int (1 : Int32)))]), (61, [(.aload_n 0, 1, 0, 0, 0, .null), (.getfield 170, 3, 11, 131, 4, .null), (.iload_n 1, 1, 0, 0, 0, .null), (.iaload, 1, 0, 0, 0, .null)]), (47, [(.aload_n 0, 1, 0, 0, 0, .null), (.getfield 167, 3, 11, 130, 4, .null), (.iload_n 1, 1, 0, 0, 0, .null), (.iaload, 1, 0, 0, 0, .null)])], [(24, .ireturn, 1), (17, .invokestatic 263, 3), (40, .goto (-13), 3), (34, .if_icmp .ge 9, 3), (102, .ireturn, 1), (98, .goto 4, 3), (94, .if_icmp .ne 7, 3), (89, .goto 13, 3), (85, .goto 17, 3), (81, .ifCond .eq 7, 3), (72, .if_icmp .ne 20, 3), (67, .goto 35, 3), (58, .if_icmp .ne 12, 3), (53, .goto 49, 3), (44, .ifCond .ne 12, 3), (20, .ifCond .ne 5, 3), (4, .ifCond .eq 19, 3)])
set_option maxRecDepth 100000 in
theorem m_Mo_point : hx_mok M_Mo_point = true := by decide +kernel
theorem pd_Mo_point : (parseMethodDescriptor M_Mo_point.2.1.desc).map (fun q => q.parameters.length) = some 2 := by decide +kernel
theorem y_Mo_point : hx_okV M_Mo_point := ⟨⟨lw_g (lw_at lw_m12 14 rfl) rfl, lw_g (lw_at lw_m12 12 rfl) rfl, lw_g (lw_at lw_m12 13 rfl) rfl, lw_g (lw_at lw_m1 12 rfl) rfl, rfl, by decide, by decide, by decide⟩, rfl, by decide, plainFor_of_name (by decide)⟩
noncomputable def f_Mo_point (x1 : Int32) (x2 : Int32) (h : hH) : Option Int32 :=
  if (rdI h 192 108) = 0 then (
    some (0 : Int32)
  ) else (
    bP (f_Mo_in (Int32.toInt64 x1) (0 : Int64) (Int32.toInt64 ((rdI h 192 128) - (1 : Int32)))) fun a1 =>
    if a1 = 0 then (
      some (0 : Int32)
    ) else (
      bP (A := Int32) (
        wh (A := Int32) (B := Int32) (fun p2 =>
            gd (vp_in p2 20) <|
            if x1 ≤ (rdI h 246 (Int32.toNatClampNeg p2)) then (
              some (.inr p2)
            ) else (
              lz (A := Int32) (p2 + (1 : Int32)) fun v5 =>
              some (.inl v5)
            )
        ) (0 : Int32)
      ) fun p3 =>
      if x2 = 0 then (
        gd (vp_in x1 100) <|
        some (rdI h 243 (Int32.toNatClampNeg x1))
      ) else (
        if x2 = (1 : Int32) then (
          gd (vp_in x1 100) <|
          some (rdI h 244 (Int32.toNatClampNeg x1))
        ) else (
          if x2 = (2 : Int32) then (
            gd (vp_in x1 100) <|
            if (rdI h 245 (Int32.toNatClampNeg x1)) = 0 then (
              some (0 : Int32)
            ) else (
              some (1 : Int32)
            )
          ) else (
            if x2 = (3 : Int32) then (
              some p3
            ) else (
              some (0 : Int32)
            )
          )
        )
      )
    )
  )
set_option maxRecDepth 20000 in
theorem k_Mo_point (x1 : Int32) (x2 : Int32) (h : hH) : hx_kP S0 M_Mo_point 2 NT [(.ref 192), (.int x1), (.int x2)] h (f_Mo_point x1 x2 h) cvI := by
  have hm := m_Mo_point
  show hx_P S0 M_Mo_point 2 0 [(0, (.ref 192)), (1, (.int x1)), (2, (.int x2))] [] NT h (f_Mo_point x1 x2 h) (hx_Rp cvI NT h)
  unfold f_Mo_point
  refine hp_if_eq hm (at1 0 rfl) rfl (by exact og_192) (pc' := 4) rfl 16 rfl (tgt := 23) rfl (fun c16 => ?_) (fun c16 => ?_)
  · exact hp_ir hm (at1 1 rfl) rfl (by exact trivial) (pc' := 24) rfl 0 rfl rfl (vp_nar_int _) (fun _ e => e)
  · refine hp_cSP (M2 := M_Mo_in) hm (at1 2 rfl) (as := [(.long (Int32.toInt64 x1)), (.long (0 : Int64)), (.long (Int32.toInt64 ((rdI h 192 128) - (1 : Int32))))]) (rest := []) rfl (by exact og_192) (pc' := 17) rfl 1 rfl (lw_g (lw_at lw_m9 184 rfl) rfl) y_Mo_in rfl (d2 := 1) ⟨le_b rfl, pd_Mo_in, le_b rfl⟩ (le_b rfl) (k_Mo_in (Int32.toInt64 x1) (0 : Int64) (Int32.toInt64 ((rdI h 192 128) - (1 : Int32))) h) (fun a1 => ?_)
    refine hp_if_ne hm at0 rfl (by exact trivial) (pc' := 20) rfl 15 rfl (tgt := 25) rfl (fun c15 => ?_) (fun c15 => ?_)
    · refine hp_b hm (at1 3 rfl) (L' := [(3, (.int (0 : Int32))), (0, (.ref 192)), (1, (.int x1)), (2, (.int x2))]) (st' := []) rfl (by exact trivial) (pc' := 27) rfl ?_
      refine hp_J 43 (fun (p3 : Int32) => [(0, (.ref 192)), (1, (.int x1)), (2, (.int x2)), (3, (.int p3))]) (fun (p3 : Int32) => []) (fun (p3 : Int32) => h) ?_ (fun p3 => ?_)
      · refine hp_s [1, 2, 3, 0] rfl (L' := [(0, (.ref 192)), (1, (.int x1)), (2, (.int x2)), (3, (.int (0 : Int32)))]) ?_
        refine hp_wh (fun (p2 : Int32) => [(0, (.ref 192)), (1, (.int x1)), (2, (.int x2)), (3, (.int p2))]) [] (fun (p2 : Int32) => h) (fun p2 => ?_) (0 : Int32)
        refine hp_G hm (at1 4 rfl) (L' := [(0, (.ref 192)), (1, (.int x1)), (2, (.int x2)), (3, (.int p2))]) (st' := [(.int x1), (.int (rdI h 246 (Int32.toNatClampNeg p2)))]) rfl (fun hP => (by exact ⟨og_192, ⟨og_246, hP⟩⟩)) (pc' := 34) rfl (fun q4 => ?_)
        refine hp_ic_ge hm at0 rfl (by exact trivial) (pc' := 34) rfl 3 rfl (tgt := 43) rfl (fun c6 => ?_) (fun c6 => ?_)
        · exact hp_lf [0, 1, 2, 3] rfl (fun _ e => e)
        · refine hp_z hm (at1 5 rfl) (fun (v5 : Int32) => [(3, (.int v5)), (0, (.ref 192)), (1, (.int x1)), (2, (.int x2))]) (fun (v5 : Int32) => []) rfl (by exact trivial) (pc' := 40) rfl (fun v5 => ?_)
          refine hp_goto hm 2 rfl (tgt := 27) rfl ?_
          exact hp_lf [1, 2, 3, 0] rfl (fun _ e => e)
      · refine hp_if_ne hm (at1 6 rfl) rfl (by exact trivial) (pc' := 44) rfl 14 rfl (tgt := 56) rfl (fun c14 => ?_) (fun c14 => ?_)
        · refine hp_ic_ne hm (at1 7 rfl) rfl (by exact trivial) (pc' := 58) rfl 12 rfl (tgt := 70) rfl (fun c12 => ?_) (fun c12 => ?_)
          · refine hp_ic_ne hm (at1 8 rfl) rfl (by exact trivial) (pc' := 72) rfl 10 rfl (tgt := 92) rfl (fun c10 => ?_) (fun c10 => ?_)
            · refine hp_ic_ne hm (at1 9 rfl) rfl (by exact trivial) (pc' := 94) rfl 6 rfl (tgt := 101) rfl (fun c7 => ?_) (fun c7 => ?_)
              · refine hp_b hm (at1 10 rfl) (L' := [(0, (.ref 192)), (1, (.int x1)), (2, (.int x2)), (3, (.int p3))]) (st' := [(.int (0 : Int32))]) rfl (by exact trivial) (pc' := 102) rfl ?_
                exact hp_ir hm at0 rfl (by exact trivial) (pc' := 102) rfl 4 rfl rfl (vp_nar_int _) (fun _ e => e)
              · refine hp_b hm (at1 11 rfl) (L' := [(0, (.ref 192)), (1, (.int x1)), (2, (.int x2)), (3, (.int p3))]) (st' := [(.int p3)]) rfl (by exact trivial) (pc' := 98) rfl ?_
                refine hp_goto hm 5 rfl (tgt := 102) rfl ?_
                exact hp_ir hm at0 rfl (by exact trivial) (pc' := 102) rfl 4 rfl rfl (vp_nar_int _) (fun _ e => e)
            · refine hp_G hm (at1 12 rfl) (L' := [(0, (.ref 192)), (1, (.int x1)), (2, (.int x2)), (3, (.int p3))]) (st' := [(.int (rdI h 245 (Int32.toNatClampNeg x1)))]) rfl (fun hP => (by exact ⟨og_192, ⟨og_245, hP⟩⟩)) (pc' := 81) rfl (fun q8 => ?_)
              refine hp_if_eq hm at0 rfl (by exact trivial) (pc' := 81) rfl 9 rfl (tgt := 88) rfl (fun c9 => ?_) (fun c9 => ?_)
              · refine hp_b hm (at1 13 rfl) (L' := [(0, (.ref 192)), (1, (.int x1)), (2, (.int x2)), (3, (.int p3))]) (st' := [(.int (0 : Int32))]) rfl (by exact trivial) (pc' := 89) rfl ?_
                refine hp_goto hm 7 rfl (tgt := 102) rfl ?_
                exact hp_ir hm at0 rfl (by exact trivial) (pc' := 102) rfl 4 rfl rfl (vp_nar_int _) (fun _ e => e)
              · refine hp_b hm (at1 14 rfl) (L' := [(0, (.ref 192)), (1, (.int x1)), (2, (.int x2)), (3, (.int p3))]) (st' := [(.int (1 : Int32))]) rfl (by exact trivial) (pc' := 85) rfl ?_
                refine hp_goto hm 8 rfl (tgt := 102) rfl ?_
                exact hp_ir hm at0 rfl (by exact trivial) (pc' := 102) rfl 4 rfl rfl (vp_nar_int _) (fun _ e => e)
          · refine hp_G hm (at1 15 rfl) (L' := [(0, (.ref 192)), (1, (.int x1)), (2, (.int x2)), (3, (.int p3))]) (st' := [(.int (rdI h 244 (Int32.toNatClampNeg x1)))]) rfl (fun hP => (by exact ⟨og_192, ⟨og_244, hP⟩⟩)) (pc' := 67) rfl (fun q11 => ?_)
            refine hp_goto hm 11 rfl (tgt := 102) rfl ?_
            exact hp_ir hm at0 rfl (by exact trivial) (pc' := 102) rfl 4 rfl rfl (vp_nar_int _) (fun _ e => e)
        · refine hp_G hm (at1 16 rfl) (L' := [(0, (.ref 192)), (1, (.int x1)), (2, (.int x2)), (3, (.int p3))]) (st' := [(.int (rdI h 243 (Int32.toNatClampNeg x1)))]) rfl (fun hP => (by exact ⟨og_192, ⟨og_243, hP⟩⟩)) (pc' := 53) rfl (fun q13 => ?_)
          refine hp_goto hm 13 rfl (tgt := 102) rfl ?_
          exact hp_ir hm at0 rfl (by exact trivial) (pc' := 102) rfl 4 rfl rfl (vp_nar_int _) (fun _ e => e)
    · exact hp_ir hm (at1 1 rfl) rfl (by exact trivial) (pc' := 24) rfl 0 rfl rfl (vp_nar_int _) (fun _ e => e)
/-! HintHouseModel.told(I)I -/
def M_Mo_told : hM := (11, ⟨"HintHouseModel", "told", "(I)I"⟩, prog_13_method_132_code, 2, (Option.some Jvm.ClassFile.FieldType.int), [], [(0, [(.iload_n 1, 1, 0, 0, 0, .null)]), (56, [(.aload_n 0, 1, 0, 0, 0, .null), (.getfield 756, 3, 11, 109, 0, .null)]), (61, [(.aload_n 0, 1, 0, 0, 0, .null), (.getfield 750, 3, 11, 110, 0, .null)]), (66, [(.aload_n 0, 1, 0, 0, 0, .null), (.getfield 753, 3, 11, 111, 0, .null)]), (71, [(.aload_n 0, 1, 0, 0, 0, .null), (.getfield 127, 3, 11, 112, 0, .null)]), (76, [(.aload_n 0, 1, 0, 0, 0, .null), (.getfield 764, 3, 11, 108, 1, .null)]), (90, [(.iconst 0, 1, 0, 0, 0, (.int (0 : Int32)))]), (83, [(.aload_n 0, 1, 0, 0, 0, .null), (.getfield 829, 3, 11, 134, 0, .null)]), (92, [(.aload_n 0, 1, 0, 0, 0, .null), (.getfield 764, 3, 11, 108, 1, .null)]), (106, [(.iconst 0, 1, 0, 0, 0, (.int (0 : Int32)))]), (99, [(.aload_n 0, 1, 0, 0, 0, .null), (.getfield 826, 3, 11, 129, 0, .null)]), (108, [(.aload_n 0, 1, 0, 0, 0, .null), (.getfield 621, 3, 11, 62, 0, .null)]), (113, [(.aload_n 0, 1, 0, 0, 0, .null), (.getfield 767, 3, 11, 107, 1, .null)]), (124, [(.aload_n 0, 1, 0, 0, 0, .null), (.getfield 764, 3, 11, 108, 1, .null)]), (138, [(.aload_n 0, 1, 0, 0, 0, .null), (.getfield 140, 3, 11, 116, 4, .null), (.bipush 7, 2, 0, 0, 0, (.int (7 : Int32))), (.iaload, 1, 0, 0, 0, .null)]), (131, [(.aload_n 0, 1, 0, 0, 0, .null), (.getfield 798, 3, 11, 126, 0, .null)]), (120, [(.iconst 0, 1, 0, 0, 0, (.int (0 : Int32)))]), (146, [(.aload_n 0, 1, 0, 0, 0, .null), (.getfield 767, 3, 11, 107, 1, .null)]), (157, [(.aload_n 0, 1, 0, 0, 0, .null), (.getfield 764, 3, 11, 108, 1, .null)]), (171, [(.aload_n 0, 1, 0, 0, 0, .null), (.getfield 140, 3, 11, 116, 4, .null), (.bipush 8, 2, 0, 0, 0, (.int (8 : Int32))), (.iaload, 1, 0, 0, 0, .null)]), (164, [(.aload_n 0, 1, 0, 0, 0, .null), (.getfield 801, 3, 11, 127, 0, .null)]), (153, [(.iconst 0, 1, 0, 0, 0, (.int (0 : Int32)))]), (179, [(.aload_n 0, 1, 0, 0, 0, .null), (.getfield 424, 3, 11, 57, 0, .null)]), (184, [(.iconst 0, 1, 0, 0, 0, (.int (0 : Int32)))])], [(1, .tableswitch 183 0 9 #[55, 60, 65, 70, 75, 91, 107, 112, 145, 178], 55), (60, .ireturn, 1), (65, .ireturn, 1), (70, .ireturn, 1), (75, .ireturn, 1), (91, .ireturn, 1), (87, .goto 4, 3), (80, .ifCond .eq 10, 3), (107, .ireturn, 1), (103, .goto 4, 3), (96, .ifCond .eq 10, 3), (112, .ireturn, 1), (145, .ireturn, 1), (135, .goto 10, 3), (128, .ifCond .eq 10, 3), (121, .goto 24, 3), (117, .ifCond .ne 7, 3), (178, .ireturn, 1), (168, .goto 10, 3), (161, .ifCond .eq 10, 3), (154, .goto 24, 3), (150, .ifCond .ne 7, 3), (183, .ireturn, 1), (185, .ireturn, 1)])
set_option maxRecDepth 100000 in
theorem m_Mo_told : hx_mok M_Mo_told = true := by decide +kernel
theorem pd_Mo_told : (parseMethodDescriptor M_Mo_told.2.1.desc).map (fun q => q.parameters.length) = some 1 := by decide +kernel
theorem y_Mo_told : hx_okV M_Mo_told := ⟨⟨lw_g (lw_at lw_m12 18 rfl) rfl, lw_g (lw_at lw_m12 16 rfl) rfl, lw_g (lw_at lw_m12 17 rfl) rfl, lw_g (lw_at lw_m1 12 rfl) rfl, rfl, by decide, by decide, by decide⟩, rfl, by decide, plainFor_of_name (by decide)⟩
noncomputable def f_Mo_told (x1 : Int32) (h : hH) : Option Int32 :=
  if x1 = (0 : Int32) then (
    some (rdI h 192 109)
  ) else (
    if x1 = (1 : Int32) then (
      some (rdI h 192 110)
    ) else (
      if x1 = (2 : Int32) then (
        some (rdI h 192 111)
      ) else (
        if x1 = (3 : Int32) then (
          some (rdI h 192 112)
        ) else (
          if x1 = (4 : Int32) then (
            if (rdI h 192 108) = 0 then (
              some (0 : Int32)
            ) else (
              some (rdI h 192 134)
            )
          ) else (
            if x1 = (5 : Int32) then (
              if (rdI h 192 108) = 0 then (
                some (0 : Int32)
              ) else (
                some (rdI h 192 129)
              )
            ) else (
              if x1 = (6 : Int32) then (
                some (rdI h 192 62)
              ) else (
                if x1 = (7 : Int32) then (
                  if (rdI h 192 107) = 0 then (
                    some (0 : Int32)
                  ) else (
                    if (rdI h 192 108) = 0 then (
                      some (rdI h 234 7)
                    ) else (
                      some (rdI h 192 126)
                    )
                  )
                ) else (
                  if x1 = (8 : Int32) then (
                    if (rdI h 192 107) = 0 then (
                      some (0 : Int32)
                    ) else (
                      if (rdI h 192 108) = 0 then (
                        some (rdI h 234 8)
                      ) else (
                        some (rdI h 192 127)
                      )
                    )
                  ) else (
                    if x1 = (9 : Int32) then (
                      some (rdI h 192 57)
                    ) else (
                      some (0 : Int32)
                    )
                  )
                )
              )
            )
          )
        )
      )
    )
  )
set_option maxRecDepth 20000 in
theorem k_Mo_told (x1 : Int32) (h : hH) : hx_kP S0 M_Mo_told 1 NT [(.ref 192), (.int x1)] h (f_Mo_told x1 h) cvI := by
  have hm := m_Mo_told
  show hx_P S0 M_Mo_told 1 0 [(0, (.ref 192)), (1, (.int x1))] [] NT h (f_Mo_told x1 h) (hx_Rp cvI NT h)
  unfold f_Mo_told
  refine hp_b hm (at1 0 rfl) (L' := [(0, (.ref 192)), (1, (.int x1))]) (st' := [(.int x1)]) rfl (by exact trivial) (pc' := 1) rfl ?_
  refine hp_sw hm 0 rfl (cs := [0]) (off := 55) (by decide) (tgt := 56) rfl (sw1 _ _) ?_ (fun c1 => ?_)
  · exact hp_ir hm (at1 1 rfl) rfl (by exact og_192) (pc' := 60) rfl 1 rfl rfl (vp_nar_int _) (fun _ e => e)
  · refine hp_sw hm 0 rfl (cs := [1]) (off := 60) (by decide) (tgt := 61) rfl (sw1 _ _) ?_ (fun c2 => ?_)
    · exact hp_ir hm (at1 2 rfl) rfl (by exact og_192) (pc' := 65) rfl 2 rfl rfl (vp_nar_int _) (fun _ e => e)
    · refine hp_sw hm 0 rfl (cs := [2]) (off := 65) (by decide) (tgt := 66) rfl (sw1 _ _) ?_ (fun c3 => ?_)
      · exact hp_ir hm (at1 3 rfl) rfl (by exact og_192) (pc' := 70) rfl 3 rfl rfl (vp_nar_int _) (fun _ e => e)
      · refine hp_sw hm 0 rfl (cs := [3]) (off := 70) (by decide) (tgt := 71) rfl (sw1 _ _) ?_ (fun c4 => ?_)
        · exact hp_ir hm (at1 4 rfl) rfl (by exact og_192) (pc' := 75) rfl 4 rfl rfl (vp_nar_int _) (fun _ e => e)
        · refine hp_sw hm 0 rfl (cs := [4]) (off := 75) (by decide) (tgt := 76) rfl (sw1 _ _) ?_ (fun c6 => ?_)
          · refine hp_if_eq hm (at1 5 rfl) rfl (by exact og_192) (pc' := 80) rfl 7 rfl (tgt := 90) rfl (fun c5 => ?_) (fun c5 => ?_)
            · refine hp_b hm (at1 6 rfl) (L' := [(0, (.ref 192)), (1, (.int x1))]) (st' := [(.int (0 : Int32))]) rfl (by exact trivial) (pc' := 91) rfl ?_
              exact hp_ir hm at0 rfl (by exact trivial) (pc' := 91) rfl 5 rfl rfl (vp_nar_int _) (fun _ e => e)
            · refine hp_b hm (at1 7 rfl) (L' := [(0, (.ref 192)), (1, (.int x1))]) (st' := [(.int (rdI h 192 134))]) rfl (by exact og_192) (pc' := 87) rfl ?_
              refine hp_goto hm 6 rfl (tgt := 91) rfl ?_
              exact hp_ir hm at0 rfl (by exact trivial) (pc' := 91) rfl 5 rfl rfl (vp_nar_int _) (fun _ e => e)
          · refine hp_sw hm 0 rfl (cs := [5]) (off := 91) (by decide) (tgt := 92) rfl (sw1 _ _) ?_ (fun c8 => ?_)
            · refine hp_if_eq hm (at1 8 rfl) rfl (by exact og_192) (pc' := 96) rfl 10 rfl (tgt := 106) rfl (fun c7 => ?_) (fun c7 => ?_)
              · refine hp_b hm (at1 9 rfl) (L' := [(0, (.ref 192)), (1, (.int x1))]) (st' := [(.int (0 : Int32))]) rfl (by exact trivial) (pc' := 107) rfl ?_
                exact hp_ir hm at0 rfl (by exact trivial) (pc' := 107) rfl 8 rfl rfl (vp_nar_int _) (fun _ e => e)
              · refine hp_b hm (at1 10 rfl) (L' := [(0, (.ref 192)), (1, (.int x1))]) (st' := [(.int (rdI h 192 129))]) rfl (by exact og_192) (pc' := 103) rfl ?_
                refine hp_goto hm 9 rfl (tgt := 107) rfl ?_
                exact hp_ir hm at0 rfl (by exact trivial) (pc' := 107) rfl 8 rfl rfl (vp_nar_int _) (fun _ e => e)
            · refine hp_sw hm 0 rfl (cs := [6]) (off := 107) (by decide) (tgt := 108) rfl (sw1 _ _) ?_ (fun c9 => ?_)
              · exact hp_ir hm (at1 11 rfl) rfl (by exact og_192) (pc' := 112) rfl 11 rfl rfl (vp_nar_int _) (fun _ e => e)
              · refine hp_sw hm 0 rfl (cs := [7]) (off := 112) (by decide) (tgt := 113) rfl (sw1 _ _) ?_ (fun c12 => ?_)
                · refine hp_if_ne hm (at1 12 rfl) rfl (by exact og_192) (pc' := 117) rfl 16 rfl (tgt := 124) rfl (fun c11 => ?_) (fun c11 => ?_)
                  · refine hp_if_eq hm (at1 13 rfl) rfl (by exact og_192) (pc' := 128) rfl 14 rfl (tgt := 138) rfl (fun c10 => ?_) (fun c10 => ?_)
                    · refine hp_b hm (at1 14 rfl) (L' := [(0, (.ref 192)), (1, (.int x1))]) (st' := [(.int (rdI h 234 7))]) rfl (by exact ⟨og_192, ⟨og_234, (show vp_in (7 : Int32) 9 from vp_lit (by decide))⟩⟩) (pc' := 145) rfl ?_
                      exact hp_ir hm at0 rfl (by exact trivial) (pc' := 145) rfl 12 rfl rfl (vp_nar_int _) (fun _ e => e)
                    · refine hp_b hm (at1 15 rfl) (L' := [(0, (.ref 192)), (1, (.int x1))]) (st' := [(.int (rdI h 192 126))]) rfl (by exact og_192) (pc' := 135) rfl ?_
                      refine hp_goto hm 13 rfl (tgt := 145) rfl ?_
                      exact hp_ir hm at0 rfl (by exact trivial) (pc' := 145) rfl 12 rfl rfl (vp_nar_int _) (fun _ e => e)
                  · refine hp_b hm (at1 16 rfl) (L' := [(0, (.ref 192)), (1, (.int x1))]) (st' := [(.int (0 : Int32))]) rfl (by exact trivial) (pc' := 121) rfl ?_
                    refine hp_goto hm 15 rfl (tgt := 145) rfl ?_
                    exact hp_ir hm at0 rfl (by exact trivial) (pc' := 145) rfl 12 rfl rfl (vp_nar_int _) (fun _ e => e)
                · refine hp_sw hm 0 rfl (cs := [8]) (off := 145) (by decide) (tgt := 146) rfl (sw1 _ _) ?_ (fun c15 => ?_)
                  · refine hp_if_ne hm (at1 17 rfl) rfl (by exact og_192) (pc' := 150) rfl 21 rfl (tgt := 157) rfl (fun c14 => ?_) (fun c14 => ?_)
                    · refine hp_if_eq hm (at1 18 rfl) rfl (by exact og_192) (pc' := 161) rfl 19 rfl (tgt := 171) rfl (fun c13 => ?_) (fun c13 => ?_)
                      · refine hp_b hm (at1 19 rfl) (L' := [(0, (.ref 192)), (1, (.int x1))]) (st' := [(.int (rdI h 234 8))]) rfl (by exact ⟨og_192, ⟨og_234, (show vp_in (8 : Int32) 9 from vp_lit (by decide))⟩⟩) (pc' := 178) rfl ?_
                        exact hp_ir hm at0 rfl (by exact trivial) (pc' := 178) rfl 17 rfl rfl (vp_nar_int _) (fun _ e => e)
                      · refine hp_b hm (at1 20 rfl) (L' := [(0, (.ref 192)), (1, (.int x1))]) (st' := [(.int (rdI h 192 127))]) rfl (by exact og_192) (pc' := 168) rfl ?_
                        refine hp_goto hm 18 rfl (tgt := 178) rfl ?_
                        exact hp_ir hm at0 rfl (by exact trivial) (pc' := 178) rfl 17 rfl rfl (vp_nar_int _) (fun _ e => e)
                    · refine hp_b hm (at1 21 rfl) (L' := [(0, (.ref 192)), (1, (.int x1))]) (st' := [(.int (0 : Int32))]) rfl (by exact trivial) (pc' := 154) rfl ?_
                      refine hp_goto hm 20 rfl (tgt := 178) rfl ?_
                      exact hp_ir hm at0 rfl (by exact trivial) (pc' := 178) rfl 17 rfl rfl (vp_nar_int _) (fun _ e => e)
                  · refine hp_sw hm 0 rfl (cs := [9]) (off := 178) (by decide) (tgt := 179) rfl (sw1 _ _) ?_ (fun c16 => ?_)
                    · exact hp_ir hm (at1 22 rfl) rfl (by exact og_192) (pc' := 183) rfl 22 rfl rfl (vp_nar_int _) (fun _ e => e)
                    · refine hp_sd2 hm 0 rfl (css := [[0], [1], [2], [3], [4], [5], [6], [7], [8], [9]]) (by decide) (by decide) (List.forall_mem_cons.mpr ⟨c1, (List.forall_mem_cons.mpr ⟨c2, (List.forall_mem_cons.mpr ⟨c3, (List.forall_mem_cons.mpr ⟨c4, (List.forall_mem_cons.mpr ⟨c6, (List.forall_mem_cons.mpr ⟨c8, (List.forall_mem_cons.mpr ⟨c9, (List.forall_mem_cons.mpr ⟨c12, (List.forall_mem_cons.mpr ⟨c15, (List.forall_mem_cons.mpr ⟨c16, (fun _ h => absurd h List.not_mem_nil)⟩)⟩)⟩)⟩)⟩)⟩)⟩)⟩)⟩)⟩) (tgt := 184) rfl ?_
                      exact hp_ir hm (at1 23 rfl) rfl (by exact trivial) (pc' := 185) rfl 23 rfl rfl (vp_nar_int _) (fun _ e => e)
/-! HintHouseModel.held(II)I -/
def M_Mo_held : hM := (11, ⟨"HintHouseModel", "held", "(II)I"⟩, prog_13_method_133_code, 3, (Option.some Jvm.ClassFile.FieldType.int), [], [(0, [(.aload_n 0, 1, 0, 0, 0, .null), (.getfield 767, 3, 11, 107, 1, .null)]), (9, [(.iload_n 1, 1, 0, 0, 0, .null)]), (40, [(.iload_n 1, 1, 0, 0, 0, .null), (.iconst 1, 1, 0, 0, 0, (.int (1 : Int32)))]), (72, [(.iload_n 1, 1, 0, 0, 0, .null), (.i2l, 1, 0, 0, 0, .null), (.ldc2_w 336, 3, 0, 0, 0, (.long (2 : Int64))), (.ldc2_w 922, 3, 0, 0, 0, (.long (5 : Int64)))]), (117, [(.iconst 0, 1, 0, 0, 0, (.int (0 : Int32)))]), (86, [(.iload_n 2, 1, 0, 0, 0, .null), (.i2l, 1, 0, 0, 0, .null), (.lconst 0, 1, 0, 0, 0, (.long (0 : Int64))), (.aload_n 0, 1, 0, 0, 0, .null), (.getfield 316, 3, 11, 14, 0, .null), (.iconst 1, 1, 0, 0, 0, (.int (1 : Int32))), (.isub, 1, 0, 0, 0, .null), (.i2l, 1, 0, 0, 0, .null)]), (102, [(.aload_n 0, 1, 0, 0, 0, .null), (.getfield 137, 3, 11, 115, 4, .null), (.iconst 4, 1, 0, 0, 0, (.int (4 : Int32))), (.iload_n 2, 1, 0, 0, 0, .null), (.imul, 1, 0, 0, 0, .null), (.iload_n 1, 1, 0, 0, 0, .null), (.iadd, 1, 0, 0, 0, .null), (.iconst 2, 1, 0, 0, 0, (.int (2 : Int32))), (.isub, 1, 0, 0, 0, .null), (.iaload, 1, 0, 0, 0, .null)]), (45, [(.iload_n 2, 1, 0, 0, 0, .null), (.i2l, 1, 0, 0, 0, .null), (.lconst 0, 1, 0, 0, 0, (.long (0 : Int64))), (.aload_n 0, 1, 0, 0, 0, .null), (.getfield 319, 3, 11, 15, 0, .null), (.iconst 1, 1, 0, 0, 0, (.int (1 : Int32))), (.isub, 1, 0, 0, 0, .null), (.i2l, 1, 0, 0, 0, .null)]), (70, [(.iconst 0, 1, 0, 0, 0, (.int (0 : Int32)))]), (61, [(.aload_n 0, 1, 0, 0, 0, .null), (.getfield 134, 3, 11, 114, 4, .null), (.iload_n 2, 1, 0, 0, 0, .null), (.iaload, 1, 0, 0, 0, .null)]), (13, [(.iload_n 2, 1, 0, 0, 0, .null), (.i2l, 1, 0, 0, 0, .null), (.lconst 0, 1, 0, 0, 0, (.long (0 : Int64))), (.aload_n 0, 1, 0, 0, 0, .null), (.getfield 294, 3, 11, 25, 0, .null), (.iconst 1, 1, 0, 0, 0, (.int (1 : Int32))), (.isub, 1, 0, 0, 0, .null), (.i2l, 1, 0, 0, 0, .null)]), (38, [(.iconst 0, 1, 0, 0, 0, (.int (0 : Int32)))]), (29, [(.aload_n 0, 1, 0, 0, 0, .null), (.getfield 131, 3, 11, 113, 4, .null), (.iload_n 2, 1, 0, 0, 0, .null), (.iaload, 1, 0, 0, 0, .null)]), (7, [(.iconst 0, 1, 0, 0, 0, (.int (0 : Int32)))])], [(80, .invokestatic 263, 3), (118, .ireturn, 1), (96, .invokestatic 263, 3), (114, .goto 4, 3), (99, .ifCond .eq 18, 3), (83, .ifCond .eq 34, 3), (55, .invokestatic 263, 3), (71, .ireturn, 1), (67, .goto 4, 3), (58, .ifCond .eq 12, 3), (42, .if_icmp .ne 30, 3), (23, .invokestatic 263, 3), (39, .ireturn, 1), (35, .goto 4, 3), (26, .ifCond .eq 12, 3), (10, .ifCond .ne 30, 3), (8, .ireturn, 1), (4, .ifCond .ne 5, 3)])
set_option maxRecDepth 100000 in
theorem m_Mo_held : hx_mok M_Mo_held = true := by decide +kernel
theorem pd_Mo_held : (parseMethodDescriptor M_Mo_held.2.1.desc).map (fun q => q.parameters.length) = some 2 := by decide +kernel
theorem y_Mo_held : hx_okV M_Mo_held := ⟨⟨lw_g (lw_at lw_m12 22 rfl) rfl, lw_g (lw_at lw_m12 20 rfl) rfl, lw_g (lw_at lw_m12 21 rfl) rfl, lw_g (lw_at lw_m1 12 rfl) rfl, rfl, by decide, by decide, by decide⟩, rfl, by decide, plainFor_of_name (by decide)⟩
noncomputable def f_Mo_held (x1 : Int32) (x2 : Int32) (h : hH) : Option Int32 :=
  if (rdI h 192 107) = 0 then (
    some (0 : Int32)
  ) else (
    if x1 = 0 then (
      bP (f_Mo_in (Int32.toInt64 x2) (0 : Int64) (Int32.toInt64 ((rdI h 192 25) - (1 : Int32)))) fun a10 =>
      if a10 = 0 then (
        some (0 : Int32)
      ) else (
        gd (vp_in x2 256) <|
        some (rdI h 231 (Int32.toNatClampNeg x2))
      )
    ) else (
      if x1 = (1 : Int32) then (
        bP (f_Mo_in (Int32.toInt64 x2) (0 : Int64) (Int32.toInt64 ((rdI h 192 15) - (1 : Int32)))) fun a6 =>
        if a6 = 0 then (
          some (0 : Int32)
        ) else (
          gd (vp_in x2 64) <|
          some (rdI h 232 (Int32.toNatClampNeg x2))
        )
      ) else (
        bP (f_Mo_in (Int32.toInt64 x1) (2 : Int64) (5 : Int64)) fun a1 =>
        if a1 = 0 then (
          some (0 : Int32)
        ) else (
          bP (f_Mo_in (Int32.toInt64 x2) (0 : Int64) (Int32.toInt64 ((rdI h 192 14) - (1 : Int32)))) fun a2 =>
          if a2 = 0 then (
            some (0 : Int32)
          ) else (
            gd (vp_in ((((4 : Int32) * x2) + x1) - (2 : Int32)) 256) <|
            some (rdI h 233 (Int32.toNatClampNeg ((((4 : Int32) * x2) + x1) - (2 : Int32))))
          )
        )
      )
    )
  )
set_option maxRecDepth 20000 in
theorem k_Mo_held (x1 : Int32) (x2 : Int32) (h : hH) : hx_kP S0 M_Mo_held 2 NT [(.ref 192), (.int x1), (.int x2)] h (f_Mo_held x1 x2 h) cvI := by
  have hm := m_Mo_held
  show hx_P S0 M_Mo_held 2 0 [(0, (.ref 192)), (1, (.int x1)), (2, (.int x2))] [] NT h (f_Mo_held x1 x2 h) (hx_Rp cvI NT h)
  unfold f_Mo_held
  refine hp_if_ne hm (at1 0 rfl) rfl (by exact og_192) (pc' := 4) rfl 17 rfl (tgt := 9) rfl (fun c14 => ?_) (fun c14 => ?_)
  · refine hp_if_ne hm (at1 1 rfl) rfl (by exact trivial) (pc' := 10) rfl 15 rfl (tgt := 40) rfl (fun c13 => ?_) (fun c13 => ?_)
    · refine hp_ic_ne hm (at1 2 rfl) rfl (by exact trivial) (pc' := 42) rfl 10 rfl (tgt := 72) rfl (fun c9 => ?_) (fun c9 => ?_)
      · refine hp_cSP (M2 := M_Mo_in) hm (at1 3 rfl) (as := [(.long (Int32.toInt64 x1)), (.long (2 : Int64)), (.long (5 : Int64))]) (rest := []) rfl (by exact trivial) (pc' := 80) rfl 0 rfl (lw_g (lw_at lw_m9 184 rfl) rfl) y_Mo_in rfl (d2 := 1) ⟨le_b rfl, pd_Mo_in, le_b rfl⟩ (le_b rfl) (k_Mo_in (Int32.toInt64 x1) (2 : Int64) (5 : Int64) h) (fun a1 => ?_)
        refine hp_if_eq hm at0 rfl (by exact trivial) (pc' := 83) rfl 5 rfl (tgt := 117) rfl (fun c5 => ?_) (fun c5 => ?_)
        · refine hp_b hm (at1 4 rfl) (L' := [(0, (.ref 192)), (1, (.int x1)), (2, (.int x2))]) (st' := [(.int (0 : Int32))]) rfl (by exact trivial) (pc' := 118) rfl ?_
          exact hp_ir hm at0 rfl (by exact trivial) (pc' := 118) rfl 1 rfl rfl (vp_nar_int _) (fun _ e => e)
        · refine hp_cSP (M2 := M_Mo_in) hm (at1 5 rfl) (as := [(.long (Int32.toInt64 x2)), (.long (0 : Int64)), (.long (Int32.toInt64 ((rdI h 192 14) - (1 : Int32))))]) (rest := []) rfl (by exact og_192) (pc' := 96) rfl 2 rfl (lw_g (lw_at lw_m9 184 rfl) rfl) y_Mo_in rfl (d2 := 1) ⟨le_b rfl, pd_Mo_in, le_b rfl⟩ (le_b rfl) (k_Mo_in (Int32.toInt64 x2) (0 : Int64) (Int32.toInt64 ((rdI h 192 14) - (1 : Int32))) h) (fun a2 => ?_)
          refine hp_if_eq hm at0 rfl (by exact trivial) (pc' := 99) rfl 4 rfl (tgt := 117) rfl (fun c4 => ?_) (fun c4 => ?_)
          · refine hp_b hm (at1 4 rfl) (L' := [(0, (.ref 192)), (1, (.int x1)), (2, (.int x2))]) (st' := [(.int (0 : Int32))]) rfl (by exact trivial) (pc' := 118) rfl ?_
            exact hp_ir hm at0 rfl (by exact trivial) (pc' := 118) rfl 1 rfl rfl (vp_nar_int _) (fun _ e => e)
          · refine hp_G hm (at1 6 rfl) (L' := [(0, (.ref 192)), (1, (.int x1)), (2, (.int x2))]) (st' := [(.int (rdI h 233 (Int32.toNatClampNeg ((((4 : Int32) * x2) + x1) - (2 : Int32)))))]) rfl (fun hP => (by exact ⟨og_192, ⟨og_233, hP⟩⟩)) (pc' := 114) rfl (fun q3 => ?_)
            refine hp_goto hm 3 rfl (tgt := 118) rfl ?_
            exact hp_ir hm at0 rfl (by exact trivial) (pc' := 118) rfl 1 rfl rfl (vp_nar_int _) (fun _ e => e)
      · refine hp_cSP (M2 := M_Mo_in) hm (at1 7 rfl) (as := [(.long (Int32.toInt64 x2)), (.long (0 : Int64)), (.long (Int32.toInt64 ((rdI h 192 15) - (1 : Int32))))]) (rest := []) rfl (by exact og_192) (pc' := 55) rfl 6 rfl (lw_g (lw_at lw_m9 184 rfl) rfl) y_Mo_in rfl (d2 := 1) ⟨le_b rfl, pd_Mo_in, le_b rfl⟩ (le_b rfl) (k_Mo_in (Int32.toInt64 x2) (0 : Int64) (Int32.toInt64 ((rdI h 192 15) - (1 : Int32))) h) (fun a6 => ?_)
        refine hp_if_eq hm at0 rfl (by exact trivial) (pc' := 58) rfl 9 rfl (tgt := 70) rfl (fun c8 => ?_) (fun c8 => ?_)
        · refine hp_b hm (at1 8 rfl) (L' := [(0, (.ref 192)), (1, (.int x1)), (2, (.int x2))]) (st' := [(.int (0 : Int32))]) rfl (by exact trivial) (pc' := 71) rfl ?_
          exact hp_ir hm at0 rfl (by exact trivial) (pc' := 71) rfl 7 rfl rfl (vp_nar_int _) (fun _ e => e)
        · refine hp_G hm (at1 9 rfl) (L' := [(0, (.ref 192)), (1, (.int x1)), (2, (.int x2))]) (st' := [(.int (rdI h 232 (Int32.toNatClampNeg x2)))]) rfl (fun hP => (by exact ⟨og_192, ⟨og_232, hP⟩⟩)) (pc' := 67) rfl (fun q7 => ?_)
          refine hp_goto hm 8 rfl (tgt := 71) rfl ?_
          exact hp_ir hm at0 rfl (by exact trivial) (pc' := 71) rfl 7 rfl rfl (vp_nar_int _) (fun _ e => e)
    · refine hp_cSP (M2 := M_Mo_in) hm (at1 10 rfl) (as := [(.long (Int32.toInt64 x2)), (.long (0 : Int64)), (.long (Int32.toInt64 ((rdI h 192 25) - (1 : Int32))))]) (rest := []) rfl (by exact og_192) (pc' := 23) rfl 11 rfl (lw_g (lw_at lw_m9 184 rfl) rfl) y_Mo_in rfl (d2 := 1) ⟨le_b rfl, pd_Mo_in, le_b rfl⟩ (le_b rfl) (k_Mo_in (Int32.toInt64 x2) (0 : Int64) (Int32.toInt64 ((rdI h 192 25) - (1 : Int32))) h) (fun a10 => ?_)
      refine hp_if_eq hm at0 rfl (by exact trivial) (pc' := 26) rfl 14 rfl (tgt := 38) rfl (fun c12 => ?_) (fun c12 => ?_)
      · refine hp_b hm (at1 11 rfl) (L' := [(0, (.ref 192)), (1, (.int x1)), (2, (.int x2))]) (st' := [(.int (0 : Int32))]) rfl (by exact trivial) (pc' := 39) rfl ?_
        exact hp_ir hm at0 rfl (by exact trivial) (pc' := 39) rfl 12 rfl rfl (vp_nar_int _) (fun _ e => e)
      · refine hp_G hm (at1 12 rfl) (L' := [(0, (.ref 192)), (1, (.int x1)), (2, (.int x2))]) (st' := [(.int (rdI h 231 (Int32.toNatClampNeg x2)))]) rfl (fun hP => (by exact ⟨og_192, ⟨og_231, hP⟩⟩)) (pc' := 35) rfl (fun q11 => ?_)
        refine hp_goto hm 13 rfl (tgt := 39) rfl ?_
        exact hp_ir hm at0 rfl (by exact trivial) (pc' := 39) rfl 12 rfl rfl (vp_nar_int _) (fun _ e => e)
  · exact hp_ir hm (at1 13 rfl) rfl (by exact trivial) (pc' := 8) rfl 16 rfl rfl (vp_nar_int _) (fun _ e => e)
