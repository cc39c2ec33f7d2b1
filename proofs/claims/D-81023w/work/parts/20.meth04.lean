/-! LAYER 2b: methods (printed by gen/dec.py): Ma_fetch Ma_function Ma_callFunction Ma_passFunction Ma_define Ma_endCall Ma_place Ou_beginOf Ma_fit Ma_between Ma_indirect Ma_absolute Ma_referenceZone Ma_reference Ma_shiftContour Ma_shiftZone Ma_shiftBy Ma_interpolate Ma_shifting Ma_moving -/
/-! HintHouse$Machine.fetch(Z)V -/
def M_Ma_fetch : hM := (4, ⟨"HintHouse$Machine", "fetch", "(Z)V"⟩, prog_6_method_44_code, 5, (Option.none : Option Jvm.ClassFile.FieldType), [], [(0, [(.aload_n 0, 1, 0, 0, 0, .null), (.iconst 1, 1, 0, 0, 0, (.int (1 : Int32)))]), (5, [(.aload_n 0, 1, 0, 0, 0, .null)]), (9, [(.istore_n 2, 1, 0, 0, 0, .null), (.aload_n 0, 1, 0, 0, 0, .null), (.iload_n 2, 1, 0, 0, 0, .null), (.i2l, 1, 0, 0, 0, .null), (.lconst 1, 1, 0, 0, 0, (.long (1 : Int64))), (.aload_n 0, 1, 0, 0, 0, .null), (.getfield 170, 3, 4, 15, 0, .null), (.i2l, 1, 0, 0, 0, .null)]), (22, [(.iconst 1, 1, 0, 0, 0, (.int (1 : Int32)))]), (26, [(.aload_n 0, 1, 0, 0, 0, .null), (.getfield 34, 3, 4, 14, 4, .null), (.aload_n 0, 1, 0, 0, 0, .null), (.getfield 170, 3, 4, 15, 0, .null), (.iload_n 2, 1, 0, 0, 0, .null), (.isub, 1, 0, 0, 0, .null), (.iaload, 1, 0, 0, 0, .null), (.istore_n 3, 1, 0, 0, 0, .null)]), (38, [(.iload_n 1, 1, 0, 0, 0, .null)]), (42, [(.aload_n 0, 1, 0, 0, 0, .null), (.getfield 170, 3, 4, 15, 0, .null), (.iload_n 2, 1, 0, 0, 0, .null), (.isub, 1, 0, 0, 0, .null), (.istore 4, 2, 0, 0, 0, .null)]), (50, [(.iload 4, 2, 0, 0, 0, .null), (.aload_n 0, 1, 0, 0, 0, .null), (.getfield 170, 3, 4, 15, 0, .null), (.iconst 1, 1, 0, 0, 0, (.int (1 : Int32))), (.isub, 1, 0, 0, 0, .null)]), (61, [(.aload_n 0, 1, 0, 0, 0, .null), (.getfield 34, 3, 4, 14, 4, .null), (.iload 4, 2, 0, 0, 0, .null), (.aload_n 0, 1, 0, 0, 0, .null), (.getfield 34, 3, 4, 14, 4, .null), (.iload 4, 2, 0, 0, 0, .null), (.iconst 1, 1, 0, 0, 0, (.int (1 : Int32))), (.iadd, 1, 0, 0, 0, .null), (.iaload, 1, 0, 0, 0, .null), (.iastore, 1, 0, 0, 0, .null)]), (77, [(.iinc 4 1, 3, 0, 0, 0, (.int (1 : Int32)))]), (83, [(.aload_n 0, 1, 0, 0, 0, .null), (.dup, 1, 0, 0, 0, .null), (.getfield 170, 3, 4, 15, 0, .null), (.iconst 1, 1, 0, 0, 0, (.int (1 : Int32))), (.isub, 1, 0, 0, 0, .null), (.putfield 170, 3, 4, 15, 0, .null)]), (93, [(.aload_n 0, 1, 0, 0, 0, .null), (.iload_n 3, 1, 0, 0, 0, .null), (.i2l, 1, 0, 0, 0, .null)])], [(2, .invokevirtual 334, 3), (6, .invokevirtual 337, 3), (19, .invokestatic 246, 3), (23, .invokevirtual 187, 3), (80, .goto (-30), 3), (58, .if_icmp .ge 25, 3), (39, .ifCond .eq 54, 3), (96, .invokevirtual 242, 3), (99, .return_, 1)])
set_option maxRecDepth 100000 in
theorem m_Ma_fetch : hx_mok M_Ma_fetch = true := by decide +kernel
theorem pd_Ma_fetch : (parseMethodDescriptor M_Ma_fetch.2.1.desc).map (fun q => q.parameters.length) = some 1 := by decide +kernel
theorem y_Ma_fetch : hx_okV M_Ma_fetch := ⟨⟨lw_g (lw_at lw_m6 111 rfl) rfl, lw_g (lw_at lw_m6 110 rfl) rfl, qs70, lw_g (lw_at lw_m1 5 rfl) rfl, rfl, by decide, by decide, by decide⟩, rfl, by decide, plainFor_of_name (by decide)⟩
noncomputable def f_Ma_fetch (x1 : Int32) (h : hH) : Option (hH ⊕ (Unit × hH)) :=
  bT (f_Ma_need (1 : Int32) h) fun _ h1 =>
  bS (f_Ma_pop h1) fun a1 h2 =>
  bP (f_HH_within (Int32.toInt64 a1) (1 : Int64) (Int32.toInt64 (rdI h2 22 15))) fun a2 =>
  bT (f_Ma_want a2 (1 : Int32) h2) fun _ h3 =>
  gd (vp_in ((rdI h3 22 15) - a1) 256) <|
  lz (A := Int32) (rdI h3 43 (Int32.toNatClampNeg ((rdI h3 22 15) - a1))) fun v3 =>
  bJT (P := hH) (
    if x1 = 0 then (
      some (.inr h3)
    ) else (
      lz (A := Int32) ((rdI h3 22 15) - a1) fun v6 =>
      bJT (P := hH) (
        whT (A := (Int32 × hH)) (B := hH) (fun p7 =>
            if ((rdI p7.2 22 15) - (1 : Int32)) ≤ p7.1 then (
              some (.inr (.inr p7.2))
            ) else (
              gd (vp_in (p7.1 + (1 : Int32)) 256 ∧ vp_in p7.1 256) <|
              lz (wrI p7.2 43 (Int32.toNatClampNeg p7.1) (rdI p7.2 43 (Int32.toNatClampNeg (p7.1 + (1 : Int32))))) fun h4 =>
              lz (A := Int32) (p7.1 + (1 : Int32)) fun v10 =>
              some (.inr (.inl (v10, h4)))
            )
        ) (v6, h3)
      ) fun p8 =>
      lz (wrI p8 22 15 ((rdI p8 22 15) - (1 : Int32))) fun h5 =>
      some (.inr h5)
    )
  ) fun p5 =>
  bT (f_Ma_push (Int32.toInt64 v3) p5) fun _ h6 =>
  some (.inr ((), h6))
set_option maxRecDepth 20000 in
theorem k_Ma_fetch (x1 : Int32) (h : hH) : hx_kT S0 M_Ma_fetch 8 NT [(.ref 22), (.int x1)] h (f_Ma_fetch x1 h) cvU := by
  have hm := m_Ma_fetch
  show hx_P S0 M_Ma_fetch 8 0 [(0, (.ref 22)), (1, (.int x1))] [] NT h (f_Ma_fetch x1 h) (hx_T NT (hx_Rc cvU NT))
  unfold f_Ma_fetch
  refine hp_cVT (M2 := M_Ma_need) hm (at1 0 rfl) (as := [(.int (1 : Int32))]) (rest := []) (z := 22) rfl (by exact trivial) (pc' := 2) rfl 0 rfl (lw_g (lw_at lw_m5 217 rfl) rfl) y_Ma_need rfl (d2 := 7) ⟨le_b rfl, pd_Ma_need, le_b rfl⟩ (le_b rfl) og_22 rfl (k_Ma_need (1 : Int32) h) (fun _ h1 => ?_)
  refine hp_cVS (M2 := M_Ma_pop) hm (at1 1 rfl) (as := []) (rest := []) (z := 22) rfl (by exact trivial) (pc' := 6) rfl 1 rfl (lw_g (lw_at lw_m5 221 rfl) rfl) y_Ma_pop rfl (d2 := 1) ⟨le_b rfl, pd_Ma_pop, le_b rfl⟩ (le_b rfl) og_22 (k_Ma_pop h1) (fun a1 h2 => ?_)
  refine hp_b hm (at1 2 rfl) (L' := [(2, (.int a1)), (0, (.ref 22)), (1, (.int x1))]) (st' := [(.long (Int32.toInt64 (rdI h2 22 15))), (.long (1 : Int64)), (.long (Int32.toInt64 a1)), (.ref 22)]) rfl (by exact og_22) (pc' := 19) rfl ?_
  refine hp_cNP (M2 := M_HH_within) hm at0 (as := [(.long (Int32.toInt64 a1)), (.long (1 : Int64)), (.long (Int32.toInt64 (rdI h2 22 15)))]) (rest := [(.ref 22)]) rfl (by exact trivial) (pc' := 19) rfl 2 rfl (hmn_4_246) y_HH_within rfl (d2 := 1) ⟨le_b rfl, pd_HH_within, le_b rfl⟩ (le_b rfl) (k_HH_within (Int32.toInt64 a1) (1 : Int64) (Int32.toInt64 (rdI h2 22 15)) h2) (fun a2 => ?_)
  refine hp_cVT (M2 := M_Ma_want) hm (at1 3 rfl) (as := [(.int a2), (.int (1 : Int32))]) (rest := []) (z := 22) rfl (by exact trivial) (pc' := 23) rfl 3 rfl (lw_g (lw_at lw_m5 139 rfl) rfl) y_Ma_want rfl (d2 := 6) ⟨le_b rfl, pd_Ma_want, le_b rfl⟩ (le_b rfl) og_22 rfl (k_Ma_want a2 (1 : Int32) h2) (fun _ h3 => ?_)
  refine hp_GZ hm (at1 4 rfl) (fun (v3 : Int32) => [(3, (.int v3)), (2, (.int a1)), (0, (.ref 22)), (1, (.int x1))]) (fun (v3 : Int32) => []) rfl (fun hP => (by exact ⟨⟨og_22, og_22⟩, ⟨og_43, hP⟩⟩)) (pc' := 38) rfl (fun q4 v3 => ?_)
  refine hp_JT 93 (fun (p5 : hH) => [(0, (.ref 22)), (3, (.int v3))]) (fun (p5 : hH) => []) (fun (p5 : hH) => p5) ?_ (fun p5 => ?_)
  · refine hp_if_eq hm (at1 5 rfl) rfl (by exact trivial) (pc' := 39) rfl 6 rfl (tgt := 93) rfl (fun c12 => ?_) (fun c12 => ?_)
    · exact hp_lf [2, 0] rfl (fun _ e => e)
    · refine hp_z hm (at1 6 rfl) (fun (v6 : Int32) => [(4, (.int v6)), (3, (.int v3)), (2, (.int a1)), (0, (.ref 22)), (1, (.int x1))]) (fun (v6 : Int32) => []) rfl (by exact og_22) (pc' := 50) rfl (fun v6 => ?_)
      refine hp_JT 83 (fun (p8 : hH) => [(0, (.ref 22)), (3, (.int v3))]) (fun (p8 : hH) => []) (fun (p8 : hH) => p8) ?_ (fun p8 => ?_)
      · refine hp_s [3, 1, 0] rfl (L' := [(0, (.ref 22)), (3, (.int v3)), (4, (.int v6))]) ?_
        refine hp_whT (fun (p7 : (Int32 × hH)) => [(0, (.ref 22)), (3, (.int v3)), (4, (.int p7.1))]) [] (fun (p7 : (Int32 × hH)) => p7.2) (fun p7 => ?_) (v6, h3)
        refine hp_ic_ge hm (at1 7 rfl) rfl (by exact og_22) (pc' := 58) rfl 5 rfl (tgt := 83) rfl (fun c11 => ?_) (fun c11 => ?_)
        · exact hp_lf [0, 1] rfl (fun _ e => e)
        · refine hp_GW hm (at1 8 rfl) (L' := [(0, (.ref 22)), (3, (.int v3)), (4, (.int p7.1))]) rfl (fun hP => (by exact ⟨⟨⟨og_22, og_22⟩, ⟨og_43, hP.1⟩⟩, ⟨og_43, hP.2⟩⟩)) (pc' := 77) rfl (fun q9 h4 => ?_)
          refine hp_z hm (at1 9 rfl) (fun (v10 : Int32) => [(4, (.int v10)), (0, (.ref 22)), (3, (.int v3))]) (fun (v10 : Int32) => []) rfl (by exact trivial) (pc' := 80) rfl (fun v10 => ?_)
          refine hp_goto hm 4 rfl (tgt := 50) rfl ?_
          exact hp_lf [1, 2, 0] rfl (fun _ e => e)
      · refine hp_w hm (at1 10 rfl) (L' := [(0, (.ref 22)), (3, (.int v3))]) rfl (by exact ⟨og_22, og_22⟩) (pc' := 93) rfl (fun h5 => ?_)
        exact hp_lf [0, 1] rfl (fun _ e => e)
  · refine hp_cVT (M2 := M_Ma_push) hm (at1 11 rfl) (as := [(.long (Int32.toInt64 v3))]) (rest := []) (z := 22) rfl (by exact trivial) (pc' := 96) rfl 7 rfl (lw_g (lw_at lw_m6 42 rfl) rfl) y_Ma_push rfl (d2 := 7) ⟨le_b rfl, pd_Ma_push, le_b rfl⟩ (le_b rfl) og_22 rfl (k_Ma_push (Int32.toInt64 v3) p5) (fun _ h6 => ?_)
    exact hp_vr hm 8 rfl rfl (fun _ e => e)
/-! HintHouse$Machine.function(I)I -/
def M_Ma_function : hM := (4, ⟨"HintHouse$Machine", "function", "(I)I"⟩, prog_6_method_33_code, 2, (Option.some Jvm.ClassFile.FieldType.int), [], [(0, [(.aload_n 0, 1, 0, 0, 0, .null), (.iload_n 1, 1, 0, 0, 0, .null), (.i2l, 1, 0, 0, 0, .null), (.lconst 0, 1, 0, 0, 0, (.long (0 : Int64))), (.aload_n 0, 1, 0, 0, 0, .null), (.getfield 73, 3, 4, 0, 4, .null), (.getfield 331, 3, 2, 12, 0, .null), (.iconst 1, 1, 0, 0, 0, (.int (1 : Int32))), (.isub, 1, 0, 0, 0, .null), (.i2l, 1, 0, 0, 0, .null)]), (17, [(.bipush 6, 2, 0, 0, 0, (.int (6 : Int32)))]), (22, [(.iload_n 1, 1, 0, 0, 0, .null)])], [(14, .invokestatic 246, 3), (19, .invokevirtual 187, 3), (23, .ireturn, 1)])
set_option maxRecDepth 100000 in
theorem m_Ma_function : hx_mok M_Ma_function = true := by decide +kernel
theorem pd_Ma_function : (parseMethodDescriptor M_Ma_function.2.1.desc).map (fun q => q.parameters.length) = some 1 := by decide +kernel
theorem y_Ma_function : hx_okV M_Ma_function := ⟨⟨lw_g (lw_at lw_m6 119 rfl) rfl, lw_g (lw_at lw_m6 118 rfl) rfl, qs72, lw_g (lw_at lw_m1 5 rfl) rfl, rfl, by decide, by decide, by decide⟩, rfl, by decide, plainFor_of_name (by decide)⟩
noncomputable def f_Ma_function (x1 : Int32) (h : hH) : Option (hH ⊕ (Int32 × hH)) :=
  bP (f_HH_within (Int32.toInt64 x1) (0 : Int64) (Int32.toInt64 ((rdI h 4 12) - (1 : Int32)))) fun a1 =>
  bT (f_Ma_want a1 (6 : Int32) h) fun _ h1 =>
  some (.inr (x1, h1))
set_option maxRecDepth 20000 in
theorem k_Ma_function (x1 : Int32) (h : hH) : hx_kT S0 M_Ma_function 7 NT [(.ref 22), (.int x1)] h (f_Ma_function x1 h) cvI := by
  have hm := m_Ma_function
  show hx_P S0 M_Ma_function 7 0 [(0, (.ref 22)), (1, (.int x1))] [] NT h (f_Ma_function x1 h) (hx_T NT (hx_Rc cvI NT))
  unfold f_Ma_function
  refine hp_cNP (M2 := M_HH_within) hm (at1 0 rfl) (as := [(.long (Int32.toInt64 x1)), (.long (0 : Int64)), (.long (Int32.toInt64 ((rdI h 4 12) - (1 : Int32))))]) (rest := [(.ref 22)]) rfl (by exact ⟨og_22, og_4⟩) (pc' := 14) rfl 0 rfl (hmn_4_246) y_HH_within rfl (d2 := 1) ⟨le_b rfl, pd_HH_within, le_b rfl⟩ (le_b rfl) (k_HH_within (Int32.toInt64 x1) (0 : Int64) (Int32.toInt64 ((rdI h 4 12) - (1 : Int32))) h) (fun a1 => ?_)
  refine hp_cVT (M2 := M_Ma_want) hm (at1 1 rfl) (as := [(.int a1), (.int (6 : Int32))]) (rest := []) (z := 22) rfl (by exact trivial) (pc' := 19) rfl 1 rfl (lw_g (lw_at lw_m5 139 rfl) rfl) y_Ma_want rfl (d2 := 6) ⟨le_b rfl, pd_Ma_want, le_b rfl⟩ (le_b rfl) og_22 rfl (k_Ma_want a1 (6 : Int32) h) (fun _ h1 => ?_)
  exact hp_ir hm (at1 2 rfl) rfl (by exact trivial) (pc' := 23) rfl 2 rfl rfl (vp_nar_int _) (fun _ e => e)
/-! HintHouse$Machine.callFunction(II)V -/
def M_Ma_callFunction : hM := (4, ⟨"HintHouse$Machine", "callFunction", "(II)V"⟩, prog_6_method_37_code, 4, (Option.none : Option Jvm.ClassFile.FieldType), [], [(0, [(.aload_n 0, 1, 0, 0, 0, .null), (.iload_n 1, 1, 0, 0, 0, .null)]), (5, [(.istore_n 3, 1, 0, 0, 0, .null), (.aload_n 0, 1, 0, 0, 0, .null), (.aload_n 0, 1, 0, 0, 0, .null), (.getfield 52, 3, 4, 22, 4, .null), (.iload_n 3, 1, 0, 0, 0, .null), (.iaload, 1, 0, 0, 0, .null), (.iconst (-1), 1, 0, 0, 0, (.int (-1 : Int32)))]), (21, [(.iconst 0, 1, 0, 0, 0, (.int (0 : Int32)))]), (17, [(.iconst 1, 1, 0, 0, 0, (.int (1 : Int32)))]), (22, [(.bipush 6, 2, 0, 0, 0, (.int (6 : Int32)))]), (27, [(.aload_n 0, 1, 0, 0, 0, .null), (.aload_n 0, 1, 0, 0, 0, .null), (.getfield 52, 3, 4, 22, 4, .null), (.iload_n 3, 1, 0, 0, 0, .null), (.iaload, 1, 0, 0, 0, .null), (.aload_n 0, 1, 0, 0, 0, .null), (.getfield 55, 3, 4, 23, 4, .null), (.iload_n 3, 1, 0, 0, 0, .null), (.iaload, 1, 0, 0, 0, .null), (.iload_n 2, 1, 0, 0, 0, .null)])], [(2, .invokevirtual 341, 3), (18, .goto 4, 3), (14, .if_icmp .eq 7, 3), (24, .invokevirtual 187, 3), (41, .invokevirtual 355, 3), (44, .return_, 1)])
set_option maxRecDepth 100000 in
theorem m_Ma_callFunction : hx_mok M_Ma_callFunction = true := by decide +kernel
theorem pd_Ma_callFunction : (parseMethodDescriptor M_Ma_callFunction.2.1.desc).map (fun q => q.parameters.length) = some 2 := by decide +kernel
theorem y_Ma_callFunction : hx_okV M_Ma_callFunction := ⟨⟨lw_g (lw_at lw_m6 115 rfl) rfl, lw_g (lw_at lw_m6 114 rfl) rfl, qs71, lw_g (lw_at lw_m1 5 rfl) rfl, rfl, by decide, by decide, by decide⟩, rfl, by decide, plainFor_of_name (by decide)⟩
noncomputable def f_Ma_callFunction (x1 : Int32) (x2 : Int32) (h : hH) : Option (hH ⊕ (Unit × hH)) :=
  bT (f_Ma_function x1 h) fun a1 h1 =>
  gd (vp_in a1 64) <|
  lz (A := Int32) (if (rdI h1 49 (Int32.toNatClampNeg a1)) = (-1 : Int32) then (0 : Int32) else (1 : Int32)) fun p3 =>
  bT (f_Ma_want p3 (6 : Int32) h1) fun _ h2 =>
  gd (vp_in a1 64) <|
  bT (f_Ma_call (rdI h2 49 (Int32.toNatClampNeg a1)) (rdI h2 50 (Int32.toNatClampNeg a1)) x2 h2) fun _ h3 =>
  some (.inr ((), h3))
set_option maxRecDepth 20000 in
theorem k_Ma_callFunction (x1 : Int32) (x2 : Int32) (h : hH) : hx_kT S0 M_Ma_callFunction 8 NT [(.ref 22), (.int x1), (.int x2)] h (f_Ma_callFunction x1 x2 h) cvU := by
  have hm := m_Ma_callFunction
  show hx_P S0 M_Ma_callFunction 8 0 [(0, (.ref 22)), (1, (.int x1)), (2, (.int x2))] [] NT h (f_Ma_callFunction x1 x2 h) (hx_T NT (hx_Rc cvU NT))
  unfold f_Ma_callFunction
  refine hp_cVT (M2 := M_Ma_function) hm (at1 0 rfl) (as := [(.int x1)]) (rest := []) (z := 22) rfl (by exact trivial) (pc' := 2) rfl 0 rfl (lw_g (lw_at lw_m6 116 rfl) rfl) y_Ma_function rfl (d2 := 7) ⟨le_b rfl, pd_Ma_function, le_b rfl⟩ (le_b rfl) og_22 rfl (k_Ma_function x1 h) (fun a1 h1 => ?_)
  refine hp_G hm (at1 1 rfl) (L' := [(3, (.int a1)), (0, (.ref 22)), (1, (.int x1)), (2, (.int x2))]) (st' := [(.int (-1 : Int32)), (.int (rdI h1 49 (Int32.toNatClampNeg a1))), (.ref 22)]) rfl (fun hP => (by exact ⟨og_22, ⟨og_49, hP⟩⟩)) (pc' := 14) rfl (fun q2 => ?_)
  refine hp_JZ 22 (fun (p3 : Int32) => [(0, (.ref 22)), (2, (.int x2)), (3, (.int a1))]) (fun (p3 : Int32) => [(.int p3), (.ref 22)]) (fun (p3 : Int32) => h1) ?_ (fun p3 => ?_)
  · refine hp_sv0 ?_
    refine hp_ic_eq hm at0 rfl (by exact trivial) (pc' := 14) rfl 2 rfl (tgt := 21) rfl (fun c4 => ?_) (fun c4 => ?_)
    · refine hp_b hm (at1 2 rfl) (L' := [(3, (.int a1)), (0, (.ref 22)), (1, (.int x1)), (2, (.int x2))]) (st' := [(.int (0 : Int32)), (.ref 22)]) rfl (by exact trivial) (pc' := 22) rfl ?_
      exact hp_lf [1, 3, 0] rfl (fun _ e => e)
    · refine hp_b hm (at1 3 rfl) (L' := [(3, (.int a1)), (0, (.ref 22)), (1, (.int x1)), (2, (.int x2))]) (st' := [(.int (1 : Int32)), (.ref 22)]) rfl (by exact trivial) (pc' := 18) rfl ?_
      refine hp_goto hm 1 rfl (tgt := 22) rfl ?_
      exact hp_lf [1, 3, 0] rfl (fun _ e => e)
  · refine hp_cVT (M2 := M_Ma_want) hm (at1 4 rfl) (as := [(.int p3), (.int (6 : Int32))]) (rest := []) (z := 22) rfl (by exact trivial) (pc' := 24) rfl 3 rfl (lw_g (lw_at lw_m5 139 rfl) rfl) y_Ma_want rfl (d2 := 6) ⟨le_b rfl, pd_Ma_want, le_b rfl⟩ (le_b rfl) og_22 rfl (k_Ma_want p3 (6 : Int32) h1) (fun _ h2 => ?_)
    refine hp_G hm (at1 5 rfl) (L' := [(0, (.ref 22)), (2, (.int x2)), (3, (.int a1))]) (st' := [(.int x2), (.int (rdI h2 50 (Int32.toNatClampNeg a1))), (.int (rdI h2 49 (Int32.toNatClampNeg a1))), (.ref 22)]) rfl (fun hP => (by exact ⟨⟨⟨og_22, ⟨og_49, hP⟩⟩, og_22⟩, ⟨og_50, hP⟩⟩)) (pc' := 41) rfl (fun q5 => ?_)
    refine hp_cVT (M2 := M_Ma_call) hm at0 (as := [(.int (rdI h2 49 (Int32.toNatClampNeg a1))), (.int (rdI h2 50 (Int32.toNatClampNeg a1))), (.int x2)]) (rest := []) (z := 22) rfl (by exact trivial) (pc' := 41) rfl 4 rfl (lw_g (lw_at lw_m6 79 rfl) rfl) y_Ma_call rfl (d2 := 7) ⟨le_b rfl, pd_Ma_call, le_b rfl⟩ (le_b rfl) og_22 rfl (k_Ma_call (rdI h2 49 (Int32.toNatClampNeg a1)) (rdI h2 50 (Int32.toNatClampNeg a1)) x2 h2) (fun _ h3 => ?_)
    exact hp_vr hm 5 rfl rfl (fun _ e => e)
/-! HintHouse$Machine.passFunction()V -/
def M_Ma_passFunction : hM := (4, ⟨"HintHouse$Machine", "passFunction", "()V"⟩, prog_6_method_29_code, 2, (Option.none : Option Jvm.ClassFile.FieldType), [], [(0, [(.iconst 0, 1, 0, 0, 0, (.int (0 : Int32))), (.istore_n 1, 1, 0, 0, 0, .null)]), (2, [(.iload_n 1, 1, 0, 0, 0, .null), (.bipush 45, 2, 0, 0, 0, (.int (45 : Int32)))]), (8, [(.aload_n 0, 1, 0, 0, 0, .null), (.aload_n 0, 1, 0, 0, 0, .null), (.getfield 164, 3, 4, 11, 0, .null)]), (16, [(.istore_n 1, 1, 0, 0, 0, .null), (.aload_n 0, 1, 0, 0, 0, .null), (.dup, 1, 0, 0, 0, .null), (.getfield 164, 3, 4, 11, 0, .null), (.aload_n 0, 1, 0, 0, 0, .null), (.aload_n 0, 1, 0, 0, 0, .null), (.getfield 164, 3, 4, 11, 0, .null)]), (30, [(.iadd, 1, 0, 0, 0, .null), (.putfield 164, 3, 4, 11, 0, .null)])], [(13, .invokevirtual 197, 3), (27, .invokevirtual 328, 3), (34, .goto (-32), 3), (5, .if_icmp .eq 32, 3), (37, .return_, 1)])
set_option maxRecDepth 100000 in
theorem m_Ma_passFunction : hx_mok M_Ma_passFunction = true := by decide +kernel
theorem pd_Ma_passFunction : (parseMethodDescriptor M_Ma_passFunction.2.1.desc).map (fun q => q.parameters.length) = some 0 := by decide +kernel
theorem y_Ma_passFunction : hx_okV M_Ma_passFunction := ⟨⟨lw_g (lw_at lw_m6 128 rfl) rfl, lw_g (lw_at lw_m6 127 rfl) rfl, qs74, lw_g (lw_at lw_m1 5 rfl) rfl, rfl, by decide, by decide, by decide⟩, rfl, by decide, plainFor_of_name (by decide)⟩
noncomputable def f_Ma_passFunction (h : hH) : Option (hH ⊕ (Unit × hH)) :=
  bJT (P := hH) (
    whT (A := (Int32 × hH)) (B := hH) (fun p1 =>
        if p1.1 = (45 : Int32) then (
          some (.inr (.inr p1.2))
        ) else (
          bT (f_Ma_byteAt (rdI p1.2 22 11) p1.2) fun a3 h1 =>
          bT (f_Ma_lengthAt (rdI h1 22 11) h1) fun a4 h2 =>
          lz (wrI h2 22 11 ((rdI h1 22 11) + a4)) fun h3 =>
          some (.inr (.inl (a3, h3)))
        )
    ) ((0 : Int32), h)
  ) fun p2 =>
  some (.inr ((), p2))
set_option maxRecDepth 20000 in
theorem k_Ma_passFunction (h : hH) : hx_kT S0 M_Ma_passFunction 9 NT [(.ref 22)] h (f_Ma_passFunction h) cvU := by
  have hm := m_Ma_passFunction
  show hx_P S0 M_Ma_passFunction 9 0 [(0, (.ref 22))] [] NT h (f_Ma_passFunction h) (hx_T NT (hx_Rc cvU NT))
  unfold f_Ma_passFunction
  refine hp_b hm (at1 0 rfl) (L' := [(1, (.int (0 : Int32))), (0, (.ref 22))]) (st' := []) rfl (by exact trivial) (pc' := 2) rfl ?_
  refine hp_JT 37 (fun (p2 : hH) => []) (fun (p2 : hH) => []) (fun (p2 : hH) => p2) ?_ (fun p2 => ?_)
  · refine hp_s [1, 0] rfl (L' := [(0, (.ref 22)), (1, (.int (0 : Int32)))]) ?_
    refine hp_whT (fun (p1 : (Int32 × hH)) => [(0, (.ref 22)), (1, (.int p1.1))]) [] (fun (p1 : (Int32 × hH)) => p1.2) (fun p1 => ?_) ((0 : Int32), h)
    refine hp_ic_eq hm (at1 1 rfl) rfl (by exact trivial) (pc' := 5) rfl 3 rfl (tgt := 37) rfl (fun c5 => ?_) (fun c5 => ?_)
    · exact hp_lf [] rfl (fun _ e => e)
    · refine hp_cVT (M2 := M_Ma_byteAt) hm (at1 2 rfl) (as := [(.int (rdI p1.2 22 11))]) (rest := []) (z := 22) rfl (by exact og_22) (pc' := 13) rfl 0 rfl (lw_g (lw_at lw_m5 208 rfl) rfl) y_Ma_byteAt rfl (d2 := 7) ⟨le_b rfl, pd_Ma_byteAt, le_b rfl⟩ (le_b rfl) og_22 rfl (k_Ma_byteAt (rdI p1.2 22 11) p1.2) (fun a3 h1 => ?_)
      refine hp_b hm (at1 3 rfl) (L' := [(1, (.int a3)), (0, (.ref 22))]) (st' := [(.int (rdI h1 22 11)), (.ref 22), (.int (rdI h1 22 11)), (.ref 22)]) rfl (by exact ⟨og_22, og_22⟩) (pc' := 27) rfl ?_
      refine hp_cVT (M2 := M_Ma_lengthAt) hm at0 (as := [(.int (rdI h1 22 11))]) (rest := [(.int (rdI h1 22 11)), (.ref 22)]) (z := 22) rfl (by exact trivial) (pc' := 27) rfl 1 rfl (lw_g (lw_at lw_m6 95 rfl) rfl) y_Ma_lengthAt rfl (d2 := 8) ⟨le_b rfl, pd_Ma_lengthAt, le_b rfl⟩ (le_b rfl) og_22 rfl (k_Ma_lengthAt (rdI h1 22 11) h1) (fun a4 h2 => ?_)
      refine hp_w hm (at1 4 rfl) (L' := [(1, (.int a3)), (0, (.ref 22))]) rfl (by exact og_22) (pc' := 34) rfl (fun h3 => ?_)
      refine hp_goto hm 2 rfl (tgt := 2) rfl ?_
      exact hp_lf [1, 0] rfl (fun _ e => e)
  · exact hp_vr hm 4 rfl rfl (fun _ e => e)
/-! HintHouse$Machine.define(I)V -/
def M_Ma_define : hM := (4, ⟨"HintHouse$Machine", "define", "(I)V"⟩, prog_6_method_34_code, 4, (Option.none : Option Jvm.ClassFile.FieldType), [], [(0, [(.aload_n 0, 1, 0, 0, 0, .null), (.iconst 1, 1, 0, 0, 0, (.int (1 : Int32)))]), (5, [(.aload_n 0, 1, 0, 0, 0, .null), (.aload_n 0, 1, 0, 0, 0, .null), (.getfield 161, 3, 4, 8, 0, .null), (.iconst 2, 1, 0, 0, 0, (.int (2 : Int32)))]), (18, [(.iconst 0, 1, 0, 0, 0, (.int (0 : Int32)))]), (14, [(.iconst 1, 1, 0, 0, 0, (.int (1 : Int32)))]), (19, [(.iconst 3, 1, 0, 0, 0, (.int (3 : Int32)))]), (23, [(.aload_n 0, 1, 0, 0, 0, .null)]), (27, [(.istore_n 2, 1, 0, 0, 0, .null), (.iload_n 1, 1, 0, 0, 0, .null), (.bipush 44, 2, 0, 0, 0, (.int (44 : Int32)))]), (63, [(.aload_n 0, 1, 0, 0, 0, .null), (.iload_n 2, 1, 0, 0, 0, .null), (.i2l, 1, 0, 0, 0, .null), (.lconst 0, 1, 0, 0, 0, (.long (0 : Int64))), (.ldc2_w 344, 3, 0, 0, 0, (.long (255 : Int64)))]), (73, [(.bipush 11, 2, 0, 0, 0, (.int (11 : Int32)))]), (78, [(.aload_n 0, 1, 0, 0, 0, .null), (.iload_n 2, 1, 0, 0, 0, .null)]), (83, [(.istore_n 3, 1, 0, 0, 0, .null), (.iload_n 3, 1, 0, 0, 0, .null), (.aload_n 0, 1, 0, 0, 0, .null), (.getfield 90, 3, 4, 24, 0, .null)]), (92, [(.aload_n 0, 1, 0, 0, 0, .null), (.aload_n 0, 1, 0, 0, 0, .null), (.getfield 90, 3, 4, 24, 0, .null), (.aload_n 0, 1, 0, 0, 0, .null), (.getfield 73, 3, 4, 0, 4, .null), (.getfield 349, 3, 2, 13, 0, .null)]), (111, [(.iconst 0, 1, 0, 0, 0, (.int (0 : Int32)))]), (107, [(.iconst 1, 1, 0, 0, 0, (.int (1 : Int32)))]), (112, [(.bipush 6, 2, 0, 0, 0, (.int (6 : Int32)))]), (117, [(.aload_n 0, 1, 0, 0, 0, .null), (.getfield 58, 3, 4, 25, 4, .null), (.iload_n 3, 1, 0, 0, 0, .null), (.iload_n 2, 1, 0, 0, 0, .null), (.iastore, 1, 0, 0, 0, .null)]), (124, [(.aload_n 0, 1, 0, 0, 0, .null), (.dup, 1, 0, 0, 0, .null), (.getfield 90, 3, 4, 24, 0, .null), (.iconst 1, 1, 0, 0, 0, (.int (1 : Int32))), (.iadd, 1, 0, 0, 0, .null), (.putfield 90, 3, 4, 24, 0, .null)]), (134, [(.aload_n 0, 1, 0, 0, 0, .null), (.getfield 61, 3, 4, 26, 4, .null), (.iload_n 3, 1, 0, 0, 0, .null), (.aload_n 0, 1, 0, 0, 0, .null), (.getfield 158, 3, 4, 7, 0, .null), (.iastore, 1, 0, 0, 0, .null)]), (144, [(.aload_n 0, 1, 0, 0, 0, .null), (.getfield 64, 3, 4, 27, 4, .null), (.iload_n 3, 1, 0, 0, 0, .null), (.aload_n 0, 1, 0, 0, 0, .null), (.getfield 164, 3, 4, 11, 0, .null), (.iastore, 1, 0, 0, 0, .null)]), (34, [(.aload_n 0, 1, 0, 0, 0, .null), (.iload_n 2, 1, 0, 0, 0, .null)]), (39, [(.istore_n 3, 1, 0, 0, 0, .null), (.aload_n 0, 1, 0, 0, 0, .null), (.getfield 52, 3, 4, 22, 4, .null), (.iload_n 3, 1, 0, 0, 0, .null), (.aload_n 0, 1, 0, 0, 0, .null), (.getfield 158, 3, 4, 7, 0, .null), (.iastore, 1, 0, 0, 0, .null)]), (50, [(.aload_n 0, 1, 0, 0, 0, .null), (.getfield 55, 3, 4, 23, 4, .null), (.iload_n 3, 1, 0, 0, 0, .null), (.aload_n 0, 1, 0, 0, 0, .null), (.getfield 164, 3, 4, 11, 0, .null), (.iastore, 1, 0, 0, 0, .null)]), (154, [(.aload_n 0, 1, 0, 0, 0, .null)])], [(2, .invokevirtual 334, 3), (15, .goto 4, 3), (11, .if_icmp .ge 7, 3), (20, .invokevirtual 187, 3), (24, .invokevirtual 337, 3), (70, .invokestatic 246, 3), (75, .invokevirtual 187, 3), (80, .invokevirtual 346, 3), (108, .goto 4, 3), (104, .if_icmp .ge 7, 3), (114, .invokevirtual 187, 3), (89, .if_icmp .ne 45, 3), (36, .invokevirtual 341, 3), (60, .goto 94, 3), (31, .if_icmp .ne 32, 3), (155, .invokevirtual 352, 3), (158, .return_, 1)])
set_option maxRecDepth 100000 in
theorem m_Ma_define : hx_mok M_Ma_define = true := by decide +kernel
theorem pd_Ma_define : (parseMethodDescriptor M_Ma_define.2.1.desc).map (fun q => q.parameters.length) = some 1 := by decide +kernel
theorem y_Ma_define : hx_okV M_Ma_define := ⟨⟨lw_g (lw_at lw_m6 123 rfl) rfl, lw_g (lw_at lw_m6 122 rfl) rfl, qs73, lw_g (lw_at lw_m1 5 rfl) rfl, rfl, by decide, by decide, by decide⟩, rfl, by decide, plainFor_of_name (by decide)⟩
noncomputable def f_Ma_define (x1 : Int32) (h : hH) : Option (hH ⊕ (Unit × hH)) :=
  bT (f_Ma_need (1 : Int32) h) fun _ h1 =>
  lz (A := Int32) (if (2 : Int32) ≤ (rdI h1 22 8) then (0 : Int32) else (1 : Int32)) fun p1 =>
  bT (f_Ma_want p1 (3 : Int32) h1) fun _ h2 =>
  bS (f_Ma_pop h2) fun a3 h3 =>
  bJT (P := hH) (
    if x1 = (44 : Int32) then (
      bT (f_Ma_function a3 h3) fun a14 h10 =>
      gd (vp_in a14 64) <|
      lz (wrI h10 49 (Int32.toNatClampNeg a14) (rdI h10 22 7)) fun h11 =>
      gd (vp_in a14 64) <|
      lz (wrI h11 50 (Int32.toNatClampNeg a14) (rdI h11 22 11)) fun h12 =>
      some (.inr h12)
    ) else (
      bP (f_HH_within (Int32.toInt64 a3) (0 : Int64) (255 : Int64)) fun a5 =>
      bT (f_Ma_want a5 (11 : Int32) h3) fun _ h4 =>
      bP (f_Ma_ownOf a3 h4) fun a6 =>
      bJT (P := hH) (
        if a6 = (rdI h4 22 24) then (
          lz (A := Int32) (if (rdI h4 4 13) ≤ (rdI h4 22 24) then (0 : Int32) else (1 : Int32)) fun p8 =>
          bT (f_Ma_want p8 (6 : Int32) h4) fun _ h5 =>
          gd (vp_in a6 16) <|
          lz (wrI h5 51 (Int32.toNatClampNeg a6) a3) fun h6 =>
          lz (wrI h6 22 24 ((rdI h6 22 24) + (1 : Int32))) fun h7 =>
          some (.inr h7)
        ) else (
          some (.inr h4)
        )
      ) fun p7 =>
      gd (vp_in a6 16) <|
      lz (wrI p7 52 (Int32.toNatClampNeg a6) (rdI p7 22 7)) fun h8 =>
      gd (vp_in a6 16) <|
      lz (wrI h8 53 (Int32.toNatClampNeg a6) (rdI h8 22 11)) fun h9 =>
      some (.inr h9)
    )
  ) fun p4 =>
  bT (f_Ma_passFunction p4) fun _ h13 =>
  some (.inr ((), h13))
set_option maxRecDepth 20000 in
theorem k_Ma_define (x1 : Int32) (h : hH) : hx_kT S0 M_Ma_define 10 NT [(.ref 22), (.int x1)] h (f_Ma_define x1 h) cvU := by
  have hm := m_Ma_define
  show hx_P S0 M_Ma_define 10 0 [(0, (.ref 22)), (1, (.int x1))] [] NT h (f_Ma_define x1 h) (hx_T NT (hx_Rc cvU NT))
  unfold f_Ma_define
  refine hp_cVT (M2 := M_Ma_need) hm (at1 0 rfl) (as := [(.int (1 : Int32))]) (rest := []) (z := 22) rfl (by exact trivial) (pc' := 2) rfl 0 rfl (lw_g (lw_at lw_m5 217 rfl) rfl) y_Ma_need rfl (d2 := 7) ⟨le_b rfl, pd_Ma_need, le_b rfl⟩ (le_b rfl) og_22 rfl (k_Ma_need (1 : Int32) h) (fun _ h1 => ?_)
  refine hp_JZ 19 (fun (p1 : Int32) => [(0, (.ref 22)), (1, (.int x1))]) (fun (p1 : Int32) => [(.int p1), (.ref 22)]) (fun (p1 : Int32) => h1) ?_ (fun p1 => ?_)
  · refine hp_sv0 ?_
    refine hp_ic_ge hm (at1 1 rfl) rfl (by exact og_22) (pc' := 11) rfl 2 rfl (tgt := 18) rfl (fun c2 => ?_) (fun c2 => ?_)
    · refine hp_b hm (at1 2 rfl) (L' := [(0, (.ref 22)), (1, (.int x1))]) (st' := [(.int (0 : Int32)), (.ref 22)]) rfl (by exact trivial) (pc' := 19) rfl ?_
      exact hp_lf [0, 1] rfl (fun _ e => e)
    · refine hp_b hm (at1 3 rfl) (L' := [(0, (.ref 22)), (1, (.int x1))]) (st' := [(.int (1 : Int32)), (.ref 22)]) rfl (by exact trivial) (pc' := 15) rfl ?_
      refine hp_goto hm 1 rfl (tgt := 19) rfl ?_
      exact hp_lf [0, 1] rfl (fun _ e => e)
  · refine hp_cVT (M2 := M_Ma_want) hm (at1 4 rfl) (as := [(.int p1), (.int (3 : Int32))]) (rest := []) (z := 22) rfl (by exact trivial) (pc' := 20) rfl 3 rfl (lw_g (lw_at lw_m5 139 rfl) rfl) y_Ma_want rfl (d2 := 6) ⟨le_b rfl, pd_Ma_want, le_b rfl⟩ (le_b rfl) og_22 rfl (k_Ma_want p1 (3 : Int32) h1) (fun _ h2 => ?_)
    refine hp_cVS (M2 := M_Ma_pop) hm (at1 5 rfl) (as := []) (rest := []) (z := 22) rfl (by exact trivial) (pc' := 24) rfl 4 rfl (lw_g (lw_at lw_m5 221 rfl) rfl) y_Ma_pop rfl (d2 := 1) ⟨le_b rfl, pd_Ma_pop, le_b rfl⟩ (le_b rfl) og_22 (k_Ma_pop h2) (fun a3 h3 => ?_)
    refine hp_b hm (at1 6 rfl) (L' := [(2, (.int a3)), (0, (.ref 22)), (1, (.int x1))]) (st' := [(.int (44 : Int32)), (.int x1)]) rfl (by exact trivial) (pc' := 31) rfl ?_
    refine hp_JT 154 (fun (p4 : hH) => [(0, (.ref 22))]) (fun (p4 : hH) => []) (fun (p4 : hH) => p4) ?_ (fun p4 => ?_)
    · refine hp_ic_ne hm at0 rfl (by exact trivial) (pc' := 31) rfl 14 rfl (tgt := 63) rfl (fun c17 => ?_) (fun c17 => ?_)
      · refine hp_cNP (M2 := M_HH_within) hm (at1 7 rfl) (as := [(.long (Int32.toInt64 a3)), (.long (0 : Int64)), (.long (255 : Int64))]) (rest := [(.ref 22)]) rfl (by exact trivial) (pc' := 70) rfl 5 rfl (hmn_4_246) y_HH_within rfl (d2 := 1) ⟨le_b rfl, pd_HH_within, le_b rfl⟩ (le_b rfl) (k_HH_within (Int32.toInt64 a3) (0 : Int64) (255 : Int64) h3) (fun a5 => ?_)
        refine hp_cVT (M2 := M_Ma_want) hm (at1 8 rfl) (as := [(.int a5), (.int (11 : Int32))]) (rest := []) (z := 22) rfl (by exact trivial) (pc' := 75) rfl 6 rfl (lw_g (lw_at lw_m5 139 rfl) rfl) y_Ma_want rfl (d2 := 6) ⟨le_b rfl, pd_Ma_want, le_b rfl⟩ (le_b rfl) og_22 rfl (k_Ma_want a5 (11 : Int32) h3) (fun _ h4 => ?_)
        refine hp_cVP (M2 := M_Ma_ownOf) hm (at1 9 rfl) (as := [(.int a3)]) (rest := []) (z := 22) rfl (by exact trivial) (pc' := 80) rfl 7 rfl (lw_g (lw_at lw_m6 75 rfl) rfl) y_Ma_ownOf rfl (d2 := 1) ⟨le_b rfl, pd_Ma_ownOf, le_b rfl⟩ (le_b rfl) og_22 (k_Ma_ownOf a3 h4) (fun a6 => ?_)
        refine hp_b hm (at1 10 rfl) (L' := [(3, (.int a6)), (2, (.int a3)), (0, (.ref 22)), (1, (.int x1))]) (st' := [(.int (rdI h4 22 24)), (.int a6)]) rfl (by exact og_22) (pc' := 89) rfl ?_
        refine hp_JT 134 (fun (p7 : hH) => [(0, (.ref 22)), (3, (.int a6))]) (fun (p7 : hH) => []) (fun (p7 : hH) => p7) ?_ (fun p7 => ?_)
        · refine hp_ic_ne hm at0 rfl (by exact trivial) (pc' := 89) rfl 11 rfl (tgt := 134) rfl (fun c11 => ?_) (fun c11 => ?_)
          · exact hp_lf [2, 0] rfl (fun _ e => e)
          · refine hp_JZ 112 (fun (p8 : Int32) => [(0, (.ref 22)), (2, (.int a3)), (3, (.int a6))]) (fun (p8 : Int32) => [(.int p8), (.ref 22)]) (fun (p8 : Int32) => h4) ?_ (fun p8 => ?_)
            · refine hp_sv0 ?_
              refine hp_ic_ge hm (at1 11 rfl) rfl (by exact ⟨⟨og_22, og_22⟩, og_4⟩) (pc' := 104) rfl 9 rfl (tgt := 111) rfl (fun c9 => ?_) (fun c9 => ?_)
              · refine hp_b hm (at1 12 rfl) (L' := [(3, (.int a6)), (2, (.int a3)), (0, (.ref 22)), (1, (.int x1))]) (st' := [(.int (0 : Int32)), (.ref 22)]) rfl (by exact trivial) (pc' := 112) rfl ?_
                exact hp_lf [2, 1, 0] rfl (fun _ e => e)
              · refine hp_b hm (at1 13 rfl) (L' := [(3, (.int a6)), (2, (.int a3)), (0, (.ref 22)), (1, (.int x1))]) (st' := [(.int (1 : Int32)), (.ref 22)]) rfl (by exact trivial) (pc' := 108) rfl ?_
                refine hp_goto hm 8 rfl (tgt := 112) rfl ?_
                exact hp_lf [2, 1, 0] rfl (fun _ e => e)
            · refine hp_cVT (M2 := M_Ma_want) hm (at1 14 rfl) (as := [(.int p8), (.int (6 : Int32))]) (rest := []) (z := 22) rfl (by exact trivial) (pc' := 114) rfl 10 rfl (lw_g (lw_at lw_m5 139 rfl) rfl) y_Ma_want rfl (d2 := 6) ⟨le_b rfl, pd_Ma_want, le_b rfl⟩ (le_b rfl) og_22 rfl (k_Ma_want p8 (6 : Int32) h4) (fun _ h5 => ?_)
              refine hp_GW hm (at1 15 rfl) (L' := [(0, (.ref 22)), (2, (.int a3)), (3, (.int a6))]) rfl (fun hP => (by exact ⟨og_22, ⟨og_51, hP⟩⟩)) (pc' := 124) rfl (fun q10 h6 => ?_)
              refine hp_w hm (at1 16 rfl) (L' := [(0, (.ref 22)), (2, (.int a3)), (3, (.int a6))]) rfl (by exact ⟨og_22, og_22⟩) (pc' := 134) rfl (fun h7 => ?_)
              exact hp_lf [0, 2] rfl (fun _ e => e)
        · refine hp_GW hm (at1 17 rfl) (L' := [(0, (.ref 22)), (3, (.int a6))]) rfl (fun hP => (by exact ⟨⟨og_22, og_22⟩, ⟨og_52, hP⟩⟩)) (pc' := 144) rfl (fun q12 h8 => ?_)
          refine hp_GW hm (at1 18 rfl) (L' := [(0, (.ref 22)), (3, (.int a6))]) rfl (fun hP => (by exact ⟨⟨og_22, og_22⟩, ⟨og_53, hP⟩⟩)) (pc' := 154) rfl (fun q13 h9 => ?_)
          exact hp_lf [0] rfl (fun _ e => e)
      · refine hp_cVT (M2 := M_Ma_function) hm (at1 19 rfl) (as := [(.int a3)]) (rest := []) (z := 22) rfl (by exact trivial) (pc' := 36) rfl 12 rfl (lw_g (lw_at lw_m6 116 rfl) rfl) y_Ma_function rfl (d2 := 7) ⟨le_b rfl, pd_Ma_function, le_b rfl⟩ (le_b rfl) og_22 rfl (k_Ma_function a3 h3) (fun a14 h10 => ?_)
        refine hp_GW hm (at1 20 rfl) (L' := [(3, (.int a14)), (2, (.int a3)), (0, (.ref 22)), (1, (.int x1))]) rfl (fun hP => (by exact ⟨⟨og_22, og_22⟩, ⟨og_49, hP⟩⟩)) (pc' := 50) rfl (fun q15 h11 => ?_)
        refine hp_GW hm (at1 21 rfl) (L' := [(3, (.int a14)), (2, (.int a3)), (0, (.ref 22)), (1, (.int x1))]) rfl (fun hP => (by exact ⟨⟨og_22, og_22⟩, ⟨og_50, hP⟩⟩)) (pc' := 60) rfl (fun q16 h12 => ?_)
        refine hp_goto hm 13 rfl (tgt := 154) rfl ?_
        exact hp_lf [2] rfl (fun _ e => e)
    · refine hp_cVT (M2 := M_Ma_passFunction) hm (at1 22 rfl) (as := []) (rest := []) (z := 22) rfl (by exact trivial) (pc' := 155) rfl 15 rfl (lw_g (lw_at lw_m6 125 rfl) rfl) y_Ma_passFunction rfl (d2 := 9) ⟨le_b rfl, pd_Ma_passFunction, le_b rfl⟩ (le_b rfl) og_22 rfl (k_Ma_passFunction p4) (fun _ h13 => ?_)
      exact hp_vr hm 16 rfl rfl (fun _ e => e)
/-! HintHouse$Machine.endCall()V -/
def M_Ma_endCall : hM := (4, ⟨"HintHouse$Machine", "endCall", "()V"⟩, prog_6_method_32_code, 2, (Option.none : Option Jvm.ClassFile.FieldType), [], [(0, [(.aload_n 0, 1, 0, 0, 0, .null), (.aload_n 0, 1, 0, 0, 0, .null), (.getfield 173, 3, 4, 16, 0, .null)]), (12, [(.iconst 0, 1, 0, 0, 0, (.int (0 : Int32)))]), (8, [(.iconst 1, 1, 0, 0, 0, (.int (1 : Int32)))]), (13, [(.iconst 4, 1, 0, 0, 0, (.int (4 : Int32)))]), (17, [(.aload_n 0, 1, 0, 0, 0, .null), (.getfield 173, 3, 4, 16, 0, .null), (.iconst 1, 1, 0, 0, 0, (.int (1 : Int32))), (.isub, 1, 0, 0, 0, .null), (.istore_n 1, 1, 0, 0, 0, .null)]), (24, [(.aload_n 0, 1, 0, 0, 0, .null), (.getfield 43, 3, 4, 19, 4, .null), (.iload_n 1, 1, 0, 0, 0, .null), (.iaload, 1, 0, 0, 0, .null)]), (66, [(.aload_n 0, 1, 0, 0, 0, .null), (.dup, 1, 0, 0, 0, .null), (.getfield 173, 3, 4, 16, 0, .null), (.iconst 1, 1, 0, 0, 0, (.int (1 : Int32))), (.isub, 1, 0, 0, 0, .null), (.putfield 173, 3, 4, 16, 0, .null)]), (76, [(.aload_n 0, 1, 0, 0, 0, .null), (.aload_n 0, 1, 0, 0, 0, .null), (.getfield 37, 3, 4, 17, 4, .null), (.iload_n 1, 1, 0, 0, 0, .null), (.iaload, 1, 0, 0, 0, .null), (.putfield 158, 3, 4, 7, 0, .null)]), (86, [(.aload_n 0, 1, 0, 0, 0, .null), (.aload_n 0, 1, 0, 0, 0, .null), (.getfield 40, 3, 4, 18, 4, .null), (.iload_n 1, 1, 0, 0, 0, .null), (.iaload, 1, 0, 0, 0, .null), (.putfield 164, 3, 4, 11, 0, .null)]), (33, [(.aload_n 0, 1, 0, 0, 0, .null), (.getfield 43, 3, 4, 19, 4, .null), (.iload_n 1, 1, 0, 0, 0, .null), (.dup2, 1, 0, 0, 0, .null), (.iaload, 1, 0, 0, 0, .null), (.iconst 1, 1, 0, 0, 0, (.int (1 : Int32))), (.isub, 1, 0, 0, 0, .null), (.iastore, 1, 0, 0, 0, .null)]), (43, [(.aload_n 0, 1, 0, 0, 0, .null), (.aload_n 0, 1, 0, 0, 0, .null), (.getfield 49, 3, 4, 21, 4, .null), (.iload_n 1, 1, 0, 0, 0, .null), (.iaload, 1, 0, 0, 0, .null), (.putfield 158, 3, 4, 7, 0, .null)]), (53, [(.aload_n 0, 1, 0, 0, 0, .null), (.aload_n 0, 1, 0, 0, 0, .null), (.getfield 46, 3, 4, 20, 4, .null), (.iload_n 1, 1, 0, 0, 0, .null), (.iaload, 1, 0, 0, 0, .null), (.putfield 164, 3, 4, 11, 0, .null)])], [(9, .goto 4, 3), (5, .ifCond .le 7, 3), (14, .invokevirtual 187, 3), (96, .return_, 1), (63, .goto 33, 3), (30, .ifCond .le 36, 3)])
set_option maxRecDepth 100000 in
theorem m_Ma_endCall : hx_mok M_Ma_endCall = true := by decide +kernel
theorem pd_Ma_endCall : (parseMethodDescriptor M_Ma_endCall.2.1.desc).map (fun q => q.parameters.length) = some 0 := by decide +kernel
theorem y_Ma_endCall : hx_okV M_Ma_endCall := ⟨⟨lw_g (lw_at lw_m6 132 rfl) rfl, lw_g (lw_at lw_m6 131 rfl) rfl, qs75, lw_g (lw_at lw_m1 5 rfl) rfl, rfl, by decide, by decide, by decide⟩, rfl, by decide, plainFor_of_name (by decide)⟩
noncomputable def f_Ma_endCall (h : hH) : Option (hH ⊕ (Unit × hH)) :=
  lz (A := Int32) (if (rdI h 22 16) ≤ 0 then (0 : Int32) else (1 : Int32)) fun p1 =>
  bT (f_Ma_want p1 (4 : Int32) h) fun _ h1 =>
  lz (A := Int32) ((rdI h1 22 16) - (1 : Int32)) fun v3 =>
  gd (vp_in v3 32) <|
  if (rdI h1 46 (Int32.toNatClampNeg v3)) ≤ 0 then (
    lz (wrI h1 22 16 ((rdI h1 22 16) - (1 : Int32))) fun h2 =>
    gd (vp_in v3 32) <|
    lz (wrI h2 22 7 (rdI h2 44 (Int32.toNatClampNeg v3))) fun h3 =>
    gd (vp_in v3 32) <|
    lz (wrI h3 22 11 (rdI h3 45 (Int32.toNatClampNeg v3))) fun h4 =>
    some (.inr ((), h4))
  ) else (
    gd (vp_in v3 32) <|
    lz (wrI h1 46 (Int32.toNatClampNeg v3) ((rdI h1 46 (Int32.toNatClampNeg v3)) - (1 : Int32))) fun h5 =>
    gd (vp_in v3 32) <|
    lz (wrI h5 22 7 (rdI h5 48 (Int32.toNatClampNeg v3))) fun h6 =>
    gd (vp_in v3 32) <|
    lz (wrI h6 22 11 (rdI h6 47 (Int32.toNatClampNeg v3))) fun h7 =>
    some (.inr ((), h7))
  )
set_option maxRecDepth 20000 in
theorem k_Ma_endCall (h : hH) : hx_kT S0 M_Ma_endCall 7 NT [(.ref 22)] h (f_Ma_endCall h) cvU := by
  have hm := m_Ma_endCall
  show hx_P S0 M_Ma_endCall 7 0 [(0, (.ref 22))] [] NT h (f_Ma_endCall h) (hx_T NT (hx_Rc cvU NT))
  unfold f_Ma_endCall
  refine hp_JZ 13 (fun (p1 : Int32) => [(0, (.ref 22))]) (fun (p1 : Int32) => [(.int p1), (.ref 22)]) (fun (p1 : Int32) => h) ?_ (fun p1 => ?_)
  · refine hp_sv0 ?_
    refine hp_if_le hm (at1 0 rfl) rfl (by exact og_22) (pc' := 5) rfl 1 rfl (tgt := 12) rfl (fun c2 => ?_) (fun c2 => ?_)
    · refine hp_b hm (at1 1 rfl) (L' := [(0, (.ref 22))]) (st' := [(.int (0 : Int32)), (.ref 22)]) rfl (by exact trivial) (pc' := 13) rfl ?_
      exact hp_lf [0] rfl (fun _ e => e)
    · refine hp_b hm (at1 2 rfl) (L' := [(0, (.ref 22))]) (st' := [(.int (1 : Int32)), (.ref 22)]) rfl (by exact trivial) (pc' := 9) rfl ?_
      refine hp_goto hm 0 rfl (tgt := 13) rfl ?_
      exact hp_lf [0] rfl (fun _ e => e)
  · refine hp_cVT (M2 := M_Ma_want) hm (at1 3 rfl) (as := [(.int p1), (.int (4 : Int32))]) (rest := []) (z := 22) rfl (by exact trivial) (pc' := 14) rfl 2 rfl (lw_g (lw_at lw_m5 139 rfl) rfl) y_Ma_want rfl (d2 := 6) ⟨le_b rfl, pd_Ma_want, le_b rfl⟩ (le_b rfl) og_22 rfl (k_Ma_want p1 (4 : Int32) h) (fun _ h1 => ?_)
    refine hp_z hm (at1 4 rfl) (fun (v3 : Int32) => [(1, (.int v3)), (0, (.ref 22))]) (fun (v3 : Int32) => []) rfl (by exact og_22) (pc' := 24) rfl (fun v3 => ?_)
    refine hp_G hm (at1 5 rfl) (L' := [(1, (.int v3)), (0, (.ref 22))]) (st' := [(.int (rdI h1 46 (Int32.toNatClampNeg v3)))]) rfl (fun hP => (by exact ⟨og_22, ⟨og_46, hP⟩⟩)) (pc' := 30) rfl (fun q4 => ?_)
    refine hp_if_le hm at0 rfl (by exact trivial) (pc' := 30) rfl 5 rfl (tgt := 66) rfl (fun c10 => ?_) (fun c10 => ?_)
    · refine hp_w hm (at1 6 rfl) (L' := [(1, (.int v3)), (0, (.ref 22))]) rfl (by exact ⟨og_22, og_22⟩) (pc' := 76) rfl (fun h2 => ?_)
      refine hp_GW hm (at1 7 rfl) (L' := [(1, (.int v3)), (0, (.ref 22))]) rfl (fun hP => (by exact ⟨⟨og_22, ⟨og_44, hP⟩⟩, og_22⟩)) (pc' := 86) rfl (fun q5 h3 => ?_)
      refine hp_GW hm (at1 8 rfl) (L' := [(1, (.int v3)), (0, (.ref 22))]) rfl (fun hP => (by exact ⟨⟨og_22, ⟨og_45, hP⟩⟩, og_22⟩)) (pc' := 96) rfl (fun q6 h4 => ?_)
      exact hp_vr hm 3 rfl rfl (fun _ e => e)
    · refine hp_GW hm (at1 9 rfl) (L' := [(1, (.int v3)), (0, (.ref 22))]) rfl (fun hP => (by exact ⟨⟨og_22, ⟨og_46, hP⟩⟩, ⟨og_46, hP⟩⟩)) (pc' := 43) rfl (fun q7 h5 => ?_)
      refine hp_GW hm (at1 10 rfl) (L' := [(1, (.int v3)), (0, (.ref 22))]) rfl (fun hP => (by exact ⟨⟨og_22, ⟨og_48, hP⟩⟩, og_22⟩)) (pc' := 53) rfl (fun q8 h6 => ?_)
      refine hp_GW hm (at1 11 rfl) (L' := [(1, (.int v3)), (0, (.ref 22))]) rfl (fun hP => (by exact ⟨⟨og_22, ⟨og_47, hP⟩⟩, og_22⟩)) (pc' := 63) rfl (fun q9 h7 => ?_)
      refine hp_goto hm 4 rfl (tgt := 96) rfl ?_
      exact hp_vr hm 3 rfl rfl (fun _ e => e)
/-! HintHouse$Machine.place(LHintHouse$Zone;I)I -/
def M_Ma_place : hM := (4, ⟨"HintHouse$Machine", "place", "(LHintHouse$Zone;I)I"⟩, prog_6_method_17_code, 3, (Option.some Jvm.ClassFile.FieldType.int), [], [(0, [(.aload_n 1, 1, 0, 0, 0, .null), (.getfield 252, 3, 6, 2, 4, .null), (.iload_n 2, 1, 0, 0, 0, .null), (.iaload, 1, 0, 0, 0, .null), (.aload_n 1, 1, 0, 0, 0, .null), (.getfield 255, 3, 6, 3, 4, .null), (.iload_n 2, 1, 0, 0, 0, .null), (.iaload, 1, 0, 0, 0, .null), (.aload_n 0, 1, 0, 0, 0, .null), (.getfield 206, 3, 4, 30, 0, .null), (.aload_n 0, 1, 0, 0, 0, .null), (.getfield 209, 3, 4, 31, 0, .null)])], [(20, .invokestatic 258, 3), (23, .ireturn, 1)])
set_option maxRecDepth 100000 in
theorem m_Ma_place : hx_mok M_Ma_place = true := by decide +kernel
theorem pd_Ma_place : (parseMethodDescriptor M_Ma_place.2.1.desc).map (fun q => q.parameters.length) = some 2 := by decide +kernel
theorem y_Ma_place : hx_okV M_Ma_place := ⟨⟨lw_g (lw_at lw_m6 140 rfl) rfl, lw_g (lw_at lw_m6 139 rfl) rfl, qs77, lw_g (lw_at lw_m1 5 rfl) rfl, rfl, by decide, by decide, by decide⟩, rfl, by decide, plainFor_of_name (by decide)⟩
noncomputable def f_Ma_place (x1 : Nat) (x2 : Int32) (h : hH) : Option Int32 :=
  gd (vp_in x2 (zr x1)) <|
  bP (f_Ma_along (rdI h (rf x1 2) (Int32.toNatClampNeg x2)) (rdI h (rf x1 3) (Int32.toNatClampNeg x2)) (rdI h 22 30) (rdI h 22 31)) fun a2 =>
  some a2
set_option maxRecDepth 20000 in
theorem k_Ma_place (x1 : Nat) (x2 : Int32) (h : hH) (hx1 : isA 6 x1) : hx_kP S0 M_Ma_place 4 NT [(.ref 22), (.ref x1), (.int x2)] h (f_Ma_place x1 x2 h) cvI := by
  have hm := m_Ma_place
  show hx_P S0 M_Ma_place 4 0 [(0, (.ref 22)), (1, (.ref x1)), (2, (.int x2))] [] NT h (f_Ma_place x1 x2 h) (hx_Rp cvI NT h)
  unfold f_Ma_place
  refine hp_G hm (at1 0 rfl) (L' := [(0, (.ref 22)), (1, (.ref x1)), (2, (.int x2))]) (st' := [(.int (rdI h 22 31)), (.int (rdI h 22 30)), (.int (rdI h (rf x1 3) (Int32.toNatClampNeg x2))), (.int (rdI h (rf x1 2) (Int32.toNatClampNeg x2)))]) rfl (fun hP => (by exact ⟨⟨⟨⟨⟨hx1, ⟨(rt_6_2 hx1), (vp_cst (rl_6_2 hx1) hP)⟩⟩, hx1⟩, ⟨(rt_6_3 hx1), (vp_cst (rl_6_3 hx1) hP)⟩⟩, og_22⟩, og_22⟩)) (pc' := 20) rfl (fun q1 => ?_)
  refine hp_cSP (M2 := M_Ma_along) hm at0 (as := [(.int (rdI h (rf x1 2) (Int32.toNatClampNeg x2))), (.int (rdI h (rf x1 3) (Int32.toNatClampNeg x2))), (.int (rdI h 22 30)), (.int (rdI h 22 31))]) (rest := []) rfl (by exact trivial) (pc' := 20) rfl 0 rfl (lw_g (lw_at lw_m6 9 rfl) rfl) y_Ma_along rfl (d2 := 3) ⟨le_b rfl, pd_Ma_along, le_b rfl⟩ (le_b rfl) (k_Ma_along (rdI h (rf x1 2) (Int32.toNatClampNeg x2)) (rdI h (rf x1 3) (Int32.toNatClampNeg x2)) (rdI h 22 30) (rdI h 22 31) h) (fun a2 => ?_)
  exact hp_ir hm at0 rfl (by exact trivial) (pc' := 23) rfl 1 rfl rfl (vp_nar_int _) (fun _ e => e)
/-! HintHouse$Outline.beginOf(I)I -/
def M_Ou_beginOf : hM := (9, ⟨"HintHouse$Outline", "beginOf", "(I)I"⟩, prog_8_method_5_code, 2, (Option.some Jvm.ClassFile.FieldType.int), [], [(0, [(.iload_n 1, 1, 0, 0, 0, .null)]), (8, [(.aload_n 0, 1, 0, 0, 0, .null), (.getfield 22, 3, 9, 4, 4, .null), (.iload_n 1, 1, 0, 0, 0, .null), (.iconst 1, 1, 0, 0, 0, (.int (1 : Int32))), (.isub, 1, 0, 0, 0, .null), (.iaload, 1, 0, 0, 0, .null), (.iconst 1, 1, 0, 0, 0, (.int (1 : Int32))), (.iadd, 1, 0, 0, 0, .null)]), (4, [(.iconst 0, 1, 0, 0, 0, (.int (0 : Int32)))])], [(18, .ireturn, 1), (5, .goto 13, 3), (1, .ifCond .ne 7, 3)])
set_option maxRecDepth 100000 in
theorem m_Ou_beginOf : hx_mok M_Ou_beginOf = true := by decide +kernel
theorem pd_Ou_beginOf : (parseMethodDescriptor M_Ou_beginOf.2.1.desc).map (fun q => q.parameters.length) = some 1 := by decide +kernel
theorem y_Ou_beginOf : hx_okV M_Ou_beginOf := ⟨⟨lw_g (lw_at lw_m6 148 rfl) rfl, lw_g (lw_at lw_m6 146 rfl) rfl, lw_g (lw_at lw_m6 147 rfl) rfl, lw_g (lw_at lw_m1 10 rfl) rfl, rfl, by decide, by decide, by decide⟩, rfl, by decide, plainFor_of_name (by decide)⟩
noncomputable def f_Ou_beginOf (z : Nat) (x1 : Int32) (h : hH) : Option Int32 :=
  if x1 = 0 then (
    some (0 : Int32)
  ) else (
    gd (vp_in (x1 - (1 : Int32)) 20) <|
    some ((rdI h (rf z 4) (Int32.toNatClampNeg (x1 - (1 : Int32)))) + (1 : Int32))
  )
set_option maxRecDepth 20000 in
theorem k_Ou_beginOf (z : Nat) (x1 : Int32) (h : hH) (hz : isA 9 z) : hx_kP S0 M_Ou_beginOf 1 NT [(.ref z), (.int x1)] h (f_Ou_beginOf z x1 h) cvI := by
  have hm := m_Ou_beginOf
  show hx_P S0 M_Ou_beginOf 1 0 [(0, (.ref z)), (1, (.int x1))] [] NT h (f_Ou_beginOf z x1 h) (hx_Rp cvI NT h)
  unfold f_Ou_beginOf
  refine hp_if_ne hm (at1 0 rfl) rfl (by exact trivial) (pc' := 1) rfl 2 rfl (tgt := 8) rfl (fun c2 => ?_) (fun c2 => ?_)
  · refine hp_G hm (at1 1 rfl) (L' := [(0, (.ref z)), (1, (.int x1))]) (st' := [(.int ((rdI h (rf z 4) (Int32.toNatClampNeg (x1 - (1 : Int32)))) + (1 : Int32)))]) rfl (fun hP => (by exact ⟨hz, ⟨(rt_9_4 hz), (vp_cst (rl_9_4 hz) hP)⟩⟩)) (pc' := 18) rfl (fun q1 => ?_)
    exact hp_ir hm at0 rfl (by exact trivial) (pc' := 18) rfl 0 rfl rfl (vp_nar_int _) (fun _ e => e)
  · refine hp_b hm (at1 2 rfl) (L' := [(0, (.ref z)), (1, (.int x1))]) (st' := [(.int (0 : Int32))]) rfl (by exact trivial) (pc' := 5) rfl ?_
    refine hp_goto hm 1 rfl (tgt := 18) rfl ?_
    exact hp_ir hm at0 rfl (by exact trivial) (pc' := 18) rfl 0 rfl rfl (vp_nar_int _) (fun _ e => e)
/-! HintHouse$Machine.fit([I[IIII)V -/
def M_Ma_fit : hM := (4, ⟨"HintHouse$Machine", "fit", "([I[IIII)V"⟩, prog_6_method_47_code, 9, (Option.none : Option Jvm.ClassFile.FieldType), [], [(0, [(.aload_n 0, 1, 0, 0, 0, .null), (.iload_n 2, 1, 0, 0, 0, .null), (.iaload, 1, 0, 0, 0, .null), (.aload_n 0, 1, 0, 0, 0, .null), (.iload_n 3, 1, 0, 0, 0, .null), (.iaload, 1, 0, 0, 0, .null)]), (26, [(.aload_n 0, 1, 0, 0, 0, .null), (.iload_n 2, 1, 0, 0, 0, .null), (.iaload, 1, 0, 0, 0, .null), (.aload_n 0, 1, 0, 0, 0, .null), (.iload 4, 2, 0, 0, 0, .null), (.iaload, 1, 0, 0, 0, .null)]), (55, [(.aload_n 0, 1, 0, 0, 0, .null), (.iload_n 2, 1, 0, 0, 0, .null), (.iaload, 1, 0, 0, 0, .null), (.aload_n 0, 1, 0, 0, 0, .null), (.iload_n 3, 1, 0, 0, 0, .null), (.iaload, 1, 0, 0, 0, .null), (.isub, 1, 0, 0, 0, .null), (.i2l, 1, 0, 0, 0, .null), (.lstore 5, 2, 0, 0, 0, .null)]), (65, [(.aload_n 1, 1, 0, 0, 0, .null), (.iload 4, 2, 0, 0, 0, .null), (.iaload, 1, 0, 0, 0, .null), (.aload_n 1, 1, 0, 0, 0, .null), (.iload_n 3, 1, 0, 0, 0, .null), (.iaload, 1, 0, 0, 0, .null), (.isub, 1, 0, 0, 0, .null), (.i2l, 1, 0, 0, 0, .null), (.lstore 7, 2, 0, 0, 0, .null)]), (76, [(.aload_n 1, 1, 0, 0, 0, .null), (.iload_n 2, 1, 0, 0, 0, .null), (.aload_n 1, 1, 0, 0, 0, .null), (.iload_n 3, 1, 0, 0, 0, .null), (.iaload, 1, 0, 0, 0, .null), (.i2l, 1, 0, 0, 0, .null), (.lload 5, 2, 0, 0, 0, .null), (.lload 7, 2, 0, 0, 0, .null), (.lmul, 1, 0, 0, 0, .null), (.aload_n 0, 1, 0, 0, 0, .null), (.iload 4, 2, 0, 0, 0, .null), (.iaload, 1, 0, 0, 0, .null), (.aload_n 0, 1, 0, 0, 0, .null), (.iload_n 3, 1, 0, 0, 0, .null), (.iaload, 1, 0, 0, 0, .null), (.isub, 1, 0, 0, 0, .null), (.i2l, 1, 0, 0, 0, .null)]), (99, [(.ladd, 1, 0, 0, 0, .null), (.l2i, 1, 0, 0, 0, .null), (.iastore, 1, 0, 0, 0, .null)]), (36, [(.aload_n 1, 1, 0, 0, 0, .null), (.iload_n 2, 1, 0, 0, 0, .null), (.aload_n 0, 1, 0, 0, 0, .null), (.iload_n 2, 1, 0, 0, 0, .null), (.iaload, 1, 0, 0, 0, .null), (.aload_n 1, 1, 0, 0, 0, .null), (.iload 4, 2, 0, 0, 0, .null), (.iaload, 1, 0, 0, 0, .null), (.aload_n 0, 1, 0, 0, 0, .null), (.iload 4, 2, 0, 0, 0, .null), (.iaload, 1, 0, 0, 0, .null), (.isub, 1, 0, 0, 0, .null), (.iadd, 1, 0, 0, 0, .null), (.iastore, 1, 0, 0, 0, .null)]), (9, [(.aload_n 1, 1, 0, 0, 0, .null), (.iload_n 2, 1, 0, 0, 0, .null), (.aload_n 0, 1, 0, 0, 0, .null), (.iload_n 2, 1, 0, 0, 0, .null), (.iaload, 1, 0, 0, 0, .null), (.aload_n 1, 1, 0, 0, 0, .null), (.iload_n 3, 1, 0, 0, 0, .null), (.iaload, 1, 0, 0, 0, .null), (.aload_n 0, 1, 0, 0, 0, .null), (.iload_n 3, 1, 0, 0, 0, .null), (.iaload, 1, 0, 0, 0, .null), (.isub, 1, 0, 0, 0, .null), (.iadd, 1, 0, 0, 0, .null), (.iastore, 1, 0, 0, 0, .null)])], [(96, .invokestatic 154, 3), (102, .return_, 1), (52, .goto 50, 3), (33, .if_icmp .lt 22, 3), (23, .goto 79, 3), (6, .if_icmp .gt 20, 3)])
set_option maxRecDepth 100000 in
theorem m_Ma_fit : hx_mok M_Ma_fit = true := by decide +kernel
theorem pd_Ma_fit : (parseMethodDescriptor M_Ma_fit.2.1.desc).map (fun q => q.parameters.length) = some 5 := by decide +kernel
theorem y_Ma_fit : hx_okS M_Ma_fit := ⟨⟨lw_g (lw_at lw_m6 151 rfl) rfl, lw_g (lw_at lw_m6 150 rfl) rfl, lw_g (lw_at lw_m1 5 rfl) rfl, by decide, by decide⟩, rfl, by decide, plainFor_of_name (by decide), rfl⟩
noncomputable def f_Ma_fit (x1 : Nat) (x2 : Nat) (x3 : Int32) (x4 : Int32) (x5 : Int32) (h : hH) : Option (Unit × hH) :=
  gd (vp_in x3 (ln x1) ∧ vp_in x4 (ln x1)) <|
  if (rdI h x1 (Int32.toNatClampNeg x4)) < (rdI h x1 (Int32.toNatClampNeg x3)) then (
    gd (vp_in x3 (ln x1) ∧ vp_in x5 (ln x1)) <|
    if (rdI h x1 (Int32.toNatClampNeg x3)) < (rdI h x1 (Int32.toNatClampNeg x5)) then (
      gd (vp_in x3 (ln x1) ∧ vp_in x4 (ln x1)) <|
      lz (A := Int64) (Int32.toInt64 ((rdI h x1 (Int32.toNatClampNeg x3)) - (rdI h x1 (Int32.toNatClampNeg x4)))) fun v3 =>
      gd (vp_in x5 (ln x2) ∧ vp_in x4 (ln x2)) <|
      lz (A := Int64) (Int32.toInt64 ((rdI h x2 (Int32.toNatClampNeg x5)) - (rdI h x2 (Int32.toNatClampNeg x4)))) fun v5 =>
      gd (vp_in x4 (ln x2) ∧ vp_in x5 (ln x1) ∧ vp_in x4 (ln x1)) <|
      bP (f_HH_over (v3 * v5) (Int32.toInt64 ((rdI h x1 (Int32.toNatClampNeg x5)) - (rdI h x1 (Int32.toNatClampNeg x4))))) fun a8 =>
      gd (vp_in x3 (ln x2)) <|
      lz (wrI h x2 (Int32.toNatClampNeg x3) (Int64.toInt32 ((Int32.toInt64 (rdI h x2 (Int32.toNatClampNeg x4))) + a8))) fun h1 =>
      some ((), h1)
    ) else (
      gd (vp_in x3 (ln x1) ∧ vp_in x5 (ln x2) ∧ vp_in x5 (ln x1) ∧ vp_in x3 (ln x2)) <|
      lz (wrI h x2 (Int32.toNatClampNeg x3) ((rdI h x1 (Int32.toNatClampNeg x3)) + ((rdI h x2 (Int32.toNatClampNeg x5)) - (rdI h x1 (Int32.toNatClampNeg x5))))) fun h2 =>
      some ((), h2)
    )
  ) else (
    gd (vp_in x3 (ln x1) ∧ vp_in x4 (ln x2) ∧ vp_in x4 (ln x1) ∧ vp_in x3 (ln x2)) <|
    lz (wrI h x2 (Int32.toNatClampNeg x3) ((rdI h x1 (Int32.toNatClampNeg x3)) + ((rdI h x2 (Int32.toNatClampNeg x4)) - (rdI h x1 (Int32.toNatClampNeg x4))))) fun h3 =>
    some ((), h3)
  )
set_option maxRecDepth 20000 in
theorem k_Ma_fit (x1 : Nat) (x2 : Nat) (x3 : Int32) (x4 : Int32) (x5 : Int32) (h : hH) (hx1 : isA 100 x1) (hx2 : isA 100 x2) : hx_kS S0 M_Ma_fit 3 NT [(.ref x1), (.ref x2), (.int x3), (.int x4), (.int x5)] h (f_Ma_fit x1 x2 x3 x4 x5 h) cvU := by
  have hm := m_Ma_fit
  show hx_P S0 M_Ma_fit 3 0 [(0, (.ref x1)), (1, (.ref x2)), (2, (.int x3)), (3, (.int x4)), (4, (.int x5))] [] NT h (f_Ma_fit x1 x2 x3 x4 x5 h) (hx_Rc cvU NT)
  unfold f_Ma_fit
  refine hp_G hm (at1 0 rfl) (L' := [(0, (.ref x1)), (1, (.ref x2)), (2, (.int x3)), (3, (.int x4)), (4, (.int x5))]) (st' := [(.int (rdI h x1 (Int32.toNatClampNeg x4))), (.int (rdI h x1 (Int32.toNatClampNeg x3)))]) rfl (fun hP => (by exact ⟨⟨hx1, hP.1⟩, ⟨hx1, hP.2⟩⟩)) (pc' := 6) rfl (fun q1 => ?_)
  refine hp_ic_gt hm at0 rfl (by exact trivial) (pc' := 6) rfl 5 rfl (tgt := 26) rfl (fun c13 => ?_) (fun c13 => ?_)
  · refine hp_G hm (at1 1 rfl) (L' := [(0, (.ref x1)), (1, (.ref x2)), (2, (.int x3)), (3, (.int x4)), (4, (.int x5))]) (st' := [(.int (rdI h x1 (Int32.toNatClampNeg x5))), (.int (rdI h x1 (Int32.toNatClampNeg x3)))]) rfl (fun hP => (by exact ⟨⟨hx1, hP.1⟩, ⟨hx1, hP.2⟩⟩)) (pc' := 33) rfl (fun q2 => ?_)
    refine hp_ic_lt hm at0 rfl (by exact trivial) (pc' := 33) rfl 3 rfl (tgt := 55) rfl (fun c11 => ?_) (fun c11 => ?_)
    · refine hp_GZ hm (at1 2 rfl) (fun (v3 : Int64) => [(5, (.long v3)), (0, (.ref x1)), (1, (.ref x2)), (2, (.int x3)), (3, (.int x4)), (4, (.int x5))]) (fun (v3 : Int64) => []) rfl (fun hP => (by exact ⟨⟨hx1, hP.1⟩, ⟨hx1, hP.2⟩⟩)) (pc' := 65) rfl (fun q4 v3 => ?_)
      refine hp_GZ hm (at1 3 rfl) (fun (v5 : Int64) => [(7, (.long v5)), (5, (.long v3)), (0, (.ref x1)), (1, (.ref x2)), (2, (.int x3)), (3, (.int x4)), (4, (.int x5))]) (fun (v5 : Int64) => []) rfl (fun hP => (by exact ⟨⟨hx2, hP.1⟩, ⟨hx2, hP.2⟩⟩)) (pc' := 76) rfl (fun q6 v5 => ?_)
      refine hp_G hm (at1 4 rfl) (L' := [(7, (.long v5)), (5, (.long v3)), (0, (.ref x1)), (1, (.ref x2)), (2, (.int x3)), (3, (.int x4)), (4, (.int x5))]) (st' := [(.long (Int32.toInt64 ((rdI h x1 (Int32.toNatClampNeg x5)) - (rdI h x1 (Int32.toNatClampNeg x4))))), (.long (v3 * v5)), (.long (Int32.toInt64 (rdI h x2 (Int32.toNatClampNeg x4)))), (.int x3), (.ref x2)]) rfl (fun hP => (by exact ⟨⟨⟨hx2, hP.1⟩, ⟨hx1, hP.2.1⟩⟩, ⟨hx1, hP.2.2⟩⟩)) (pc' := 96) rfl (fun q7 => ?_)
      refine hp_cNP (M2 := M_HH_over) hm at0 (as := [(.long (v3 * v5)), (.long (Int32.toInt64 ((rdI h x1 (Int32.toNatClampNeg x5)) - (rdI h x1 (Int32.toNatClampNeg x4)))))]) (rest := [(.long (Int32.toInt64 (rdI h x2 (Int32.toNatClampNeg x4)))), (.int x3), (.ref x2)]) rfl (by exact trivial) (pc' := 96) rfl 0 rfl (hmn_4_154) y_HH_over rfl (d2 := 2) ⟨le_b rfl, pd_HH_over, le_b rfl⟩ (le_b rfl) (k_HH_over (v3 * v5) (Int32.toInt64 ((rdI h x1 (Int32.toNatClampNeg x5)) - (rdI h x1 (Int32.toNatClampNeg x4)))) h) (fun a8 => ?_)
      refine hp_GW hm (at1 5 rfl) (L' := [(7, (.long v5)), (5, (.long v3)), (0, (.ref x1)), (1, (.ref x2)), (2, (.int x3)), (3, (.int x4)), (4, (.int x5))]) rfl (fun hP => (by exact ⟨hx2, hP⟩)) (pc' := 102) rfl (fun q9 h1 => ?_)
      exact hp_vr hm 1 rfl rfl (fun _ e => e)
    · refine hp_GW hm (at1 6 rfl) (L' := [(0, (.ref x1)), (1, (.ref x2)), (2, (.int x3)), (3, (.int x4)), (4, (.int x5))]) rfl (fun hP => (by exact ⟨⟨⟨⟨hx1, hP.1⟩, ⟨hx2, hP.2.1⟩⟩, ⟨hx1, hP.2.2.1⟩⟩, ⟨hx2, hP.2.2.2⟩⟩)) (pc' := 52) rfl (fun q10 h2 => ?_)
      refine hp_goto hm 2 rfl (tgt := 102) rfl ?_
      exact hp_vr hm 1 rfl rfl (fun _ e => e)
  · refine hp_GW hm (at1 7 rfl) (L' := [(0, (.ref x1)), (1, (.ref x2)), (2, (.int x3)), (3, (.int x4)), (4, (.int x5))]) rfl (fun hP => (by exact ⟨⟨⟨⟨hx1, hP.1⟩, ⟨hx2, hP.2.1⟩⟩, ⟨hx1, hP.2.2.1⟩⟩, ⟨hx2, hP.2.2.2⟩⟩)) (pc' := 23) rfl (fun q12 h3 => ?_)
    refine hp_goto hm 4 rfl (tgt := 102) rfl ?_
    exact hp_vr hm 1 rfl rfl (fun _ e => e)
/-! HintHouse$Machine.between([I[I[Z)V -/
def M_Ma_between : hM := (4, ⟨"HintHouse$Machine", "between", "([I[I[Z)V"⟩, prog_6_method_46_code, 12, (Option.none : Option Jvm.ClassFile.FieldType), [], [(0, [(.aload_n 0, 1, 0, 0, 0, .null), (.getfield 145, 3, 4, 3, 3, .null)]), (8, [(.iconst 0, 1, 0, 0, 0, (.int (0 : Int32))), (.istore 4, 2, 0, 0, 0, .null)]), (11, [(.iload 4, 2, 0, 0, 0, .null), (.aload_n 0, 1, 0, 0, 0, .null), (.getfield 145, 3, 4, 3, 3, .null), (.getfield 449, 3, 9, 5, 0, .null)]), (23, [(.aload_n 0, 1, 0, 0, 0, .null), (.getfield 145, 3, 4, 3, 3, .null), (.iload 4, 2, 0, 0, 0, .null)]), (32, [(.istore 5, 2, 0, 0, 0, .null), (.aload_n 0, 1, 0, 0, 0, .null), (.getfield 145, 3, 4, 3, 3, .null), (.getfield 457, 3, 9, 4, 4, .null), (.iload 4, 2, 0, 0, 0, .null), (.iaload, 1, 0, 0, 0, .null), (.istore 6, 2, 0, 0, 0, .null)]), (46, [(.iconst 0, 1, 0, 0, 0, (.int (0 : Int32))), (.istore 7, 2, 0, 0, 0, .null), (.iload 5, 2, 0, 0, 0, .null), (.istore 8, 2, 0, 0, 0, .null)]), (53, [(.iload 8, 2, 0, 0, 0, .null), (.iload 6, 2, 0, 0, 0, .null)]), (60, [(.iload 7, 2, 0, 0, 0, .null)]), (72, [(.iconst 1, 1, 0, 0, 0, (.int (1 : Int32)))]), (65, [(.aload_n 3, 1, 0, 0, 0, .null), (.iload 8, 2, 0, 0, 0, .null), (.baload, 1, 101, 0, 0, .null)]), (76, [(.iconst 0, 1, 0, 0, 0, (.int (0 : Int32)))]), (77, [(.istore 7, 2, 0, 0, 0, .null), (.iinc 8 1, 3, 0, 0, 0, (.int (1 : Int32)))]), (85, [(.iload 5, 2, 0, 0, 0, .null), (.istore 8, 2, 0, 0, 0, .null)]), (89, [(.iload 8, 2, 0, 0, 0, .null), (.iload 6, 2, 0, 0, 0, .null)]), (96, [(.iload 7, 2, 0, 0, 0, .null)]), (101, [(.aload_n 3, 1, 0, 0, 0, .null), (.iload 8, 2, 0, 0, 0, .null), (.baload, 1, 101, 0, 0, .null)]), (108, [(.iload 8, 2, 0, 0, 0, .null), (.istore 9, 2, 0, 0, 0, .null)]), (112, [(.aload_n 3, 1, 0, 0, 0, .null), (.iload 9, 2, 0, 0, 0, .null), (.baload, 1, 101, 0, 0, .null)]), (119, [(.iload 9, 2, 0, 0, 0, .null), (.iload 5, 2, 0, 0, 0, .null)]), (131, [(.iload 9, 2, 0, 0, 0, .null), (.iconst 1, 1, 0, 0, 0, (.int (1 : Int32))), (.isub, 1, 0, 0, 0, .null)]), (126, [(.iload 6, 2, 0, 0, 0, .null)]), (135, [(.istore 9, 2, 0, 0, 0, .null)]), (140, [(.iload 8, 2, 0, 0, 0, .null), (.istore 10, 2, 0, 0, 0, .null)]), (144, [(.aload_n 3, 1, 0, 0, 0, .null), (.iload 10, 2, 0, 0, 0, .null), (.baload, 1, 101, 0, 0, .null)]), (151, [(.iload 10, 2, 0, 0, 0, .null), (.iload 6, 2, 0, 0, 0, .null)]), (163, [(.iload 10, 2, 0, 0, 0, .null), (.iconst 1, 1, 0, 0, 0, (.int (1 : Int32))), (.iadd, 1, 0, 0, 0, .null)]), (158, [(.iload 5, 2, 0, 0, 0, .null)]), (167, [(.istore 10, 2, 0, 0, 0, .null)]), (172, [(.aload_n 1, 1, 0, 0, 0, .null), (.iload 10, 2, 0, 0, 0, .null), (.iaload, 1, 0, 0, 0, .null), (.aload_n 1, 1, 0, 0, 0, .null), (.iload 9, 2, 0, 0, 0, .null), (.iaload, 1, 0, 0, 0, .null)]), (187, [(.iconst 0, 1, 0, 0, 0, (.int (0 : Int32)))]), (183, [(.iconst 1, 1, 0, 0, 0, (.int (1 : Int32)))]), (188, [(.istore 11, 2, 0, 0, 0, .null), (.aload_n 1, 1, 0, 0, 0, .null), (.aload_n 2, 1, 0, 0, 0, .null), (.iload 8, 2, 0, 0, 0, .null), (.iload 11, 2, 0, 0, 0, .null)]), (204, [(.iload 9, 2, 0, 0, 0, .null)]), (199, [(.iload 10, 2, 0, 0, 0, .null)]), (206, [(.iload 11, 2, 0, 0, 0, .null)]), (216, [(.iload 10, 2, 0, 0, 0, .null)]), (211, [(.iload 9, 2, 0, 0, 0, .null)]), (221, [(.iinc 8 1, 3, 0, 0, 0, (.int (1 : Int32)))]), (227, [(.iinc 4 1, 3, 0, 0, 0, (.int (1 : Int32)))])], [(29, .invokevirtual 454, 3), (73, .goto 4, 3), (69, .ifCond .eq 7, 3), (62, .ifCond .ne 10, 3), (82, .goto (-29), 3), (57, .if_icmp .gt 28, 3), (98, .ifCond .eq 129, 3), (93, .if_icmp .gt 134, 3), (128, .goto 7, 3), (123, .if_icmp .ne 8, 3), (137, .goto (-25), 3), (116, .ifCond .ne 24, 3), (160, .goto 7, 3), (155, .if_icmp .ne 8, 3), (169, .goto (-25), 3), (148, .ifCond .ne 24, 3), (184, .goto 4, 3), (180, .if_icmp .ge 7, 3), (201, .goto 5, 3), (196, .ifCond .eq 8, 3), (213, .goto 5, 3), (208, .ifCond .eq 8, 3), (218, .invokestatic 460, 3), (105, .ifCond .ne 116, 3), (224, .goto (-135), 3), (230, .goto (-219), 3), (20, .if_icmp .ge 213, 3), (233, .return_, 1), (7, .return_, 1), (4, .ifnonnull 4, 3)])
set_option maxRecDepth 100000 in
theorem m_Ma_between : hx_mok M_Ma_between = true := by decide +kernel
theorem pd_Ma_between : (parseMethodDescriptor M_Ma_between.2.1.desc).map (fun q => q.parameters.length) = some 3 := by decide +kernel
theorem y_Ma_between : hx_okV M_Ma_between := ⟨⟨lw_g (lw_at lw_m6 144 rfl) rfl, lw_g (lw_at lw_m6 143 rfl) rfl, qs78, lw_g (lw_at lw_m1 5 rfl) rfl, rfl, by decide, by decide, by decide⟩, rfl, by decide, plainFor_of_name (by decide)⟩
noncomputable def f_Ma_between (x1 : Nat) (x2 : Nat) (x3 : Nat) (h : hH) : Option (Unit × hH) :=
  if (rdP h 22 3) = 0 then (
    some ((), h)
  ) else (
    bP (A := hH) (
      wh (A := (Int32 × hH)) (B := hH) (fun p1 =>
          gd (isA 9 (rdP p1.2 22 3)) <|
          if (rdI p1.2 (rdP p1.2 22 3) 5) ≤ p1.1 then (
            some (.inr p1.2)
          ) else (
            bP (f_Ou_beginOf (rdP p1.2 22 3) p1.1 p1.2) fun a4 =>
            gd (vp_in p1.1 20) <|
            lz (A := Int32) (rdI p1.2 (rf (rdP p1.2 22 3) 4) (Int32.toNatClampNeg p1.1)) fun v5 =>
            bP (A := Int32) (
              wh (A := (Int32 × Int32)) (B := Int32) (fun p7 =>
                  if v5 < p7.2 then (
                    some (.inr p7.1)
                  ) else (
                    bP (A := Int32) (
                      if p7.1 = 0 then (
                        gd (vp_in p7.2 (ln x3)) <|
                        if (rdI p1.2 x3 (Int32.toNatClampNeg p7.2)) = 0 then (
                          some (0 : Int32)
                        ) else (
                          some (1 : Int32)
                        )
                      ) else (
                        some (1 : Int32)
                      )
                    ) fun p9 =>
                    lz (A := Int32) (p7.2 + (1 : Int32)) fun v13 =>
                    some (.inl (p9, v13))
                  )
              ) ((0 : Int32), a4)
            ) fun p8 =>
            bP (A := hH) (
              wh (A := (Int32 × hH)) (B := hH) (fun p15 =>
                  if (v5 < p15.1 ∨ p8 = 0) then (
                    some (.inr p15.2)
                  ) else (
                    gd (vp_in p15.1 (ln x3)) <|
                    bP (A := hH) (
                      if (rdI p15.2 x3 (Int32.toNatClampNeg p15.1)) = 0 then (
                        bP (A := Int32) (
                          wh (A := Int32) (B := Int32) (fun p24 =>
                              gd (vp_in p24 (ln x3)) <|
                              if (rdI p15.2 x3 (Int32.toNatClampNeg p24)) = 0 then (
                                lz (A := Int32) (if p24 = a4 then v5 else (p24 - (1 : Int32))) fun p27 =>
                                some (.inl p27)
                              ) else (
                                some (.inr p24)
                              )
                          ) p15.1
                        ) fun p25 =>
                        bP (A := Int32) (
                          wh (A := Int32) (B := Int32) (fun p30 =>
                              gd (vp_in p30 (ln x3)) <|
                              if (rdI p15.2 x3 (Int32.toNatClampNeg p30)) = 0 then (
                                lz (A := Int32) (if p30 = v5 then a4 else (p30 + (1 : Int32))) fun p33 =>
                                some (.inl p33)
                              ) else (
                                some (.inr p30)
                              )
                          ) p15.1
                        ) fun p31 =>
                        gd (vp_in p31 (ln x1) ∧ vp_in p25 (ln x1)) <|
                        lz (A := Int32) (if (rdI p15.2 x1 (Int32.toNatClampNeg p25)) ≤ (rdI p15.2 x1 (Int32.toNatClampNeg p31)) then (0 : Int32) else (1 : Int32)) fun p37 =>
                        lz (A := Int32) (if p37 = 0 then p25 else p31) fun p39 =>
                        lz (A := Int32) (if p37 = 0 then p31 else p25) fun p41 =>
                        bS (f_Ma_fit x1 x2 p15.1 p39 p41 p15.2) fun _ h1 =>
                        some h1
                      ) else (
                        some p15.2
                      )
                    ) fun p23 =>
                    lz (A := Int32) (p15.1 + (1 : Int32)) fun v44 =>
                    some (.inl (v44, p23))
                  )
              ) (a4, p1.2)
            ) fun p16 =>
            lz (A := Int32) (p1.1 + (1 : Int32)) fun v45 =>
            some (.inl (v45, p16))
          )
      ) ((0 : Int32), h)
    ) fun p2 =>
    some ((), p2)
  )
set_option maxRecDepth 20000 in
theorem k_Ma_between (x1 : Nat) (x2 : Nat) (x3 : Nat) (h : hH) (hx1 : isA 100 x1) (hx2 : isA 100 x2) (hx3 : isA 101 x3) : hx_kS S0 M_Ma_between 4 NT [(.ref 22), (.ref x1), (.ref x2), (.ref x3)] h (f_Ma_between x1 x2 x3 h) cvU := by
  have hm := m_Ma_between
  show hx_P S0 M_Ma_between 4 0 [(0, (.ref 22)), (1, (.ref x1)), (2, (.ref x2)), (3, (.ref x3))] [] NT h (f_Ma_between x1 x2 x3 h) (hx_Rc cvU NT)
  unfold f_Ma_between
  refine hp_nonnull hm (at1 0 rfl) rfl (by exact og_22) (pc' := 4) rfl 29 rfl (tgt := 8) rfl (fun c47 => ?_) (fun c47 => ?_)
  · refine hp_b hm (at1 1 rfl) (L' := [(4, (.int (0 : Int32))), (0, (.ref 22)), (1, (.ref x1)), (2, (.ref x2)), (3, (.ref x3))]) (st' := []) rfl (by exact trivial) (pc' := 11) rfl ?_
    refine hp_J 233 (fun (p2 : hH) => []) (fun (p2 : hH) => []) (fun (p2 : hH) => p2) ?_ (fun p2 => ?_)
    · refine hp_s [1, 2, 3, 4, 0] rfl (L' := [(0, (.ref 22)), (1, (.ref x1)), (2, (.ref x2)), (3, (.ref x3)), (4, (.int (0 : Int32)))]) ?_
      refine hp_wh (fun (p1 : (Int32 × hH)) => [(0, (.ref 22)), (1, (.ref x1)), (2, (.ref x2)), (3, (.ref x3)), (4, (.int p1.1))]) [] (fun (p1 : (Int32 × hH)) => p1.2) (fun p1 => ?_) ((0 : Int32), h)
      refine hp_G hm (at1 2 rfl) (L' := [(0, (.ref 22)), (1, (.ref x1)), (2, (.ref x2)), (3, (.ref x3)), (4, (.int p1.1))]) (st' := [(.int (rdI p1.2 (rdP p1.2 22 3) 5)), (.int p1.1)]) rfl (fun hP => (by exact ⟨og_22, hP⟩)) (pc' := 20) rfl (fun q3 => ?_)
      refine hp_ic_ge hm at0 rfl (by exact trivial) (pc' := 20) rfl 26 rfl (tgt := 233) rfl (fun c46 => ?_) (fun c46 => ?_)
      · exact hp_lf [] rfl (fun _ e => e)
      · refine hp_cVP (M2 := M_Ou_beginOf) hm (at1 3 rfl) (as := [(.int p1.1)]) (rest := []) (z := (rdP p1.2 22 3)) rfl (by exact og_22) (pc' := 29) rfl 0 rfl (lw_g (lw_at lw_m6 145 rfl) rfl) y_Ou_beginOf rfl (d2 := 1) ⟨le_b rfl, pd_Ou_beginOf, le_b rfl⟩ (le_b rfl) q3 (k_Ou_beginOf (rdP p1.2 22 3) p1.1 p1.2 q3) (fun a4 => ?_)
        refine hp_GZ hm (at1 4 rfl) (fun (v5 : Int32) => [(6, (.int v5)), (5, (.int a4)), (0, (.ref 22)), (1, (.ref x1)), (2, (.ref x2)), (3, (.ref x3)), (4, (.int p1.1))]) (fun (v5 : Int32) => []) rfl (fun hP => (by exact ⟨⟨og_22, q3⟩, ⟨(rt_9_4 q3), (vp_cst (rl_9_4 q3) hP)⟩⟩)) (pc' := 46) rfl (fun q6 v5 => ?_)
        refine hp_b hm (at1 5 rfl) (L' := [(8, (.int a4)), (7, (.int (0 : Int32))), (6, (.int v5)), (5, (.int a4)), (0, (.ref 22)), (1, (.ref x1)), (2, (.ref x2)), (3, (.ref x3)), (4, (.int p1.1))]) (st' := []) rfl (by exact trivial) (pc' := 53) rfl ?_
        refine hp_J 85 (fun (p8 : Int32) => [(0, (.ref 22)), (1, (.ref x1)), (2, (.ref x2)), (3, (.ref x3)), (4, (.int p1.1)), (5, (.int a4)), (6, (.int v5)), (7, (.int p8))]) (fun (p8 : Int32) => []) (fun (p8 : Int32) => p1.2) ?_ (fun p8 => ?_)
        · refine hp_s [4, 5, 6, 7, 8, 3, 2, 1, 0] rfl (L' := [(0, (.ref 22)), (1, (.ref x1)), (2, (.ref x2)), (3, (.ref x3)), (4, (.int p1.1)), (5, (.int a4)), (6, (.int v5)), (7, (.int (0 : Int32))), (8, (.int a4))]) ?_
          refine hp_wh (fun (p7 : (Int32 × Int32)) => [(0, (.ref 22)), (1, (.ref x1)), (2, (.ref x2)), (3, (.ref x3)), (4, (.int p1.1)), (5, (.int a4)), (6, (.int v5)), (7, (.int p7.1)), (8, (.int p7.2))]) [] (fun (p7 : (Int32 × Int32)) => p1.2) (fun p7 => ?_) ((0 : Int32), a4)
          refine hp_ic_gt hm (at1 6 rfl) rfl (by exact trivial) (pc' := 57) rfl 5 rfl (tgt := 85) rfl (fun c14 => ?_) (fun c14 => ?_)
          · exact hp_lf [0, 1, 2, 3, 4, 5, 6, 7] rfl (fun _ e => e)
          · refine hp_J 77 (fun (p9 : Int32) => [(0, (.ref 22)), (1, (.ref x1)), (2, (.ref x2)), (3, (.ref x3)), (4, (.int p1.1)), (5, (.int a4)), (6, (.int v5)), (8, (.int p7.2))]) (fun (p9 : Int32) => [(.int p9)]) (fun (p9 : Int32) => p1.2) ?_ (fun p9 => ?_)
            · refine hp_if_ne hm (at1 7 rfl) rfl (by exact trivial) (pc' := 62) rfl 3 rfl (tgt := 72) rfl (fun c12 => ?_) (fun c12 => ?_)
              · refine hp_b hm (at1 8 rfl) (L' := [(0, (.ref 22)), (1, (.ref x1)), (2, (.ref x2)), (3, (.ref x3)), (4, (.int p1.1)), (5, (.int a4)), (6, (.int v5)), (7, (.int p7.1)), (8, (.int p7.2))]) (st' := [(.int (1 : Int32))]) rfl (by exact trivial) (pc' := 73) rfl ?_
                refine hp_goto hm 1 rfl (tgt := 77) rfl ?_
                exact hp_lf [0, 1, 2, 3, 4, 5, 6, 8] rfl (fun _ e => e)
              · refine hp_G hm (at1 9 rfl) (L' := [(0, (.ref 22)), (1, (.ref x1)), (2, (.ref x2)), (3, (.ref x3)), (4, (.int p1.1)), (5, (.int a4)), (6, (.int v5)), (7, (.int p7.1)), (8, (.int p7.2))]) (st' := [(.int (rdI p1.2 x3 (Int32.toNatClampNeg p7.2)))]) rfl (fun hP => (by exact ⟨hx3, hP⟩)) (pc' := 69) rfl (fun q10 => ?_)
                refine hp_if_eq hm at0 rfl (by exact trivial) (pc' := 69) rfl 2 rfl (tgt := 76) rfl (fun c11 => ?_) (fun c11 => ?_)
                · refine hp_b hm (at1 10 rfl) (L' := [(0, (.ref 22)), (1, (.ref x1)), (2, (.ref x2)), (3, (.ref x3)), (4, (.int p1.1)), (5, (.int a4)), (6, (.int v5)), (7, (.int p7.1)), (8, (.int p7.2))]) (st' := [(.int (0 : Int32))]) rfl (by exact trivial) (pc' := 77) rfl ?_
                  exact hp_lf [0, 1, 2, 3, 4, 5, 6, 8] rfl (fun _ e => e)
                · refine hp_b hm (at1 8 rfl) (L' := [(0, (.ref 22)), (1, (.ref x1)), (2, (.ref x2)), (3, (.ref x3)), (4, (.int p1.1)), (5, (.int a4)), (6, (.int v5)), (7, (.int p7.1)), (8, (.int p7.2))]) (st' := [(.int (1 : Int32))]) rfl (by exact trivial) (pc' := 73) rfl ?_
                  refine hp_goto hm 1 rfl (tgt := 77) rfl ?_
                  exact hp_lf [0, 1, 2, 3, 4, 5, 6, 8] rfl (fun _ e => e)
            · refine hp_z hm (at1 11 rfl) (fun (v13 : Int32) => [(8, (.int v13)), (7, (.int p9)), (0, (.ref 22)), (1, (.ref x1)), (2, (.ref x2)), (3, (.ref x3)), (4, (.int p1.1)), (5, (.int a4)), (6, (.int v5))]) (fun (v13 : Int32) => []) rfl (by exact trivial) (pc' := 82) rfl (fun v13 => ?_)
              refine hp_goto hm 4 rfl (tgt := 53) rfl ?_
              exact hp_lf [2, 3, 4, 5, 6, 7, 8, 1, 0] rfl (fun _ e => e)
        · refine hp_b hm (at1 12 rfl) (L' := [(8, (.int a4)), (0, (.ref 22)), (1, (.ref x1)), (2, (.ref x2)), (3, (.ref x3)), (4, (.int p1.1)), (5, (.int a4)), (6, (.int v5)), (7, (.int p8))]) (st' := []) rfl (by exact trivial) (pc' := 89) rfl ?_
          refine hp_J 227 (fun (p16 : hH) => [(0, (.ref 22)), (1, (.ref x1)), (2, (.ref x2)), (3, (.ref x3)), (4, (.int p1.1))]) (fun (p16 : hH) => []) (fun (p16 : hH) => p16) ?_ (fun p16 => ?_)
          · refine hp_s [1, 2, 3, 4, 5, 6, 7, 8, 0] rfl (L' := [(0, (.ref 22)), (1, (.ref x1)), (2, (.ref x2)), (3, (.ref x3)), (4, (.int p1.1)), (5, (.int a4)), (6, (.int v5)), (7, (.int p8)), (8, (.int a4))]) ?_
            refine hp_wh (fun (p15 : (Int32 × hH)) => [(0, (.ref 22)), (1, (.ref x1)), (2, (.ref x2)), (3, (.ref x3)), (4, (.int p1.1)), (5, (.int a4)), (6, (.int v5)), (7, (.int p8)), (8, (.int p15.1))]) [] (fun (p15 : (Int32 × hH)) => p15.2) (fun p15 => ?_) (a4, p1.2)
            refine hp_cI (L0 := [(0, (.ref 22)), (1, (.ref x1)), (2, (.ref x2)), (3, (.ref x3)), (4, (.int p1.1)), (5, (.int a4)), (6, (.int v5)), (7, (.int p8)), (8, (.int p15.1))]) (s0 := []) 227 101 ?_ (fun c21 => ?_) (fun c21 => ?_)
            · refine hp_or ?_
              refine hp_ic_gt hm (at1 13 rfl) rfl (by exact trivial) (pc' := 93) rfl 7 rfl (tgt := 227) rfl (fun c20 => ?_) (fun c20 => ?_)
              · exact hp_l0 (fun _ e => e)
              · refine hp_dec ?_
                refine hp_if_eq hm (at1 14 rfl) rfl (by exact trivial) (pc' := 98) rfl 6 rfl (tgt := 227) rfl (fun c19 => ?_) (fun c19 => ?_)
                · exact hp_l0 (fun _ e => e)
                · exact hp_l0 (fun _ e => e)
            · exact hp_lf [0, 1, 2, 3, 4] rfl (fun _ e => e)
            · refine hp_G hm (at1 15 rfl) (L' := [(0, (.ref 22)), (1, (.ref x1)), (2, (.ref x2)), (3, (.ref x3)), (4, (.int p1.1)), (5, (.int a4)), (6, (.int v5)), (7, (.int p8)), (8, (.int p15.1))]) (st' := [(.int (rdI p15.2 x3 (Int32.toNatClampNeg p15.1)))]) rfl (fun hP => (by exact ⟨hx3, hP⟩)) (pc' := 105) rfl (fun q22 => ?_)
              refine hp_J 221 (fun (p23 : hH) => [(0, (.ref 22)), (1, (.ref x1)), (2, (.ref x2)), (3, (.ref x3)), (4, (.int p1.1)), (5, (.int a4)), (6, (.int v5)), (7, (.int p8)), (8, (.int p15.1))]) (fun (p23 : hH) => []) (fun (p23 : hH) => p23) ?_ (fun p23 => ?_)
              · refine hp_if_ne hm at0 rfl (by exact trivial) (pc' := 105) rfl 23 rfl (tgt := 221) rfl (fun c43 => ?_) (fun c43 => ?_)
                · exact hp_lf [0, 1, 2, 3, 4, 5, 6, 7, 8] rfl (fun _ e => e)
                · refine hp_b hm (at1 16 rfl) (L' := [(9, (.int p15.1)), (0, (.ref 22)), (1, (.ref x1)), (2, (.ref x2)), (3, (.ref x3)), (4, (.int p1.1)), (5, (.int a4)), (6, (.int v5)), (7, (.int p8)), (8, (.int p15.1))]) (st' := []) rfl (by exact trivial) (pc' := 112) rfl ?_
                  refine hp_J 140 (fun (p25 : Int32) => [(0, (.ref 22)), (1, (.ref x1)), (2, (.ref x2)), (3, (.ref x3)), (4, (.int p1.1)), (5, (.int a4)), (6, (.int v5)), (7, (.int p8)), (8, (.int p15.1)), (9, (.int p25))]) (fun (p25 : Int32) => []) (fun (p25 : Int32) => p15.2) ?_ (fun p25 => ?_)
                  · refine hp_s [1, 2, 3, 4, 5, 6, 7, 8, 9, 0] rfl (L' := [(0, (.ref 22)), (1, (.ref x1)), (2, (.ref x2)), (3, (.ref x3)), (4, (.int p1.1)), (5, (.int a4)), (6, (.int v5)), (7, (.int p8)), (8, (.int p15.1)), (9, (.int p15.1))]) ?_
                    refine hp_wh (fun (p24 : Int32) => [(0, (.ref 22)), (1, (.ref x1)), (2, (.ref x2)), (3, (.ref x3)), (4, (.int p1.1)), (5, (.int a4)), (6, (.int v5)), (7, (.int p8)), (8, (.int p15.1)), (9, (.int p24))]) [] (fun (p24 : Int32) => p15.2) (fun p24 => ?_) p15.1
                    refine hp_G hm (at1 17 rfl) (L' := [(0, (.ref 22)), (1, (.ref x1)), (2, (.ref x2)), (3, (.ref x3)), (4, (.int p1.1)), (5, (.int a4)), (6, (.int v5)), (7, (.int p8)), (8, (.int p15.1)), (9, (.int p24))]) (st' := [(.int (rdI p15.2 x3 (Int32.toNatClampNeg p24)))]) rfl (fun hP => (by exact ⟨hx3, hP⟩)) (pc' := 116) rfl (fun q26 => ?_)
                    refine hp_if_ne hm at0 rfl (by exact trivial) (pc' := 116) rfl 11 rfl (tgt := 140) rfl (fun c29 => ?_) (fun c29 => ?_)
                    · exact hp_lf [0, 1, 2, 3, 4, 5, 6, 7, 8, 9] rfl (fun _ e => e)
                    · refine hp_JZ 135 (fun (p27 : Int32) => [(0, (.ref 22)), (1, (.ref x1)), (2, (.ref x2)), (3, (.ref x3)), (4, (.int p1.1)), (5, (.int a4)), (6, (.int v5)), (7, (.int p8)), (8, (.int p15.1))]) (fun (p27 : Int32) => [(.int p27)]) (fun (p27 : Int32) => p15.2) ?_ (fun p27 => ?_)
                      · refine hp_sv0 ?_
                        refine hp_ic_ne hm (at1 18 rfl) rfl (by exact trivial) (pc' := 123) rfl 9 rfl (tgt := 131) rfl (fun c28 => ?_) (fun c28 => ?_)
                        · refine hp_b hm (at1 19 rfl) (L' := [(0, (.ref 22)), (1, (.ref x1)), (2, (.ref x2)), (3, (.ref x3)), (4, (.int p1.1)), (5, (.int a4)), (6, (.int v5)), (7, (.int p8)), (8, (.int p15.1)), (9, (.int p24))]) (st' := [(.int (p24 - (1 : Int32)))]) rfl (by exact trivial) (pc' := 135) rfl ?_
                          exact hp_lf [0, 1, 2, 3, 4, 5, 6, 7, 8] rfl (fun _ e => e)
                        · refine hp_b hm (at1 20 rfl) (L' := [(0, (.ref 22)), (1, (.ref x1)), (2, (.ref x2)), (3, (.ref x3)), (4, (.int p1.1)), (5, (.int a4)), (6, (.int v5)), (7, (.int p8)), (8, (.int p15.1)), (9, (.int p24))]) (st' := [(.int v5)]) rfl (by exact trivial) (pc' := 128) rfl ?_
                          refine hp_goto hm 8 rfl (tgt := 135) rfl ?_
                          exact hp_lf [0, 1, 2, 3, 4, 5, 6, 7, 8] rfl (fun _ e => e)
                      · refine hp_b hm (at1 21 rfl) (L' := [(9, (.int p27)), (0, (.ref 22)), (1, (.ref x1)), (2, (.ref x2)), (3, (.ref x3)), (4, (.int p1.1)), (5, (.int a4)), (6, (.int v5)), (7, (.int p8)), (8, (.int p15.1))]) (st' := []) rfl (by exact trivial) (pc' := 137) rfl ?_
                        refine hp_goto hm 10 rfl (tgt := 112) rfl ?_
                        exact hp_lf [1, 2, 3, 4, 5, 6, 7, 8, 9, 0] rfl (fun _ e => e)
                  · refine hp_b hm (at1 22 rfl) (L' := [(10, (.int p15.1)), (0, (.ref 22)), (1, (.ref x1)), (2, (.ref x2)), (3, (.ref x3)), (4, (.int p1.1)), (5, (.int a4)), (6, (.int v5)), (7, (.int p8)), (8, (.int p15.1)), (9, (.int p25))]) (st' := []) rfl (by exact trivial) (pc' := 144) rfl ?_
                    refine hp_J 172 (fun (p31 : Int32) => [(0, (.ref 22)), (1, (.ref x1)), (2, (.ref x2)), (3, (.ref x3)), (4, (.int p1.1)), (5, (.int a4)), (6, (.int v5)), (7, (.int p8)), (8, (.int p15.1)), (9, (.int p25)), (10, (.int p31))]) (fun (p31 : Int32) => []) (fun (p31 : Int32) => p15.2) ?_ (fun p31 => ?_)
                    · refine hp_s [1, 2, 3, 4, 5, 6, 7, 8, 9, 10, 0] rfl (L' := [(0, (.ref 22)), (1, (.ref x1)), (2, (.ref x2)), (3, (.ref x3)), (4, (.int p1.1)), (5, (.int a4)), (6, (.int v5)), (7, (.int p8)), (8, (.int p15.1)), (9, (.int p25)), (10, (.int p15.1))]) ?_
                      refine hp_wh (fun (p30 : Int32) => [(0, (.ref 22)), (1, (.ref x1)), (2, (.ref x2)), (3, (.ref x3)), (4, (.int p1.1)), (5, (.int a4)), (6, (.int v5)), (7, (.int p8)), (8, (.int p15.1)), (9, (.int p25)), (10, (.int p30))]) [] (fun (p30 : Int32) => p15.2) (fun p30 => ?_) p15.1
                      refine hp_G hm (at1 23 rfl) (L' := [(0, (.ref 22)), (1, (.ref x1)), (2, (.ref x2)), (3, (.ref x3)), (4, (.int p1.1)), (5, (.int a4)), (6, (.int v5)), (7, (.int p8)), (8, (.int p15.1)), (9, (.int p25)), (10, (.int p30))]) (st' := [(.int (rdI p15.2 x3 (Int32.toNatClampNeg p30)))]) rfl (fun hP => (by exact ⟨hx3, hP⟩)) (pc' := 148) rfl (fun q32 => ?_)
                      refine hp_if_ne hm at0 rfl (by exact trivial) (pc' := 148) rfl 15 rfl (tgt := 172) rfl (fun c35 => ?_) (fun c35 => ?_)
                      · exact hp_lf [0, 1, 2, 3, 4, 5, 6, 7, 8, 9, 10] rfl (fun _ e => e)
                      · refine hp_JZ 167 (fun (p33 : Int32) => [(0, (.ref 22)), (1, (.ref x1)), (2, (.ref x2)), (3, (.ref x3)), (4, (.int p1.1)), (5, (.int a4)), (6, (.int v5)), (7, (.int p8)), (8, (.int p15.1)), (9, (.int p25))]) (fun (p33 : Int32) => [(.int p33)]) (fun (p33 : Int32) => p15.2) ?_ (fun p33 => ?_)
                        · refine hp_sv0 ?_
                          refine hp_ic_ne hm (at1 24 rfl) rfl (by exact trivial) (pc' := 155) rfl 13 rfl (tgt := 163) rfl (fun c34 => ?_) (fun c34 => ?_)
                          · refine hp_b hm (at1 25 rfl) (L' := [(0, (.ref 22)), (1, (.ref x1)), (2, (.ref x2)), (3, (.ref x3)), (4, (.int p1.1)), (5, (.int a4)), (6, (.int v5)), (7, (.int p8)), (8, (.int p15.1)), (9, (.int p25)), (10, (.int p30))]) (st' := [(.int (p30 + (1 : Int32)))]) rfl (by exact trivial) (pc' := 167) rfl ?_
                            exact hp_lf [0, 1, 2, 3, 4, 5, 6, 7, 8, 9] rfl (fun _ e => e)
                          · refine hp_b hm (at1 26 rfl) (L' := [(0, (.ref 22)), (1, (.ref x1)), (2, (.ref x2)), (3, (.ref x3)), (4, (.int p1.1)), (5, (.int a4)), (6, (.int v5)), (7, (.int p8)), (8, (.int p15.1)), (9, (.int p25)), (10, (.int p30))]) (st' := [(.int a4)]) rfl (by exact trivial) (pc' := 160) rfl ?_
                            refine hp_goto hm 12 rfl (tgt := 167) rfl ?_
                            exact hp_lf [0, 1, 2, 3, 4, 5, 6, 7, 8, 9] rfl (fun _ e => e)
                        · refine hp_b hm (at1 27 rfl) (L' := [(10, (.int p33)), (0, (.ref 22)), (1, (.ref x1)), (2, (.ref x2)), (3, (.ref x3)), (4, (.int p1.1)), (5, (.int a4)), (6, (.int v5)), (7, (.int p8)), (8, (.int p15.1)), (9, (.int p25))]) (st' := []) rfl (by exact trivial) (pc' := 169) rfl ?_
                          refine hp_goto hm 14 rfl (tgt := 144) rfl ?_
                          exact hp_lf [1, 2, 3, 4, 5, 6, 7, 8, 9, 10, 0] rfl (fun _ e => e)
                    · refine hp_G hm (at1 28 rfl) (L' := [(0, (.ref 22)), (1, (.ref x1)), (2, (.ref x2)), (3, (.ref x3)), (4, (.int p1.1)), (5, (.int a4)), (6, (.int v5)), (7, (.int p8)), (8, (.int p15.1)), (9, (.int p25)), (10, (.int p31))]) (st' := [(.int (rdI p15.2 x1 (Int32.toNatClampNeg p25))), (.int (rdI p15.2 x1 (Int32.toNatClampNeg p31)))]) rfl (fun hP => (by exact ⟨⟨hx1, hP.1⟩, ⟨hx1, hP.2⟩⟩)) (pc' := 180) rfl (fun q36 => ?_)
                      refine hp_JZ 188 (fun (p37 : Int32) => [(0, (.ref 22)), (1, (.ref x1)), (2, (.ref x2)), (3, (.ref x3)), (4, (.int p1.1)), (5, (.int a4)), (6, (.int v5)), (7, (.int p8)), (8, (.int p15.1)), (9, (.int p25)), (10, (.int p31))]) (fun (p37 : Int32) => [(.int p37)]) (fun (p37 : Int32) => p15.2) ?_ (fun p37 => ?_)
                      · refine hp_sv0 ?_
                        refine hp_ic_ge hm at0 rfl (by exact trivial) (pc' := 180) rfl 17 rfl (tgt := 187) rfl (fun c38 => ?_) (fun c38 => ?_)
                        · refine hp_b hm (at1 29 rfl) (L' := [(0, (.ref 22)), (1, (.ref x1)), (2, (.ref x2)), (3, (.ref x3)), (4, (.int p1.1)), (5, (.int a4)), (6, (.int v5)), (7, (.int p8)), (8, (.int p15.1)), (9, (.int p25)), (10, (.int p31))]) (st' := [(.int (0 : Int32))]) rfl (by exact trivial) (pc' := 188) rfl ?_
                          exact hp_lf [0, 1, 2, 3, 4, 5, 6, 7, 8, 9, 10] rfl (fun _ e => e)
                        · refine hp_b hm (at1 30 rfl) (L' := [(0, (.ref 22)), (1, (.ref x1)), (2, (.ref x2)), (3, (.ref x3)), (4, (.int p1.1)), (5, (.int a4)), (6, (.int v5)), (7, (.int p8)), (8, (.int p15.1)), (9, (.int p25)), (10, (.int p31))]) (st' := [(.int (1 : Int32))]) rfl (by exact trivial) (pc' := 184) rfl ?_
                          refine hp_goto hm 16 rfl (tgt := 188) rfl ?_
                          exact hp_lf [0, 1, 2, 3, 4, 5, 6, 7, 8, 9, 10] rfl (fun _ e => e)
                      · refine hp_b hm (at1 31 rfl) (L' := [(11, (.int p37)), (0, (.ref 22)), (1, (.ref x1)), (2, (.ref x2)), (3, (.ref x3)), (4, (.int p1.1)), (5, (.int a4)), (6, (.int v5)), (7, (.int p8)), (8, (.int p15.1)), (9, (.int p25)), (10, (.int p31))]) (st' := [(.int p37), (.int p15.1), (.ref x2), (.ref x1)]) rfl (by exact trivial) (pc' := 196) rfl ?_
                        refine hp_JZ 206 (fun (p39 : Int32) => [(0, (.ref 22)), (1, (.ref x1)), (2, (.ref x2)), (3, (.ref x3)), (4, (.int p1.1)), (5, (.int a4)), (6, (.int v5)), (7, (.int p8)), (8, (.int p15.1)), (9, (.int p25)), (10, (.int p31)), (11, (.int p37))]) (fun (p39 : Int32) => [(.int p39), (.int p15.1), (.ref x2), (.ref x1)]) (fun (p39 : Int32) => p15.2) ?_ (fun p39 => ?_)
                        · refine hp_sv0 ?_
                          refine hp_if_eq hm at0 rfl (by exact trivial) (pc' := 196) rfl 19 rfl (tgt := 204) rfl (fun c40 => ?_) (fun c40 => ?_)
                          · refine hp_b hm (at1 32 rfl) (L' := [(11, (.int p37)), (0, (.ref 22)), (1, (.ref x1)), (2, (.ref x2)), (3, (.ref x3)), (4, (.int p1.1)), (5, (.int a4)), (6, (.int v5)), (7, (.int p8)), (8, (.int p15.1)), (9, (.int p25)), (10, (.int p31))]) (st' := [(.int p25), (.int p15.1), (.ref x2), (.ref x1)]) rfl (by exact trivial) (pc' := 206) rfl ?_
                            exact hp_lf [1, 2, 3, 4, 5, 6, 7, 8, 9, 10, 11, 0] rfl (fun _ e => e)
                          · refine hp_b hm (at1 33 rfl) (L' := [(11, (.int p37)), (0, (.ref 22)), (1, (.ref x1)), (2, (.ref x2)), (3, (.ref x3)), (4, (.int p1.1)), (5, (.int a4)), (6, (.int v5)), (7, (.int p8)), (8, (.int p15.1)), (9, (.int p25)), (10, (.int p31))]) (st' := [(.int p31), (.int p15.1), (.ref x2), (.ref x1)]) rfl (by exact trivial) (pc' := 201) rfl ?_
                            refine hp_goto hm 18 rfl (tgt := 206) rfl ?_
                            exact hp_lf [1, 2, 3, 4, 5, 6, 7, 8, 9, 10, 11, 0] rfl (fun _ e => e)
                        · refine hp_JZ 218 (fun (p41 : Int32) => [(0, (.ref 22)), (1, (.ref x1)), (2, (.ref x2)), (3, (.ref x3)), (4, (.int p1.1)), (5, (.int a4)), (6, (.int v5)), (7, (.int p8)), (8, (.int p15.1))]) (fun (p41 : Int32) => [(.int p41), (.int p39), (.int p15.1), (.ref x2), (.ref x1)]) (fun (p41 : Int32) => p15.2) ?_ (fun p41 => ?_)
                          · refine hp_sv0 ?_
                            refine hp_if_eq hm (at1 34 rfl) rfl (by exact trivial) (pc' := 208) rfl 21 rfl (tgt := 216) rfl (fun c42 => ?_) (fun c42 => ?_)
                            · refine hp_b hm (at1 35 rfl) (L' := [(0, (.ref 22)), (1, (.ref x1)), (2, (.ref x2)), (3, (.ref x3)), (4, (.int p1.1)), (5, (.int a4)), (6, (.int v5)), (7, (.int p8)), (8, (.int p15.1)), (9, (.int p25)), (10, (.int p31)), (11, (.int p37))]) (st' := [(.int p31), (.int p39), (.int p15.1), (.ref x2), (.ref x1)]) rfl (by exact trivial) (pc' := 218) rfl ?_
                              exact hp_lf [0, 1, 2, 3, 4, 5, 6, 7, 8] rfl (fun _ e => e)
                            · refine hp_b hm (at1 36 rfl) (L' := [(0, (.ref 22)), (1, (.ref x1)), (2, (.ref x2)), (3, (.ref x3)), (4, (.int p1.1)), (5, (.int a4)), (6, (.int v5)), (7, (.int p8)), (8, (.int p15.1)), (9, (.int p25)), (10, (.int p31)), (11, (.int p37))]) (st' := [(.int p25), (.int p39), (.int p15.1), (.ref x2), (.ref x1)]) rfl (by exact trivial) (pc' := 213) rfl ?_
                              refine hp_goto hm 20 rfl (tgt := 218) rfl ?_
                              exact hp_lf [0, 1, 2, 3, 4, 5, 6, 7, 8] rfl (fun _ e => e)
                          · refine hp_cSS (M2 := M_Ma_fit) hm at0 (as := [(.ref x1), (.ref x2), (.int p15.1), (.int p39), (.int p41)]) (rest := []) rfl (by exact trivial) (pc' := 218) rfl 22 rfl (lw_g (lw_at lw_m6 149 rfl) rfl) y_Ma_fit rfl (d2 := 3) ⟨le_b rfl, pd_Ma_fit, le_b rfl⟩ (le_b rfl) (k_Ma_fit x1 x2 p15.1 p39 p41 p15.2 hx1 hx2) (fun _ h1 => ?_)
                            exact hp_lf [0, 1, 2, 3, 4, 5, 6, 7, 8] rfl (fun _ e => e)
              · refine hp_z hm (at1 37 rfl) (fun (v44 : Int32) => [(8, (.int v44)), (0, (.ref 22)), (1, (.ref x1)), (2, (.ref x2)), (3, (.ref x3)), (4, (.int p1.1)), (5, (.int a4)), (6, (.int v5)), (7, (.int p8))]) (fun (v44 : Int32) => []) rfl (by exact trivial) (pc' := 224) rfl (fun v44 => ?_)
                refine hp_goto hm 24 rfl (tgt := 89) rfl ?_
                exact hp_lf [1, 2, 3, 4, 5, 6, 7, 8, 0] rfl (fun _ e => e)
          · refine hp_z hm (at1 38 rfl) (fun (v45 : Int32) => [(4, (.int v45)), (0, (.ref 22)), (1, (.ref x1)), (2, (.ref x2)), (3, (.ref x3))]) (fun (v45 : Int32) => []) rfl (by exact trivial) (pc' := 230) rfl (fun v45 => ?_)
            refine hp_goto hm 25 rfl (tgt := 11) rfl ?_
            exact hp_lf [1, 2, 3, 4, 0] rfl (fun _ e => e)
    · exact hp_vr hm 27 rfl rfl (fun _ e => e)
  · exact hp_vr hm 28 rfl rfl (fun _ e => e)
/-! HintHouse$Machine.indirect(Z)V -/
def M_Ma_indirect : hM := (4, ⟨"HintHouse$Machine", "indirect", "(Z)V"⟩, prog_6_method_48_code, 6, (Option.none : Option Jvm.ClassFile.FieldType), [], [(0, [(.aload_n 0, 1, 0, 0, 0, .null)]), (4, [(.istore_n 2, 1, 0, 0, 0, .null), (.aload_n 0, 1, 0, 0, 0, .null), (.aload_n 0, 1, 0, 0, 0, .null), (.iconst 1, 1, 0, 0, 0, (.int (1 : Int32)))]), (11, [(.aload_n 0, 1, 0, 0, 0, .null)]), (18, [(.istore_n 3, 1, 0, 0, 0, .null), (.aload_n 0, 1, 0, 0, 0, .null), (.aload_n 0, 1, 0, 0, 0, .null), (.iconst 0, 1, 0, 0, 0, (.int (0 : Int32)))]), (25, [(.aload_n 0, 1, 0, 0, 0, .null), (.getfield 67, 3, 4, 36, 4, .null), (.iconst 0, 1, 0, 0, 0, (.int (0 : Int32))), (.iaload, 1, 0, 0, 0, .null)]), (34, [(.istore 4, 2, 0, 0, 0, .null), (.aload_n 0, 1, 0, 0, 0, .null), (.iconst 1, 1, 0, 0, 0, (.int (1 : Int32)))]), (41, [(.astore 5, 2, 0, 0, 0, .null), (.aload_n 0, 1, 0, 0, 0, .null), (.aload 5, 2, 0, 0, 0, .null), (.iload_n 3, 1, 0, 0, 0, .null), (.aload_n 0, 1, 0, 0, 0, .null), (.iconst 0, 1, 0, 0, 0, (.int (0 : Int32)))]), (52, [(.iload 4, 2, 0, 0, 0, .null), (.iload_n 2, 1, 0, 0, 0, .null), (.i2l, 1, 0, 0, 0, .null)]), (59, [(.aload_n 0, 1, 0, 0, 0, .null), (.aload 5, 2, 0, 0, 0, .null), (.iload_n 3, 1, 0, 0, 0, .null), (.iload_n 2, 1, 0, 0, 0, .null), (.i2l, 1, 0, 0, 0, .null), (.aload_n 0, 1, 0, 0, 0, .null), (.aload 5, 2, 0, 0, 0, .null), (.iload_n 3, 1, 0, 0, 0, .null), (.aload_n 0, 1, 0, 0, 0, .null), (.iconst 0, 1, 0, 0, 0, (.int (0 : Int32)))]), (74, [(.iload 4, 2, 0, 0, 0, .null)]), (79, [(.i2l, 1, 0, 0, 0, .null), (.lsub, 1, 0, 0, 0, .null)]), (84, [(.aload_n 0, 1, 0, 0, 0, .null), (.getfield 67, 3, 4, 36, 4, .null), (.iconst 1, 1, 0, 0, 0, (.int (1 : Int32))), (.aload_n 0, 1, 0, 0, 0, .null), (.getfield 67, 3, 4, 36, 4, .null), (.iconst 0, 1, 0, 0, 0, (.int (0 : Int32))), (.iaload, 1, 0, 0, 0, .null), (.iastore, 1, 0, 0, 0, .null)]), (96, [(.aload_n 0, 1, 0, 0, 0, .null), (.getfield 67, 3, 4, 36, 4, .null), (.iconst 2, 1, 0, 0, 0, (.int (2 : Int32))), (.iload_n 3, 1, 0, 0, 0, .null), (.iastore, 1, 0, 0, 0, .null)]), (103, [(.aload_n 0, 1, 0, 0, 0, .null), (.getfield 67, 3, 4, 36, 4, .null), (.iconst 0, 1, 0, 0, 0, (.int (0 : Int32))), (.iload_n 1, 1, 0, 0, 0, .null)]), (116, [(.aload_n 0, 1, 0, 0, 0, .null), (.getfield 67, 3, 4, 36, 4, .null), (.iconst 0, 1, 0, 0, 0, (.int (0 : Int32))), (.iaload, 1, 0, 0, 0, .null)]), (112, [(.iload_n 3, 1, 0, 0, 0, .null)]), (122, [(.iastore, 1, 0, 0, 0, .null)])], [(1, .invokevirtual 337, 3), (8, .invokevirtual 362, 3), (12, .invokevirtual 337, 3), (15, .invokevirtual 366, 3), (22, .invokevirtual 362, 3), (31, .invokevirtual 366, 3), (38, .invokevirtual 362, 3), (49, .invokevirtual 362, 3), (56, .invokevirtual 464, 3), (71, .invokevirtual 362, 3), (76, .invokevirtual 425, 3), (81, .invokevirtual 429, 3), (113, .goto 9, 3), (109, .ifCond .eq 7, 3), (123, .return_, 1)])
set_option maxRecDepth 100000 in
theorem m_Ma_indirect : hx_mok M_Ma_indirect = true := by decide +kernel
theorem pd_Ma_indirect : (parseMethodDescriptor M_Ma_indirect.2.1.desc).map (fun q => q.parameters.length) = some 1 := by decide +kernel
theorem y_Ma_indirect : hx_okV M_Ma_indirect := ⟨⟨lw_g (lw_at lw_m6 155 rfl) rfl, lw_g (lw_at lw_m6 154 rfl) rfl, qs79, lw_g (lw_at lw_m1 5 rfl) rfl, rfl, by decide, by decide, by decide⟩, rfl, by decide, plainFor_of_name (by decide)⟩
noncomputable def f_Ma_indirect (x1 : Int32) (h : hH) : Option (hH ⊕ (Unit × hH)) :=
  bS (f_Ma_pop h) fun a1 h1 =>
  bP (f_Ma_zone (1 : Int32) h1) fun a2 =>
  bS (f_Ma_pop h1) fun a3 h2 =>
  gd (isA 6 a2) <|
  bT (f_Ma_point a2 a3 h2) fun a5 h3 =>
  bP (f_Ma_zone (0 : Int32) h3) fun a6 =>
  gd (isA 6 a6) <|
  bT (f_Ma_point a6 (rdI h3 54 0) h3) fun a8 h4 =>
  bP (f_Ma_zone (1 : Int32) h4) fun a9 =>
  bP (f_Ma_zone (0 : Int32) h4) fun a10 =>
  gd (isA 6 a9 ∧ isA 6 a10) <|
  bS (f_Ma_give a9 a5 a10 a8 (Int32.toInt64 a1) h4) fun _ h5 =>
  bP (f_Ma_zone (0 : Int32) h5) fun a12 =>
  gd (isA 6 a12) <|
  bP (f_Ma_distance a9 a5 a12 a8 h5) fun a14 =>
  bS (f_Ma_move a9 a5 ((Int32.toInt64 a1) - (Int32.toInt64 a14)) h5) fun _ h6 =>
  lz (wrI h6 54 1 (rdI h6 54 0)) fun h7 =>
  lz (wrI h7 54 2 a5) fun h8 =>
  lz (A := Int32) (if x1 = 0 then (rdI h8 54 0) else a5) fun p15 =>
  lz (wrI h8 54 0 p15) fun h9 =>
  some (.inr ((), h9))
set_option maxRecDepth 20000 in
theorem k_Ma_indirect (x1 : Int32) (h : hH) : hx_kT S0 M_Ma_indirect 8 NT [(.ref 22), (.int x1)] h (f_Ma_indirect x1 h) cvU := by
  have hm := m_Ma_indirect
  show hx_P S0 M_Ma_indirect 8 0 [(0, (.ref 22)), (1, (.int x1))] [] NT h (f_Ma_indirect x1 h) (hx_T NT (hx_Rc cvU NT))
  unfold f_Ma_indirect
  refine hp_cVS (M2 := M_Ma_pop) hm (at1 0 rfl) (as := []) (rest := []) (z := 22) rfl (by exact trivial) (pc' := 1) rfl 0 rfl (lw_g (lw_at lw_m5 221 rfl) rfl) y_Ma_pop rfl (d2 := 1) ⟨le_b rfl, pd_Ma_pop, le_b rfl⟩ (le_b rfl) og_22 (k_Ma_pop h) (fun a1 h1 => ?_)
  refine hp_b hm (at1 1 rfl) (L' := [(2, (.int a1)), (0, (.ref 22)), (1, (.int x1))]) (st' := [(.int (1 : Int32)), (.ref 22), (.ref 22)]) rfl (by exact trivial) (pc' := 8) rfl ?_
  refine hp_cVP (M2 := M_Ma_zone) hm at0 (as := [(.int (1 : Int32))]) (rest := [(.ref 22)]) (z := 22) rfl (by exact trivial) (pc' := 8) rfl 1 rfl (lw_g (lw_at lw_m5 225 rfl) rfl) y_Ma_zone rfl (d2 := 1) ⟨le_b rfl, pd_Ma_zone, le_b rfl⟩ (le_b rfl) og_22 (k_Ma_zone (1 : Int32) h1) (fun a2 => ?_)
  refine hp_cVS (M2 := M_Ma_pop) hm (at1 2 rfl) (as := []) (rest := [(.ref a2), (.ref 22)]) (z := 22) rfl (by exact trivial) (pc' := 12) rfl 2 rfl (lw_g (lw_at lw_m5 221 rfl) rfl) y_Ma_pop rfl (d2 := 1) ⟨le_b rfl, pd_Ma_pop, le_b rfl⟩ (le_b rfl) og_22 (k_Ma_pop h1) (fun a3 h2 => ?_)
  refine hp_G0 (fun q4 => ?_)
  refine hp_cVT (M2 := M_Ma_point) hm at0 (as := [(.ref a2), (.int a3)]) (rest := []) (z := 22) rfl (by exact trivial) (pc' := 15) rfl 3 rfl (lw_g (lw_at lw_m5 229 rfl) rfl) y_Ma_point rfl (d2 := 7) ⟨le_b rfl, pd_Ma_point, le_b rfl⟩ (le_b rfl) og_22 rfl (k_Ma_point a2 a3 h2 q4) (fun a5 h3 => ?_)
  refine hp_b hm (at1 3 rfl) (L' := [(3, (.int a5)), (2, (.int a1)), (0, (.ref 22)), (1, (.int x1))]) (st' := [(.int (0 : Int32)), (.ref 22), (.ref 22)]) rfl (by exact trivial) (pc' := 22) rfl ?_
  refine hp_cVP (M2 := M_Ma_zone) hm at0 (as := [(.int (0 : Int32))]) (rest := [(.ref 22)]) (z := 22) rfl (by exact trivial) (pc' := 22) rfl 4 rfl (lw_g (lw_at lw_m5 225 rfl) rfl) y_Ma_zone rfl (d2 := 1) ⟨le_b rfl, pd_Ma_zone, le_b rfl⟩ (le_b rfl) og_22 (k_Ma_zone (0 : Int32) h3) (fun a6 => ?_)
  refine hp_G0 (fun q7 => ?_)
  refine hp_b hm (at1 4 rfl) (L' := [(3, (.int a5)), (2, (.int a1)), (0, (.ref 22)), (1, (.int x1))]) (st' := [(.int (rdI h3 54 0)), (.ref a6), (.ref 22)]) rfl (by exact ⟨og_22, ⟨og_54, (show vp_in (0 : Int32) 3 from vp_lit (by decide))⟩⟩) (pc' := 31) rfl ?_
  refine hp_cVT (M2 := M_Ma_point) hm at0 (as := [(.ref a6), (.int (rdI h3 54 0))]) (rest := []) (z := 22) rfl (by exact trivial) (pc' := 31) rfl 5 rfl (lw_g (lw_at lw_m5 229 rfl) rfl) y_Ma_point rfl (d2 := 7) ⟨le_b rfl, pd_Ma_point, le_b rfl⟩ (le_b rfl) og_22 rfl (k_Ma_point a6 (rdI h3 54 0) h3 q7) (fun a8 h4 => ?_)
  refine hp_b hm (at1 5 rfl) (L' := [(4, (.int a8)), (3, (.int a5)), (2, (.int a1)), (0, (.ref 22)), (1, (.int x1))]) (st' := [(.int (1 : Int32)), (.ref 22)]) rfl (by exact trivial) (pc' := 38) rfl ?_
  refine hp_cVP (M2 := M_Ma_zone) hm at0 (as := [(.int (1 : Int32))]) (rest := []) (z := 22) rfl (by exact trivial) (pc' := 38) rfl 6 rfl (lw_g (lw_at lw_m5 225 rfl) rfl) y_Ma_zone rfl (d2 := 1) ⟨le_b rfl, pd_Ma_zone, le_b rfl⟩ (le_b rfl) og_22 (k_Ma_zone (1 : Int32) h4) (fun a9 => ?_)
  refine hp_b hm (at1 6 rfl) (L' := [(5, (.ref a9)), (4, (.int a8)), (3, (.int a5)), (2, (.int a1)), (0, (.ref 22)), (1, (.int x1))]) (st' := [(.int (0 : Int32)), (.ref 22), (.int a5), (.ref a9), (.ref 22)]) rfl (by exact trivial) (pc' := 49) rfl ?_
  refine hp_cVP (M2 := M_Ma_zone) hm at0 (as := [(.int (0 : Int32))]) (rest := [(.int a5), (.ref a9), (.ref 22)]) (z := 22) rfl (by exact trivial) (pc' := 49) rfl 7 rfl (lw_g (lw_at lw_m5 225 rfl) rfl) y_Ma_zone rfl (d2 := 1) ⟨le_b rfl, pd_Ma_zone, le_b rfl⟩ (le_b rfl) og_22 (k_Ma_zone (0 : Int32) h4) (fun a10 => ?_)
  refine hp_G0 (fun q11 => ?_)
  refine hp_b hm (at1 7 rfl) (L' := [(5, (.ref a9)), (4, (.int a8)), (3, (.int a5)), (2, (.int a1)), (0, (.ref 22)), (1, (.int x1))]) (st' := [(.long (Int32.toInt64 a1)), (.int a8), (.ref a10), (.int a5), (.ref a9), (.ref 22)]) rfl (by exact trivial) (pc' := 56) rfl ?_
  refine hp_cVS (M2 := M_Ma_give) hm at0 (as := [(.ref a9), (.int a5), (.ref a10), (.int a8), (.long (Int32.toInt64 a1))]) (rest := []) (z := 22) rfl (by exact trivial) (pc' := 56) rfl 8 rfl (lw_g (lw_at lw_m5 239 rfl) rfl) y_Ma_give rfl (d2 := 3) ⟨le_b rfl, pd_Ma_give, le_b rfl⟩ (le_b rfl) og_22 (k_Ma_give a9 a5 a10 a8 (Int32.toInt64 a1) h4 q11.1 q11.2) (fun _ h5 => ?_)
  refine hp_cVP (M2 := M_Ma_zone) hm (at1 8 rfl) (as := [(.int (0 : Int32))]) (rest := [(.int a5), (.ref a9), (.ref 22), (.long (Int32.toInt64 a1)), (.int a5), (.ref a9), (.ref 22)]) (z := 22) rfl (by exact trivial) (pc' := 71) rfl 9 rfl (lw_g (lw_at lw_m5 225 rfl) rfl) y_Ma_zone rfl (d2 := 1) ⟨le_b rfl, pd_Ma_zone, le_b rfl⟩ (le_b rfl) og_22 (k_Ma_zone (0 : Int32) h5) (fun a12 => ?_)
  refine hp_G0 (fun q13 => ?_)
  refine hp_b hm (at1 9 rfl) (L' := [(5, (.ref a9)), (4, (.int a8)), (3, (.int a5)), (2, (.int a1)), (0, (.ref 22)), (1, (.int x1))]) (st' := [(.int a8), (.ref a12), (.int a5), (.ref a9), (.ref 22), (.long (Int32.toInt64 a1)), (.int a5), (.ref a9), (.ref 22)]) rfl (by exact trivial) (pc' := 76) rfl ?_
  refine hp_cVP (M2 := M_Ma_distance) hm at0 (as := [(.ref a9), (.int a5), (.ref a12), (.int a8)]) (rest := [(.long (Int32.toInt64 a1)), (.int a5), (.ref a9), (.ref 22)]) (z := 22) rfl (by exact trivial) (pc' := 76) rfl 10 rfl (lw_g (lw_at lw_m6 21 rfl) rfl) y_Ma_distance rfl (d2 := 4) ⟨le_b rfl, pd_Ma_distance, le_b rfl⟩ (le_b rfl) og_22 (k_Ma_distance a9 a5 a12 a8 h5 q11.1 q13) (fun a14 => ?_)
  refine hp_cVS (M2 := M_Ma_move) hm (at1 10 rfl) (as := [(.ref a9), (.int a5), (.long ((Int32.toInt64 a1) - (Int32.toInt64 a14)))]) (rest := []) (z := 22) rfl (by exact trivial) (pc' := 81) rfl 11 rfl (lw_g (lw_at lw_m6 25 rfl) rfl) y_Ma_move rfl (d2 := 3) ⟨le_b rfl, pd_Ma_move, le_b rfl⟩ (le_b rfl) og_22 (k_Ma_move a9 a5 ((Int32.toInt64 a1) - (Int32.toInt64 a14)) h5 q11.1) (fun _ h6 => ?_)
  refine hp_w hm (at1 11 rfl) (L' := [(5, (.ref a9)), (4, (.int a8)), (3, (.int a5)), (2, (.int a1)), (0, (.ref 22)), (1, (.int x1))]) rfl (by exact ⟨⟨⟨og_22, og_22⟩, ⟨og_54, (show vp_in (0 : Int32) 3 from vp_lit (by decide))⟩⟩, ⟨og_54, (show vp_in (1 : Int32) 3 from vp_lit (by decide))⟩⟩) (pc' := 96) rfl (fun h7 => ?_)
  refine hp_w hm (at1 12 rfl) (L' := [(5, (.ref a9)), (4, (.int a8)), (3, (.int a5)), (2, (.int a1)), (0, (.ref 22)), (1, (.int x1))]) rfl (by exact ⟨og_22, ⟨og_54, (show vp_in (2 : Int32) 3 from vp_lit (by decide))⟩⟩) (pc' := 103) rfl (fun h8 => ?_)
  refine hp_JZ 122 (fun (p15 : Int32) => []) (fun (p15 : Int32) => [(.int p15), (.int (0 : Int32)), (.ref 54)]) (fun (p15 : Int32) => h8) ?_ (fun p15 => ?_)
  · refine hp_sv0 ?_
    refine hp_if_eq hm (at1 13 rfl) rfl (by exact og_22) (pc' := 109) rfl 13 rfl (tgt := 116) rfl (fun c16 => ?_) (fun c16 => ?_)
    · refine hp_b hm (at1 14 rfl) (L' := [(5, (.ref a9)), (4, (.int a8)), (3, (.int a5)), (2, (.int a1)), (0, (.ref 22)), (1, (.int x1))]) (st' := [(.int (rdI h8 54 0)), (.int (0 : Int32)), (.ref 54)]) rfl (by exact ⟨og_22, ⟨og_54, (show vp_in (0 : Int32) 3 from vp_lit (by decide))⟩⟩) (pc' := 122) rfl ?_
      exact hp_lf [] rfl (fun _ e => e)
    · refine hp_b hm (at1 15 rfl) (L' := [(5, (.ref a9)), (4, (.int a8)), (3, (.int a5)), (2, (.int a1)), (0, (.ref 22)), (1, (.int x1))]) (st' := [(.int a5), (.int (0 : Int32)), (.ref 54)]) rfl (by exact trivial) (pc' := 113) rfl ?_
      refine hp_goto hm 12 rfl (tgt := 122) rfl ?_
      exact hp_lf [] rfl (fun _ e => e)
  · refine hp_w hm (at1 16 rfl) (L' := []) rfl (by exact ⟨og_54, (show vp_in (0 : Int32) 3 from vp_lit (by decide))⟩) (pc' := 123) rfl (fun h9 => ?_)
    exact hp_vr hm 14 rfl rfl (fun _ e => e)
/-! HintHouse$Machine.absolute(Z)V -/
def M_Ma_absolute : hM := (4, ⟨"HintHouse$Machine", "absolute", "(Z)V"⟩, prog_6_method_50_code, 9, (Option.none : Option Jvm.ClassFile.FieldType), [], [(0, [(.aload_n 0, 1, 0, 0, 0, .null)]), (4, [(.istore_n 2, 1, 0, 0, 0, .null), (.aload_n 0, 1, 0, 0, 0, .null), (.aload_n 0, 1, 0, 0, 0, .null), (.iconst 0, 1, 0, 0, 0, (.int (0 : Int32)))]), (11, [(.aload_n 0, 1, 0, 0, 0, .null)]), (18, [(.istore_n 3, 1, 0, 0, 0, .null), (.aload_n 0, 1, 0, 0, 0, .null), (.iload_n 2, 1, 0, 0, 0, .null), (.i2l, 1, 0, 0, 0, .null), (.lconst 0, 1, 0, 0, 0, (.long (0 : Int64))), (.aload_n 0, 1, 0, 0, 0, .null), (.getfield 12, 3, 4, 1, 4, .null), (.getfield 106, 3, 5, 1, 0, .null), (.iconst 1, 1, 0, 0, 0, (.int (1 : Int32))), (.isub, 1, 0, 0, 0, .null), (.i2l, 1, 0, 0, 0, .null)]), (36, [(.bipush 6, 2, 0, 0, 0, (.int (6 : Int32)))]), (41, [(.aload_n 0, 1, 0, 0, 0, .null), (.iconst 0, 1, 0, 0, 0, (.int (0 : Int32)))]), (46, [(.astore 4, 2, 0, 0, 0, .null), (.aload_n 0, 1, 0, 0, 0, .null), (.getfield 12, 3, 4, 1, 4, .null), (.getfield 107, 3, 5, 0, 4, .null), (.iload_n 2, 1, 0, 0, 0, .null), (.iaload, 1, 0, 0, 0, .null), (.i2l, 1, 0, 0, 0, .null), (.lstore 5, 2, 0, 0, 0, .null)]), (60, [(.aload 4, 2, 0, 0, 0, .null), (.aload_n 0, 1, 0, 0, 0, .null), (.getfield 12, 3, 4, 1, 4, .null), (.getfield 126, 3, 5, 4, 4, .null)]), (72, [(.aload 4, 2, 0, 0, 0, .null), (.iload_n 3, 1, 0, 0, 0, .null), (.lload 5, 2, 0, 0, 0, .null), (.aload_n 0, 1, 0, 0, 0, .null), (.getfield 200, 3, 4, 28, 0, .null), (.i2l, 1, 0, 0, 0, .null), (.lmul, 1, 0, 0, 0, .null), (.ldc2_w 250, 3, 0, 0, 0, (.long (16384 : Int64)))]), (89, [(.l2i, 1, 0, 0, 0, .null), (.lload 5, 2, 0, 0, 0, .null), (.aload_n 0, 1, 0, 0, 0, .null), (.getfield 203, 3, 4, 29, 0, .null), (.i2l, 1, 0, 0, 0, .null), (.lmul, 1, 0, 0, 0, .null), (.ldc2_w 250, 3, 0, 0, 0, (.long (16384 : Int64)))]), (104, [(.l2i, 1, 0, 0, 0, .null)]), (108, [(.aload_n 0, 1, 0, 0, 0, .null), (.aload 4, 2, 0, 0, 0, .null), (.iload_n 3, 1, 0, 0, 0, .null)]), (115, [(.i2l, 1, 0, 0, 0, .null), (.lstore 7, 2, 0, 0, 0, .null)]), (118, [(.iload_n 1, 1, 0, 0, 0, .null)]), (122, [(.lload 5, 2, 0, 0, 0, .null), (.lload 7, 2, 0, 0, 0, .null), (.lsub, 1, 0, 0, 0, .null)]), (130, [(.aload_n 0, 1, 0, 0, 0, .null), (.getfield 12, 3, 4, 1, 4, .null), (.getfield 134, 3, 5, 5, 4, .null), (.getfield 401, 3, 7, 0, 0, .null), (.i2l, 1, 0, 0, 0, .null), (.lcmp, 1, 0, 0, 0, .null)]), (150, [(.lload 5, 2, 0, 0, 0, .null)]), (145, [(.lload 7, 2, 0, 0, 0, .null)]), (152, [(.lstore 5, 2, 0, 0, 0, .null), (.aload_n 0, 1, 0, 0, 0, .null), (.lload 5, 2, 0, 0, 0, .null)]), (160, [(.lstore 5, 2, 0, 0, 0, .null)]), (162, [(.aload_n 0, 1, 0, 0, 0, .null), (.aload 4, 2, 0, 0, 0, .null), (.iload_n 3, 1, 0, 0, 0, .null), (.lload 5, 2, 0, 0, 0, .null), (.lload 7, 2, 0, 0, 0, .null), (.lsub, 1, 0, 0, 0, .null)]), (174, [(.aload_n 0, 1, 0, 0, 0, .null), (.getfield 67, 3, 4, 36, 4, .null), (.iconst 0, 1, 0, 0, 0, (.int (0 : Int32))), (.iload_n 3, 1, 0, 0, 0, .null), (.iastore, 1, 0, 0, 0, .null)]), (181, [(.aload_n 0, 1, 0, 0, 0, .null), (.getfield 67, 3, 4, 36, 4, .null), (.iconst 1, 1, 0, 0, 0, (.int (1 : Int32))), (.iload_n 3, 1, 0, 0, 0, .null), (.iastore, 1, 0, 0, 0, .null)])], [(1, .invokevirtual 337, 3), (8, .invokevirtual 362, 3), (12, .invokevirtual 337, 3), (15, .invokevirtual 366, 3), (33, .invokestatic 246, 3), (38, .invokevirtual 187, 3), (43, .invokevirtual 362, 3), (86, .invokestatic 154, 3), (101, .invokestatic 154, 3), (105, .invokevirtual 468, 3), (69, .if_acmp .ne 39, 3), (112, .invokevirtual 433, 3), (127, .invokestatic 268, 3), (147, .goto 5, 3), (142, .ifCond .le 8, 3), (157, .invokevirtual 301, 3), (119, .ifCond .eq 43, 3), (171, .invokevirtual 429, 3), (188, .return_, 1)])
set_option maxRecDepth 100000 in
theorem m_Ma_absolute : hx_mok M_Ma_absolute = true := by decide +kernel
theorem pd_Ma_absolute : (parseMethodDescriptor M_Ma_absolute.2.1.desc).map (fun q => q.parameters.length) = some 1 := by decide +kernel
theorem y_Ma_absolute : hx_okV M_Ma_absolute := ⟨⟨lw_g (lw_at lw_m6 159 rfl) rfl, lw_g (lw_at lw_m6 158 rfl) rfl, qs80, lw_g (lw_at lw_m1 5 rfl) rfl, rfl, by decide, by decide, by decide⟩, rfl, by decide, plainFor_of_name (by decide)⟩
noncomputable def f_Ma_absolute (x1 : Int32) (h : hH) : Option (hH ⊕ (Unit × hH)) :=
  bS (f_Ma_pop h) fun a1 h1 =>
  bP (f_Ma_zone (0 : Int32) h1) fun a2 =>
  bS (f_Ma_pop h1) fun a3 h2 =>
  gd (isA 6 a2) <|
  bT (f_Ma_point a2 a3 h2) fun a5 h3 =>
  bP (f_HH_within (Int32.toInt64 a1) (0 : Int64) (Int32.toInt64 ((rdI h3 23 1) - (1 : Int32)))) fun a6 =>
  bT (f_Ma_want a6 (6 : Int32) h3) fun _ h4 =>
  bP (f_Ma_zone (0 : Int32) h4) fun a7 =>
  gd (vp_in a1 256) <|
  lz (A := Int64) (Int32.toInt64 (rdI h4 24 (Int32.toNatClampNeg a1))) fun v8 =>
  gd (isA 6 a7) <|
  bJT (P := hH) (
    if a7 = 26 then (
      bP (f_HH_over (v8 * (Int32.toInt64 (rdI h4 22 28))) (16384 : Int64)) fun a12 =>
      bP (f_HH_over (v8 * (Int32.toInt64 (rdI h4 22 29))) (16384 : Int64)) fun a13 =>
      bS (f_Zo_place a7 a5 (Int64.toInt32 a12) (Int64.toInt32 a13) h4) fun _ h5 =>
      some (.inr h5)
    ) else (
      some (.inr h4)
    )
  ) fun p11 =>
  bP (f_Ma_place a7 a5 p11) fun a15 =>
  lz (A := Int64) (Int32.toInt64 a15) fun v16 =>
  bJT (P := Int64) (
    if x1 = 0 then (
      some (.inr v8)
    ) else (
      bP (f_JM_abs (v8 - v16)) fun a18 =>
      lz (A := Int64) (if a18 ≤ (Int32.toInt64 (rdI p11 33 0)) then v8 else v16) fun p19 =>
      bP (f_Ma_rounded 2 p19 p11) fun a21 =>
      some (.inr a21)
    )
  ) fun p17 =>
  bS (f_Ma_move a7 a5 (p17 - v16) p11) fun _ h6 =>
  lz (wrI h6 54 0 a5) fun h7 =>
  lz (wrI h7 54 1 a5) fun h8 =>
  some (.inr ((), h8))
set_option maxRecDepth 20000 in
theorem k_Ma_absolute (x1 : Int32) (h : hH) : hx_kT S0 M_Ma_absolute 8 NT [(.ref 22), (.int x1)] h (f_Ma_absolute x1 h) cvU := by
  have hm := m_Ma_absolute
  show hx_P S0 M_Ma_absolute 8 0 [(0, (.ref 22)), (1, (.int x1))] [] NT h (f_Ma_absolute x1 h) (hx_T NT (hx_Rc cvU NT))
  unfold f_Ma_absolute
  refine hp_cVS (M2 := M_Ma_pop) hm (at1 0 rfl) (as := []) (rest := []) (z := 22) rfl (by exact trivial) (pc' := 1) rfl 0 rfl (lw_g (lw_at lw_m5 221 rfl) rfl) y_Ma_pop rfl (d2 := 1) ⟨le_b rfl, pd_Ma_pop, le_b rfl⟩ (le_b rfl) og_22 (k_Ma_pop h) (fun a1 h1 => ?_)
  refine hp_b hm (at1 1 rfl) (L' := [(2, (.int a1)), (0, (.ref 22)), (1, (.int x1))]) (st' := [(.int (0 : Int32)), (.ref 22), (.ref 22)]) rfl (by exact trivial) (pc' := 8) rfl ?_
  refine hp_cVP (M2 := M_Ma_zone) hm at0 (as := [(.int (0 : Int32))]) (rest := [(.ref 22)]) (z := 22) rfl (by exact trivial) (pc' := 8) rfl 1 rfl (lw_g (lw_at lw_m5 225 rfl) rfl) y_Ma_zone rfl (d2 := 1) ⟨le_b rfl, pd_Ma_zone, le_b rfl⟩ (le_b rfl) og_22 (k_Ma_zone (0 : Int32) h1) (fun a2 => ?_)
  refine hp_cVS (M2 := M_Ma_pop) hm (at1 2 rfl) (as := []) (rest := [(.ref a2), (.ref 22)]) (z := 22) rfl (by exact trivial) (pc' := 12) rfl 2 rfl (lw_g (lw_at lw_m5 221 rfl) rfl) y_Ma_pop rfl (d2 := 1) ⟨le_b rfl, pd_Ma_pop, le_b rfl⟩ (le_b rfl) og_22 (k_Ma_pop h1) (fun a3 h2 => ?_)
  refine hp_G0 (fun q4 => ?_)
  refine hp_cVT (M2 := M_Ma_point) hm at0 (as := [(.ref a2), (.int a3)]) (rest := []) (z := 22) rfl (by exact trivial) (pc' := 15) rfl 3 rfl (lw_g (lw_at lw_m5 229 rfl) rfl) y_Ma_point rfl (d2 := 7) ⟨le_b rfl, pd_Ma_point, le_b rfl⟩ (le_b rfl) og_22 rfl (k_Ma_point a2 a3 h2 q4) (fun a5 h3 => ?_)
  refine hp_b hm (at1 3 rfl) (L' := [(3, (.int a5)), (2, (.int a1)), (0, (.ref 22)), (1, (.int x1))]) (st' := [(.long (Int32.toInt64 ((rdI h3 23 1) - (1 : Int32)))), (.long (0 : Int64)), (.long (Int32.toInt64 a1)), (.ref 22)]) rfl (by exact ⟨og_22, og_23⟩) (pc' := 33) rfl ?_
  refine hp_cNP (M2 := M_HH_within) hm at0 (as := [(.long (Int32.toInt64 a1)), (.long (0 : Int64)), (.long (Int32.toInt64 ((rdI h3 23 1) - (1 : Int32))))]) (rest := [(.ref 22)]) rfl (by exact trivial) (pc' := 33) rfl 4 rfl (hmn_4_246) y_HH_within rfl (d2 := 1) ⟨le_b rfl, pd_HH_within, le_b rfl⟩ (le_b rfl) (k_HH_within (Int32.toInt64 a1) (0 : Int64) (Int32.toInt64 ((rdI h3 23 1) - (1 : Int32))) h3) (fun a6 => ?_)
  refine hp_cVT (M2 := M_Ma_want) hm (at1 4 rfl) (as := [(.int a6), (.int (6 : Int32))]) (rest := []) (z := 22) rfl (by exact trivial) (pc' := 38) rfl 5 rfl (lw_g (lw_at lw_m5 139 rfl) rfl) y_Ma_want rfl (d2 := 6) ⟨le_b rfl, pd_Ma_want, le_b rfl⟩ (le_b rfl) og_22 rfl (k_Ma_want a6 (6 : Int32) h3) (fun _ h4 => ?_)
  refine hp_cVP (M2 := M_Ma_zone) hm (at1 5 rfl) (as := [(.int (0 : Int32))]) (rest := []) (z := 22) rfl (by exact trivial) (pc' := 43) rfl 6 rfl (lw_g (lw_at lw_m5 225 rfl) rfl) y_Ma_zone rfl (d2 := 1) ⟨le_b rfl, pd_Ma_zone, le_b rfl⟩ (le_b rfl) og_22 (k_Ma_zone (0 : Int32) h4) (fun a7 => ?_)
  refine hp_GZ hm (at1 6 rfl) (fun (v8 : Int64) => [(5, (.long v8)), (4, (.ref a7)), (3, (.int a5)), (2, (.int a1)), (0, (.ref 22)), (1, (.int x1))]) (fun (v8 : Int64) => []) rfl (fun hP => (by exact ⟨⟨og_22, og_23⟩, ⟨og_24, hP⟩⟩)) (pc' := 60) rfl (fun q9 v8 => ?_)
  refine hp_G hm (at1 7 rfl) (L' := [(5, (.long v8)), (4, (.ref a7)), (3, (.int a5)), (2, (.int a1)), (0, (.ref 22)), (1, (.int x1))]) (st' := [(.ref 26), (.ref a7)]) rfl (fun hP => (by exact ⟨og_22, og_23⟩)) (pc' := 69) rfl (fun q10 => ?_)
  refine hp_JT 108 (fun (p11 : hH) => [(0, (.ref 22)), (1, (.int x1)), (3, (.int a5)), (4, (.ref a7)), (5, (.long v8))]) (fun (p11 : hH) => []) (fun (p11 : hH) => p11) ?_ (fun p11 => ?_)
  · refine hp_ane hm at0 rfl (by exact trivial) (pc' := 69) rfl 10 rfl (tgt := 108) rfl (q10).2 (og_26).2 (fun c14 => ?_) (fun c14 => ?_)
    · exact hp_lf [4, 5, 2, 1, 0] rfl (fun _ e => e)
    · refine hp_cNP (M2 := M_HH_over) hm (at1 8 rfl) (as := [(.long (v8 * (Int32.toInt64 (rdI h4 22 28)))), (.long (16384 : Int64))]) (rest := [(.int a5), (.ref a7)]) rfl (by exact og_22) (pc' := 86) rfl 7 rfl (hmn_4_154) y_HH_over rfl (d2 := 2) ⟨le_b rfl, pd_HH_over, le_b rfl⟩ (le_b rfl) (k_HH_over (v8 * (Int32.toInt64 (rdI h4 22 28))) (16384 : Int64) h4) (fun a12 => ?_)
      refine hp_cNP (M2 := M_HH_over) hm (at1 9 rfl) (as := [(.long (v8 * (Int32.toInt64 (rdI h4 22 29)))), (.long (16384 : Int64))]) (rest := [(.int (Int64.toInt32 a12)), (.int a5), (.ref a7)]) rfl (by exact og_22) (pc' := 101) rfl 8 rfl (hmn_4_154) y_HH_over rfl (d2 := 2) ⟨le_b rfl, pd_HH_over, le_b rfl⟩ (le_b rfl) (k_HH_over (v8 * (Int32.toInt64 (rdI h4 22 29))) (16384 : Int64) h4) (fun a13 => ?_)
      refine hp_cVS (M2 := M_Zo_place) hm (at1 10 rfl) (as := [(.int a5), (.int (Int64.toInt32 a12)), (.int (Int64.toInt32 a13))]) (rest := []) (z := a7) rfl (by exact trivial) (pc' := 105) rfl 9 rfl (lw_g (lw_at lw_m6 4 rfl) rfl) y_Zo_place rfl (d2 := 1) ⟨le_b rfl, pd_Zo_place, le_b rfl⟩ (le_b rfl) q10 (k_Zo_place a7 a5 (Int64.toInt32 a12) (Int64.toInt32 a13) h4 q10) (fun _ h5 => ?_)
      exact hp_lf [4, 5, 2, 1, 0] rfl (fun _ e => e)
  · refine hp_cVP (M2 := M_Ma_place) hm (at1 11 rfl) (as := [(.ref a7), (.int a5)]) (rest := []) (z := 22) rfl (by exact trivial) (pc' := 112) rfl 11 rfl (lw_g (lw_at lw_m6 137 rfl) rfl) y_Ma_place rfl (d2 := 4) ⟨le_b rfl, pd_Ma_place, le_b rfl⟩ (le_b rfl) og_22 (k_Ma_place a7 a5 p11 q10) (fun a15 => ?_)
    refine hp_z hm (at1 12 rfl) (fun (v16 : Int64) => [(7, (.long v16)), (0, (.ref 22)), (1, (.int x1)), (3, (.int a5)), (4, (.ref a7)), (5, (.long v8))]) (fun (v16 : Int64) => []) rfl (by exact trivial) (pc' := 118) rfl (fun v16 => ?_)
    refine hp_JT 162 (fun (p17 : Int64) => [(0, (.ref 22)), (3, (.int a5)), (4, (.ref a7)), (5, (.long p17)), (7, (.long v16))]) (fun (p17 : Int64) => []) (fun (p17 : Int64) => p11) ?_ (fun p17 => ?_)
    · refine hp_if_eq hm (at1 13 rfl) rfl (by exact trivial) (pc' := 119) rfl 16 rfl (tgt := 162) rfl (fun c22 => ?_) (fun c22 => ?_)
      · exact hp_lf [1, 3, 4, 5, 0] rfl (fun _ e => e)
      · refine hp_cSP (M2 := M_JM_abs) hm (at1 14 rfl) (as := [(.long (v8 - v16))]) (rest := []) rfl (by exact trivial) (pc' := 127) rfl 12 rfl (lw_g (lw_at lw_m5 238 rfl) rfl) y_JM_abs rfl (d2 := 1) ⟨le_b rfl, pd_JM_abs, le_b rfl⟩ (le_b rfl) (k_JM_abs (v8 - v16) p11) (fun a18 => ?_)
        refine hp_JZ 152 (fun (p19 : Int64) => [(0, (.ref 22)), (3, (.int a5)), (4, (.ref a7)), (7, (.long v16))]) (fun (p19 : Int64) => [(.long p19)]) (fun (p19 : Int64) => p11) ?_ (fun p19 => ?_)
        · refine hp_sv0 ?_
          refine hp_lc_le hm (at1 15 rfl) rfl (by exact ⟨⟨og_22, og_23⟩, og_33⟩) (pc' := 142) rfl 14 rfl (tgt := 150) rfl (fun c20 => ?_) (fun c20 => ?_)
          · refine hp_b hm (at1 16 rfl) (L' := [(7, (.long v16)), (0, (.ref 22)), (1, (.int x1)), (3, (.int a5)), (4, (.ref a7)), (5, (.long v8))]) (st' := [(.long v8)]) rfl (by exact trivial) (pc' := 152) rfl ?_
            exact hp_lf [1, 3, 4, 0] rfl (fun _ e => e)
          · refine hp_b hm (at1 17 rfl) (L' := [(7, (.long v16)), (0, (.ref 22)), (1, (.int x1)), (3, (.int a5)), (4, (.ref a7)), (5, (.long v8))]) (st' := [(.long v16)]) rfl (by exact trivial) (pc' := 147) rfl ?_
            refine hp_goto hm 13 rfl (tgt := 152) rfl ?_
            exact hp_lf [1, 3, 4, 0] rfl (fun _ e => e)
        · refine hp_b hm (at1 18 rfl) (L' := [(5, (.long p19)), (0, (.ref 22)), (3, (.int a5)), (4, (.ref a7)), (7, (.long v16))]) (st' := [(.long p19), (.ref 22)]) rfl (by exact trivial) (pc' := 157) rfl ?_
          refine hp_cVP (M2 := M_Ma_rounded) hm at0 (as := [(.long p19)]) (rest := []) (z := 22) rfl (by exact trivial) (pc' := 157) rfl 15 rfl (lw_g (lw_at lw_m6 12 rfl) rfl) y_Ma_rounded rfl (d2 := 5) ⟨le_b rfl, pd_Ma_rounded, le_b rfl⟩ (le_b rfl) og_22 (k_Ma_rounded 2 p19 p11) (fun a21 => ?_)
          refine hp_b hm (at1 19 rfl) (L' := [(5, (.long a21)), (0, (.ref 22)), (3, (.int a5)), (4, (.ref a7)), (7, (.long v16))]) (st' := []) rfl (by exact trivial) (pc' := 162) rfl ?_
          exact hp_lf [1, 2, 3, 0, 4] rfl (fun _ e => e)
    · refine hp_cVS (M2 := M_Ma_move) hm (at1 20 rfl) (as := [(.ref a7), (.int a5), (.long (p17 - v16))]) (rest := []) (z := 22) rfl (by exact trivial) (pc' := 171) rfl 17 rfl (lw_g (lw_at lw_m6 25 rfl) rfl) y_Ma_move rfl (d2 := 3) ⟨le_b rfl, pd_Ma_move, le_b rfl⟩ (le_b rfl) og_22 (k_Ma_move a7 a5 (p17 - v16) p11 q10) (fun _ h6 => ?_)
      refine hp_w hm (at1 21 rfl) (L' := [(0, (.ref 22)), (3, (.int a5)), (4, (.ref a7)), (5, (.long p17)), (7, (.long v16))]) rfl (by exact ⟨og_22, ⟨og_54, (show vp_in (0 : Int32) 3 from vp_lit (by decide))⟩⟩) (pc' := 181) rfl (fun h7 => ?_)
      refine hp_w hm (at1 22 rfl) (L' := [(0, (.ref 22)), (3, (.int a5)), (4, (.ref a7)), (5, (.long p17)), (7, (.long v16))]) rfl (by exact ⟨og_22, ⟨og_54, (show vp_in (1 : Int32) 3 from vp_lit (by decide))⟩⟩) (pc' := 188) rfl (fun h8 => ?_)
      exact hp_vr hm 18 rfl rfl (fun _ e => e)
/-! HintHouse$Machine.referenceZone(Z)LHintHouse$Zone; -/
def M_Ma_referenceZone : hM := (4, ⟨"HintHouse$Machine", "referenceZone", "(Z)LHintHouse$Zone;"⟩, prog_6_method_52_code, 2, (Option.some (Jvm.ClassFile.FieldType.object "HintHouse$Zone")), [], [(0, [(.iload_n 1, 1, 0, 0, 0, .null)]), (12, [(.aload_n 0, 1, 0, 0, 0, .null), (.iconst 1, 1, 0, 0, 0, (.int (1 : Int32)))]), (4, [(.aload_n 0, 1, 0, 0, 0, .null), (.iconst 0, 1, 0, 0, 0, (.int (0 : Int32)))])], [(14, .invokevirtual 362, 3), (17, .areturn, 1), (6, .invokevirtual 362, 3), (9, .goto 8, 3), (1, .ifCond .eq 11, 3)])
set_option maxRecDepth 100000 in
theorem m_Ma_referenceZone : hx_mok M_Ma_referenceZone = true := by decide +kernel
theorem pd_Ma_referenceZone : (parseMethodDescriptor M_Ma_referenceZone.2.1.desc).map (fun q => q.parameters.length) = some 1 := by decide +kernel
theorem y_Ma_referenceZone : hx_okV M_Ma_referenceZone := ⟨⟨lw_g (lw_at lw_m6 171 rfl) rfl, lw_g (lw_at lw_m6 170 rfl) rfl, qs83, lw_g (lw_at lw_m1 5 rfl) rfl, rfl, by decide, by decide, by decide⟩, rfl, by decide, plainFor_of_name (by decide)⟩
noncomputable def f_Ma_referenceZone (x1 : Int32) (h : hH) : Option Nat :=
  if x1 = 0 then (
    bP (f_Ma_zone (1 : Int32) h) fun a1 =>
    some a1
  ) else (
    bP (f_Ma_zone (0 : Int32) h) fun a2 =>
    some a2
  )
set_option maxRecDepth 20000 in
theorem k_Ma_referenceZone (x1 : Int32) (h : hH) : hx_kP S0 M_Ma_referenceZone 2 NT [(.ref 22), (.int x1)] h (f_Ma_referenceZone x1 h) cvA := by
  have hm := m_Ma_referenceZone
  show hx_P S0 M_Ma_referenceZone 2 0 [(0, (.ref 22)), (1, (.int x1))] [] NT h (f_Ma_referenceZone x1 h) (hx_Rp cvA NT h)
  unfold f_Ma_referenceZone
  refine hp_if_eq hm (at1 0 rfl) rfl (by exact trivial) (pc' := 1) rfl 4 rfl (tgt := 12) rfl (fun c3 => ?_) (fun c3 => ?_)
  · refine hp_cVP (M2 := M_Ma_zone) hm (at1 1 rfl) (as := [(.int (1 : Int32))]) (rest := []) (z := 22) rfl (by exact trivial) (pc' := 14) rfl 0 rfl (lw_g (lw_at lw_m5 225 rfl) rfl) y_Ma_zone rfl (d2 := 1) ⟨le_b rfl, pd_Ma_zone, le_b rfl⟩ (le_b rfl) og_22 (k_Ma_zone (1 : Int32) h) (fun a1 => ?_)
    exact hp_ar hm at0 rfl (by exact trivial) (pc' := 17) rfl 1 rfl rfl (fun _ e => e)
  · refine hp_cVP (M2 := M_Ma_zone) hm (at1 2 rfl) (as := [(.int (0 : Int32))]) (rest := []) (z := 22) rfl (by exact trivial) (pc' := 6) rfl 2 rfl (lw_g (lw_at lw_m5 225 rfl) rfl) y_Ma_zone rfl (d2 := 1) ⟨le_b rfl, pd_Ma_zone, le_b rfl⟩ (le_b rfl) og_22 (k_Ma_zone (0 : Int32) h) (fun a2 => ?_)
    refine hp_goto hm 3 rfl (tgt := 17) rfl ?_
    exact hp_ar hm at0 rfl (by exact trivial) (pc' := 17) rfl 1 rfl rfl (fun _ e => e)
/-! HintHouse$Machine.reference(Z)J -/
def M_Ma_reference : hM := (4, ⟨"HintHouse$Machine", "reference", "(Z)J"⟩, prog_6_method_53_code, 4, (Option.some Jvm.ClassFile.FieldType.long), [], [(0, [(.aload_n 0, 1, 0, 0, 0, .null), (.iload_n 1, 1, 0, 0, 0, .null)]), (5, [(.astore_n 2, 1, 0, 0, 0, .null), (.aload_n 0, 1, 0, 0, 0, .null), (.aload_n 2, 1, 0, 0, 0, .null), (.iload_n 1, 1, 0, 0, 0, .null)]), (21, [(.aload_n 0, 1, 0, 0, 0, .null), (.getfield 67, 3, 4, 36, 4, .null), (.iconst 2, 1, 0, 0, 0, (.int (2 : Int32))), (.iaload, 1, 0, 0, 0, .null)]), (12, [(.aload_n 0, 1, 0, 0, 0, .null), (.getfield 67, 3, 4, 36, 4, .null), (.iconst 1, 1, 0, 0, 0, (.int (1 : Int32))), (.iaload, 1, 0, 0, 0, .null)]), (30, [(.istore_n 3, 1, 0, 0, 0, .null), (.aload_n 2, 1, 0, 0, 0, .null), (.getfield 252, 3, 6, 2, 4, .null), (.iload_n 3, 1, 0, 0, 0, .null), (.iaload, 1, 0, 0, 0, .null), (.aload_n 2, 1, 0, 0, 0, .null), (.getfield 262, 3, 6, 0, 4, .null), (.iload_n 3, 1, 0, 0, 0, .null), (.iaload, 1, 0, 0, 0, .null), (.isub, 1, 0, 0, 0, .null), (.aload_n 2, 1, 0, 0, 0, .null), (.getfield 255, 3, 6, 3, 4, .null), (.iload_n 3, 1, 0, 0, 0, .null), (.iaload, 1, 0, 0, 0, .null), (.aload_n 2, 1, 0, 0, 0, .null), (.getfield 265, 3, 6, 1, 4, .null), (.iload_n 3, 1, 0, 0, 0, .null), (.iaload, 1, 0, 0, 0, .null), (.isub, 1, 0, 0, 0, .null), (.aload_n 0, 1, 0, 0, 0, .null), (.getfield 206, 3, 4, 30, 0, .null), (.aload_n 0, 1, 0, 0, 0, .null), (.getfield 209, 3, 4, 31, 0, .null)]), (68, [(.i2l, 1, 0, 0, 0, .null)])], [(2, .invokevirtual 486, 3), (18, .goto 9, 3), (9, .ifCond .eq 12, 3), (27, .invokevirtual 366, 3), (65, .invokestatic 258, 3), (69, .lreturn, 1)])
set_option maxRecDepth 100000 in
theorem m_Ma_reference : hx_mok M_Ma_reference = true := by decide +kernel
theorem pd_Ma_reference : (parseMethodDescriptor M_Ma_reference.2.1.desc).map (fun q => q.parameters.length) = some 1 := by decide +kernel
theorem y_Ma_reference : hx_okV M_Ma_reference := ⟨⟨lw_g (lw_at lw_m6 167 rfl) rfl, lw_g (lw_at lw_m6 166 rfl) rfl, qs82, lw_g (lw_at lw_m1 5 rfl) rfl, rfl, by decide, by decide, by decide⟩, rfl, by decide, plainFor_of_name (by decide)⟩
noncomputable def f_Ma_reference (x1 : Int32) (h : hH) : Option (hH ⊕ (Int64 × hH)) :=
  bP (f_Ma_referenceZone x1 h) fun a1 =>
  lz (A := Int32) (if x1 = 0 then (rdI h 54 2) else (rdI h 54 1)) fun p2 =>
  gd (isA 6 a1) <|
  bT (f_Ma_point a1 p2 h) fun a5 h1 =>
  gd (vp_in a5 (zr a1)) <|
  bP (f_Ma_along ((rdI h1 (rf a1 2) (Int32.toNatClampNeg a5)) - (rdI h1 (rf a1 0) (Int32.toNatClampNeg a5))) ((rdI h1 (rf a1 3) (Int32.toNatClampNeg a5)) - (rdI h1 (rf a1 1) (Int32.toNatClampNeg a5))) (rdI h1 22 30) (rdI h1 22 31)) fun a7 =>
  some (.inr ((Int32.toInt64 a7), h1))
set_option maxRecDepth 20000 in
theorem k_Ma_reference (x1 : Int32) (h : hH) : hx_kT S0 M_Ma_reference 8 NT [(.ref 22), (.int x1)] h (f_Ma_reference x1 h) cvL := by
  have hm := m_Ma_reference
  show hx_P S0 M_Ma_reference 8 0 [(0, (.ref 22)), (1, (.int x1))] [] NT h (f_Ma_reference x1 h) (hx_T NT (hx_Rc cvL NT))
  unfold f_Ma_reference
  refine hp_cVP (M2 := M_Ma_referenceZone) hm (at1 0 rfl) (as := [(.int x1)]) (rest := []) (z := 22) rfl (by exact trivial) (pc' := 2) rfl 0 rfl (lw_g (lw_at lw_m6 168 rfl) rfl) y_Ma_referenceZone rfl (d2 := 2) ⟨le_b rfl, pd_Ma_referenceZone, le_b rfl⟩ (le_b rfl) og_22 (k_Ma_referenceZone x1 h) (fun a1 => ?_)
  refine hp_b hm (at1 1 rfl) (L' := [(2, (.ref a1)), (0, (.ref 22)), (1, (.int x1))]) (st' := [(.int x1), (.ref a1), (.ref 22)]) rfl (by exact trivial) (pc' := 9) rfl ?_
  refine hp_JZ 27 (fun (p2 : Int32) => [(0, (.ref 22)), (2, (.ref a1))]) (fun (p2 : Int32) => [(.int p2), (.ref a1), (.ref 22)]) (fun (p2 : Int32) => h) ?_ (fun p2 => ?_)
  · refine hp_sv0 ?_
    refine hp_if_eq hm at0 rfl (by exact trivial) (pc' := 9) rfl 2 rfl (tgt := 21) rfl (fun c3 => ?_) (fun c3 => ?_)
    · refine hp_b hm (at1 2 rfl) (L' := [(2, (.ref a1)), (0, (.ref 22)), (1, (.int x1))]) (st' := [(.int (rdI h 54 2)), (.ref a1), (.ref 22)]) rfl (by exact ⟨og_22, ⟨og_54, (show vp_in (2 : Int32) 3 from vp_lit (by decide))⟩⟩) (pc' := 27) rfl ?_
      exact hp_lf [1, 0] rfl (fun _ e => e)
    · refine hp_b hm (at1 3 rfl) (L' := [(2, (.ref a1)), (0, (.ref 22)), (1, (.int x1))]) (st' := [(.int (rdI h 54 1)), (.ref a1), (.ref 22)]) rfl (by exact ⟨og_22, ⟨og_54, (show vp_in (1 : Int32) 3 from vp_lit (by decide))⟩⟩) (pc' := 18) rfl ?_
      refine hp_goto hm 1 rfl (tgt := 27) rfl ?_
      exact hp_lf [1, 0] rfl (fun _ e => e)
  · refine hp_G0 (fun q4 => ?_)
    refine hp_cVT (M2 := M_Ma_point) hm at0 (as := [(.ref a1), (.int p2)]) (rest := []) (z := 22) rfl (by exact trivial) (pc' := 27) rfl 3 rfl (lw_g (lw_at lw_m5 229 rfl) rfl) y_Ma_point rfl (d2 := 7) ⟨le_b rfl, pd_Ma_point, le_b rfl⟩ (le_b rfl) og_22 rfl (k_Ma_point a1 p2 h q4) (fun a5 h1 => ?_)
    refine hp_G hm (at1 4 rfl) (L' := [(3, (.int a5)), (0, (.ref 22)), (2, (.ref a1))]) (st' := [(.int (rdI h1 22 31)), (.int (rdI h1 22 30)), (.int ((rdI h1 (rf a1 3) (Int32.toNatClampNeg a5)) - (rdI h1 (rf a1 1) (Int32.toNatClampNeg a5)))), (.int ((rdI h1 (rf a1 2) (Int32.toNatClampNeg a5)) - (rdI h1 (rf a1 0) (Int32.toNatClampNeg a5))))]) rfl (fun hP => (by exact ⟨⟨⟨⟨⟨⟨⟨⟨⟨q4, ⟨(rt_6_2 q4), (vp_cst (rl_6_2 q4) hP)⟩⟩, q4⟩, ⟨(rt_6_0 q4), (vp_cst (rl_6_0 q4) hP)⟩⟩, q4⟩, ⟨(rt_6_3 q4), (vp_cst (rl_6_3 q4) hP)⟩⟩, q4⟩, ⟨(rt_6_1 q4), (vp_cst (rl_6_1 q4) hP)⟩⟩, og_22⟩, og_22⟩)) (pc' := 65) rfl (fun q6 => ?_)
    refine hp_cSP (M2 := M_Ma_along) hm at0 (as := [(.int ((rdI h1 (rf a1 2) (Int32.toNatClampNeg a5)) - (rdI h1 (rf a1 0) (Int32.toNatClampNeg a5)))), (.int ((rdI h1 (rf a1 3) (Int32.toNatClampNeg a5)) - (rdI h1 (rf a1 1) (Int32.toNatClampNeg a5)))), (.int (rdI h1 22 30)), (.int (rdI h1 22 31))]) (rest := []) rfl (by exact trivial) (pc' := 65) rfl 4 rfl (lw_g (lw_at lw_m6 9 rfl) rfl) y_Ma_along rfl (d2 := 3) ⟨le_b rfl, pd_Ma_along, le_b rfl⟩ (le_b rfl) (k_Ma_along ((rdI h1 (rf a1 2) (Int32.toNatClampNeg a5)) - (rdI h1 (rf a1 0) (Int32.toNatClampNeg a5))) ((rdI h1 (rf a1 3) (Int32.toNatClampNeg a5)) - (rdI h1 (rf a1 1) (Int32.toNatClampNeg a5))) (rdI h1 22 30) (rdI h1 22 31) h1) (fun a7 => ?_)
    exact hp_lr hm (at1 5 rfl) rfl (by exact trivial) (pc' := 69) rfl 5 rfl rfl (fun _ e => e)
/-! HintHouse$Machine.shiftContour(ZI)V -/
def M_Ma_shiftContour : hM := (4, ⟨"HintHouse$Machine", "shiftContour", "(ZI)V"⟩, prog_6_method_54_code, 7, (Option.none : Option Jvm.ClassFile.FieldType), [], [(0, [(.aload_n 0, 1, 0, 0, 0, .null), (.aload_n 0, 1, 0, 0, 0, .null), (.getfield 70, 3, 4, 37, 4, .null), (.iconst 2, 1, 0, 0, 0, (.int (2 : Int32))), (.iaload, 1, 0, 0, 0, .null), (.iconst 1, 1, 0, 0, 0, (.int (1 : Int32)))]), (15, [(.iconst 0, 1, 0, 0, 0, (.int (0 : Int32)))]), (11, [(.iconst 1, 1, 0, 0, 0, (.int (1 : Int32)))]), (16, [(.iconst 5, 1, 0, 0, 0, (.int (5 : Int32)))]), (20, [(.aload_n 0, 1, 0, 0, 0, .null), (.aload_n 0, 1, 0, 0, 0, .null), (.getfield 145, 3, 4, 3, 3, .null)]), (51, [(.iconst 0, 1, 0, 0, 0, (.int (0 : Int32)))]), (28, [(.iload_n 2, 1, 0, 0, 0, .null), (.i2l, 1, 0, 0, 0, .null), (.lconst 0, 1, 0, 0, 0, (.long (0 : Int64))), (.aload_n 0, 1, 0, 0, 0, .null), (.getfield 145, 3, 4, 3, 3, .null), (.getfield 449, 3, 9, 5, 0, .null), (.iconst 1, 1, 0, 0, 0, (.int (1 : Int32))), (.isub, 1, 0, 0, 0, .null), (.i2l, 1, 0, 0, 0, .null)]), (47, [(.iconst 1, 1, 0, 0, 0, (.int (1 : Int32)))]), (52, [(.iconst 5, 1, 0, 0, 0, (.int (5 : Int32)))]), (56, [(.aload_n 0, 1, 0, 0, 0, .null), (.iload_n 1, 1, 0, 0, 0, .null)]), (61, [(.lstore_n 3, 1, 0, 0, 0, .null), (.aload_n 0, 1, 0, 0, 0, .null), (.iload_n 1, 1, 0, 0, 0, .null)]), (67, [(.aload_n 0, 1, 0, 0, 0, .null), (.getfield 23, 3, 4, 2, 4, .null)]), (96, [(.iconst (-1), 1, 0, 0, 0, (.int (-1 : Int32)))]), (74, [(.iload_n 1, 1, 0, 0, 0, .null)]), (87, [(.aload_n 0, 1, 0, 0, 0, .null), (.getfield 67, 3, 4, 36, 4, .null), (.iconst 2, 1, 0, 0, 0, (.int (2 : Int32))), (.iaload, 1, 0, 0, 0, .null)]), (78, [(.aload_n 0, 1, 0, 0, 0, .null), (.getfield 67, 3, 4, 36, 4, .null), (.iconst 1, 1, 0, 0, 0, (.int (1 : Int32))), (.iaload, 1, 0, 0, 0, .null)]), (97, [(.istore 5, 2, 0, 0, 0, .null), (.aload_n 0, 1, 0, 0, 0, .null), (.getfield 145, 3, 4, 3, 3, .null), (.iload_n 2, 1, 0, 0, 0, .null)]), (107, [(.istore 6, 2, 0, 0, 0, .null)]), (109, [(.iload 6, 2, 0, 0, 0, .null), (.aload_n 0, 1, 0, 0, 0, .null), (.getfield 145, 3, 4, 3, 3, .null), (.getfield 457, 3, 9, 4, 4, .null), (.iload_n 2, 1, 0, 0, 0, .null), (.iaload, 1, 0, 0, 0, .null)]), (123, [(.iload 6, 2, 0, 0, 0, .null), (.iload 5, 2, 0, 0, 0, .null)]), (130, [(.aload_n 0, 1, 0, 0, 0, .null), (.aload_n 0, 1, 0, 0, 0, .null), (.getfield 23, 3, 4, 2, 4, .null), (.iload 6, 2, 0, 0, 0, .null), (.lload_n 3, 1, 0, 0, 0, .null)]), (141, [(.iinc 6 1, 3, 0, 0, 0, (.int (1 : Int32)))])], [(12, .goto 4, 3), (8, .if_icmp .ne 7, 3), (17, .invokevirtual 187, 3), (41, .invokestatic 246, 3), (48, .goto 4, 3), (44, .ifCond .eq 7, 3), (25, .ifnull 26, 3), (53, .invokevirtual 187, 3), (58, .invokevirtual 470, 3), (64, .invokevirtual 486, 3), (93, .goto 4, 3), (84, .goto 13, 3), (75, .ifCond .eq 12, 3), (71, .if_acmp .ne 25, 3), (104, .invokevirtual 454, 3), (138, .invokevirtual 429, 3), (127, .if_icmp .eq 14, 3), (144, .goto (-35), 3), (120, .if_icmp .gt 27, 3), (147, .return_, 1)])
set_option maxRecDepth 100000 in
theorem m_Ma_shiftContour : hx_mok M_Ma_shiftContour = true := by decide +kernel
theorem pd_Ma_shiftContour : (parseMethodDescriptor M_Ma_shiftContour.2.1.desc).map (fun q => q.parameters.length) = some 2 := by decide +kernel
theorem y_Ma_shiftContour : hx_okV M_Ma_shiftContour := ⟨⟨lw_g (lw_at lw_m6 175 rfl) rfl, lw_g (lw_at lw_m6 174 rfl) rfl, qs84, lw_g (lw_at lw_m1 5 rfl) rfl, rfl, by decide, by decide, by decide⟩, rfl, by decide, plainFor_of_name (by decide)⟩
noncomputable def f_Ma_shiftContour (x1 : Int32) (x2 : Int32) (h : hH) : Option (hH ⊕ (Unit × hH)) :=
  lz (A := Int32) (if (rdI h 55 2) = (1 : Int32) then (1 : Int32) else (0 : Int32)) fun p1 =>
  bT (f_Ma_want p1 (5 : Int32) h) fun _ h1 =>
  bJT (P := Int32) (
    if (rdP h1 22 3) = 0 then (
      some (.inr (0 : Int32))
    ) else (
      gd (isA 9 (rdP h1 22 3)) <|
      bP (f_HH_within (Int32.toInt64 x2) (0 : Int64) (Int32.toInt64 ((rdI h1 (rdP h1 22 3) 5) - (1 : Int32)))) fun a5 =>
      if a5 = 0 then (
        some (.inr (0 : Int32))
      ) else (
        some (.inr (1 : Int32))
      )
    )
  ) fun p3 =>
  bT (f_Ma_want p3 (5 : Int32) h1) fun _ h2 =>
  bT (f_Ma_reference x1 h2) fun a8 h3 =>
  bP (f_Ma_referenceZone x1 h3) fun a9 =>
  gd (isA 6 a9) <|
  lz (A := Int32) (if a9 = 34 then (if x1 = 0 then (rdI h3 54 2) else (rdI h3 54 1)) else (-1 : Int32)) fun p11 =>
  gd (isA 9 (rdP h3 22 3)) <|
  bP (f_Ou_beginOf (rdP h3 22 3) x2 h3) fun a15 =>
  bJT (P := hH) (
    whT (A := (Int32 × hH)) (B := hH) (fun p16 =>
        gd (isA 9 (rdP p16.2 22 3) ∧ vp_in x2 20) <|
        if (rdI p16.2 (rf (rdP p16.2 22 3) 4) (Int32.toNatClampNeg x2)) < p16.1 then (
          some (.inr (.inr p16.2))
        ) else (
          bJT (P := hH) (
            if p16.1 = p11 then (
              some (.inr p16.2)
            ) else (
              bS (f_Ma_move 34 p16.1 a8 p16.2) fun _ h4 =>
              some (.inr h4)
            )
          ) fun p19 =>
          lz (A := Int32) (p16.1 + (1 : Int32)) fun v21 =>
          some (.inr (.inl (v21, p19)))
        )
    ) (a15, h3)
  ) fun p17 =>
  some (.inr ((), p17))
set_option maxRecDepth 20000 in
theorem k_Ma_shiftContour (x1 : Int32) (x2 : Int32) (h : hH) : hx_kT S0 M_Ma_shiftContour 9 NT [(.ref 22), (.int x1), (.int x2)] h (f_Ma_shiftContour x1 x2 h) cvU := by
  have hm := m_Ma_shiftContour
  show hx_P S0 M_Ma_shiftContour 9 0 [(0, (.ref 22)), (1, (.int x1)), (2, (.int x2))] [] NT h (f_Ma_shiftContour x1 x2 h) (hx_T NT (hx_Rc cvU NT))
  unfold f_Ma_shiftContour
  refine hp_JZ 16 (fun (p1 : Int32) => [(0, (.ref 22)), (1, (.int x1)), (2, (.int x2))]) (fun (p1 : Int32) => [(.int p1), (.ref 22)]) (fun (p1 : Int32) => h) ?_ (fun p1 => ?_)
  · refine hp_sv0 ?_
    refine hp_ic_ne hm (at1 0 rfl) rfl (by exact ⟨og_22, ⟨og_55, (show vp_in (2 : Int32) 3 from vp_lit (by decide))⟩⟩) (pc' := 8) rfl 1 rfl (tgt := 15) rfl (fun c2 => ?_) (fun c2 => ?_)
    · refine hp_b hm (at1 1 rfl) (L' := [(0, (.ref 22)), (1, (.int x1)), (2, (.int x2))]) (st' := [(.int (0 : Int32)), (.ref 22)]) rfl (by exact trivial) (pc' := 16) rfl ?_
      exact hp_lf [0, 1, 2] rfl (fun _ e => e)
    · refine hp_b hm (at1 2 rfl) (L' := [(0, (.ref 22)), (1, (.int x1)), (2, (.int x2))]) (st' := [(.int (1 : Int32)), (.ref 22)]) rfl (by exact trivial) (pc' := 12) rfl ?_
      refine hp_goto hm 0 rfl (tgt := 16) rfl ?_
      exact hp_lf [0, 1, 2] rfl (fun _ e => e)
  · refine hp_cVT (M2 := M_Ma_want) hm (at1 3 rfl) (as := [(.int p1), (.int (5 : Int32))]) (rest := []) (z := 22) rfl (by exact trivial) (pc' := 17) rfl 2 rfl (lw_g (lw_at lw_m5 139 rfl) rfl) y_Ma_want rfl (d2 := 6) ⟨le_b rfl, pd_Ma_want, le_b rfl⟩ (le_b rfl) og_22 rfl (k_Ma_want p1 (5 : Int32) h) (fun _ h1 => ?_)
    refine hp_JT 52 (fun (p3 : Int32) => [(0, (.ref 22)), (1, (.int x1)), (2, (.int x2))]) (fun (p3 : Int32) => [(.int p3), (.ref 22)]) (fun (p3 : Int32) => h1) ?_ (fun p3 => ?_)
    · refine hp_null hm (at1 4 rfl) rfl (by exact og_22) (pc' := 25) rfl 6 rfl (tgt := 51) rfl (fun c7 => ?_) (fun c7 => ?_)
      · refine hp_b hm (at1 5 rfl) (L' := [(0, (.ref 22)), (1, (.int x1)), (2, (.int x2))]) (st' := [(.int (0 : Int32)), (.ref 22)]) rfl (by exact trivial) (pc' := 52) rfl ?_
        exact hp_lf [0, 1, 2] rfl (fun _ e => e)
      · refine hp_G hm (at1 6 rfl) (L' := [(0, (.ref 22)), (1, (.int x1)), (2, (.int x2))]) (st' := [(.long (Int32.toInt64 ((rdI h1 (rdP h1 22 3) 5) - (1 : Int32)))), (.long (0 : Int64)), (.long (Int32.toInt64 x2)), (.ref 22)]) rfl (fun hP => (by exact ⟨og_22, hP⟩)) (pc' := 41) rfl (fun q4 => ?_)
        refine hp_cNP (M2 := M_HH_within) hm at0 (as := [(.long (Int32.toInt64 x2)), (.long (0 : Int64)), (.long (Int32.toInt64 ((rdI h1 (rdP h1 22 3) 5) - (1 : Int32))))]) (rest := [(.ref 22)]) rfl (by exact trivial) (pc' := 41) rfl 3 rfl (hmn_4_246) y_HH_within rfl (d2 := 1) ⟨le_b rfl, pd_HH_within, le_b rfl⟩ (le_b rfl) (k_HH_within (Int32.toInt64 x2) (0 : Int64) (Int32.toInt64 ((rdI h1 (rdP h1 22 3) 5) - (1 : Int32))) h1) (fun a5 => ?_)
        refine hp_if_eq hm at0 rfl (by exact trivial) (pc' := 44) rfl 5 rfl (tgt := 51) rfl (fun c6 => ?_) (fun c6 => ?_)
        · refine hp_b hm (at1 5 rfl) (L' := [(0, (.ref 22)), (1, (.int x1)), (2, (.int x2))]) (st' := [(.int (0 : Int32)), (.ref 22)]) rfl (by exact trivial) (pc' := 52) rfl ?_
          exact hp_lf [0, 1, 2] rfl (fun _ e => e)
        · refine hp_b hm (at1 7 rfl) (L' := [(0, (.ref 22)), (1, (.int x1)), (2, (.int x2))]) (st' := [(.int (1 : Int32)), (.ref 22)]) rfl (by exact trivial) (pc' := 48) rfl ?_
          refine hp_goto hm 4 rfl (tgt := 52) rfl ?_
          exact hp_lf [0, 1, 2] rfl (fun _ e => e)
    · refine hp_cVT (M2 := M_Ma_want) hm (at1 8 rfl) (as := [(.int p3), (.int (5 : Int32))]) (rest := []) (z := 22) rfl (by exact trivial) (pc' := 53) rfl 7 rfl (lw_g (lw_at lw_m5 139 rfl) rfl) y_Ma_want rfl (d2 := 6) ⟨le_b rfl, pd_Ma_want, le_b rfl⟩ (le_b rfl) og_22 rfl (k_Ma_want p3 (5 : Int32) h1) (fun _ h2 => ?_)
      refine hp_cVT (M2 := M_Ma_reference) hm (at1 9 rfl) (as := [(.int x1)]) (rest := []) (z := 22) rfl (by exact trivial) (pc' := 58) rfl 8 rfl (lw_g (lw_at lw_m6 164 rfl) rfl) y_Ma_reference rfl (d2 := 8) ⟨le_b rfl, pd_Ma_reference, le_b rfl⟩ (le_b rfl) og_22 rfl (k_Ma_reference x1 h2) (fun a8 h3 => ?_)
      refine hp_b hm (at1 10 rfl) (L' := [(3, (.long a8)), (0, (.ref 22)), (1, (.int x1)), (2, (.int x2))]) (st' := [(.int x1), (.ref 22)]) rfl (by exact trivial) (pc' := 64) rfl ?_
      refine hp_cVP (M2 := M_Ma_referenceZone) hm at0 (as := [(.int x1)]) (rest := []) (z := 22) rfl (by exact trivial) (pc' := 64) rfl 9 rfl (lw_g (lw_at lw_m6 168 rfl) rfl) y_Ma_referenceZone rfl (d2 := 2) ⟨le_b rfl, pd_Ma_referenceZone, le_b rfl⟩ (le_b rfl) og_22 (k_Ma_referenceZone x1 h3) (fun a9 => ?_)
      refine hp_G hm (at1 11 rfl) (L' := [(3, (.long a8)), (0, (.ref 22)), (1, (.int x1)), (2, (.int x2))]) (st' := [(.ref 34), (.ref a9)]) rfl (fun hP => (by exact og_22)) (pc' := 71) rfl (fun q10 => ?_)
      refine hp_JZ 97 (fun (p11 : Int32) => [(0, (.ref 22)), (2, (.int x2)), (3, (.long a8))]) (fun (p11 : Int32) => [(.int p11)]) (fun (p11 : Int32) => h3) ?_ (fun p11 => ?_)
      · refine hp_sv0 ?_
        refine hp_ane hm at0 rfl (by exact trivial) (pc' := 71) rfl 13 rfl (tgt := 96) rfl (q10).2 (og_34).2 (fun c13 => ?_) (fun c13 => ?_)
        · refine hp_b hm (at1 12 rfl) (L' := [(3, (.long a8)), (0, (.ref 22)), (1, (.int x1)), (2, (.int x2))]) (st' := [(.int (-1 : Int32))]) rfl (by exact trivial) (pc' := 97) rfl ?_
          exact hp_lf [1, 3, 0] rfl (fun _ e => e)
        · refine hp_sv0 ?_
          refine hp_if_eq hm (at1 13 rfl) rfl (by exact trivial) (pc' := 75) rfl 12 rfl (tgt := 87) rfl (fun c12 => ?_) (fun c12 => ?_)
          · refine hp_b hm (at1 14 rfl) (L' := [(3, (.long a8)), (0, (.ref 22)), (1, (.int x1)), (2, (.int x2))]) (st' := [(.int (rdI h3 54 2))]) rfl (by exact ⟨og_22, ⟨og_54, (show vp_in (2 : Int32) 3 from vp_lit (by decide))⟩⟩) (pc' := 93) rfl ?_
            refine hp_goto hm 10 rfl (tgt := 97) rfl ?_
            exact hp_lf [1, 3, 0] rfl (fun _ e => e)
          · refine hp_b hm (at1 15 rfl) (L' := [(3, (.long a8)), (0, (.ref 22)), (1, (.int x1)), (2, (.int x2))]) (st' := [(.int (rdI h3 54 1))]) rfl (by exact ⟨og_22, ⟨og_54, (show vp_in (1 : Int32) 3 from vp_lit (by decide))⟩⟩) (pc' := 84) rfl ?_
            refine hp_goto hm 11 rfl (tgt := 97) rfl ?_
            exact hp_lf [1, 3, 0] rfl (fun _ e => e)
      · refine hp_b hm (at1 16 rfl) (L' := [(5, (.int p11)), (0, (.ref 22)), (2, (.int x2)), (3, (.long a8))]) (st' := [(.int x2), (.ref (rdP h3 22 3))]) rfl (by exact og_22) (pc' := 104) rfl ?_
        refine hp_G0 (fun q14 => ?_)
        refine hp_cVP (M2 := M_Ou_beginOf) hm at0 (as := [(.int x2)]) (rest := []) (z := (rdP h3 22 3)) rfl (by exact trivial) (pc' := 104) rfl 14 rfl (lw_g (lw_at lw_m6 145 rfl) rfl) y_Ou_beginOf rfl (d2 := 1) ⟨le_b rfl, pd_Ou_beginOf, le_b rfl⟩ (le_b rfl) q14 (k_Ou_beginOf (rdP h3 22 3) x2 h3 q14) (fun a15 => ?_)
        refine hp_b hm (at1 17 rfl) (L' := [(6, (.int a15)), (5, (.int p11)), (0, (.ref 22)), (2, (.int x2)), (3, (.long a8))]) (st' := []) rfl (by exact trivial) (pc' := 109) rfl ?_
        refine hp_JT 147 (fun (p17 : hH) => []) (fun (p17 : hH) => []) (fun (p17 : hH) => p17) ?_ (fun p17 => ?_)
        · refine hp_s [2, 3, 4, 1, 0] rfl (L' := [(0, (.ref 22)), (2, (.int x2)), (3, (.long a8)), (5, (.int p11)), (6, (.int a15))]) ?_
          refine hp_whT (fun (p16 : (Int32 × hH)) => [(0, (.ref 22)), (2, (.int x2)), (3, (.long a8)), (5, (.int p11)), (6, (.int p16.1))]) [] (fun (p16 : (Int32 × hH)) => p16.2) (fun p16 => ?_) (a15, h3)
          refine hp_G hm (at1 18 rfl) (L' := [(0, (.ref 22)), (2, (.int x2)), (3, (.long a8)), (5, (.int p11)), (6, (.int p16.1))]) (st' := [(.int (rdI p16.2 (rf (rdP p16.2 22 3) 4) (Int32.toNatClampNeg x2))), (.int p16.1)]) rfl (fun hP => (by exact ⟨⟨og_22, hP.1⟩, ⟨(rt_9_4 hP.1), (vp_cst (rl_9_4 hP.1) hP.2)⟩⟩)) (pc' := 120) rfl (fun q18 => ?_)
          refine hp_ic_gt hm at0 rfl (by exact trivial) (pc' := 120) rfl 18 rfl (tgt := 147) rfl (fun c22 => ?_) (fun c22 => ?_)
          · exact hp_lf [] rfl (fun _ e => e)
          · refine hp_JT 141 (fun (p19 : hH) => [(0, (.ref 22)), (2, (.int x2)), (3, (.long a8)), (5, (.int p11)), (6, (.int p16.1))]) (fun (p19 : hH) => []) (fun (p19 : hH) => p19) ?_ (fun p19 => ?_)
            · refine hp_ic_eq hm (at1 19 rfl) rfl (by exact trivial) (pc' := 127) rfl 16 rfl (tgt := 141) rfl (fun c20 => ?_) (fun c20 => ?_)
              · exact hp_lf [0, 1, 2, 3, 4] rfl (fun _ e => e)
              · refine hp_cVS (M2 := M_Ma_move) hm (at1 20 rfl) (as := [(.ref 34), (.int p16.1), (.long a8)]) (rest := []) (z := 22) rfl (by exact og_22) (pc' := 138) rfl 15 rfl (lw_g (lw_at lw_m6 25 rfl) rfl) y_Ma_move rfl (d2 := 3) ⟨le_b rfl, pd_Ma_move, le_b rfl⟩ (le_b rfl) og_22 (k_Ma_move 34 p16.1 a8 p16.2 og_34) (fun _ h4 => ?_)
                exact hp_lf [0, 1, 2, 3, 4] rfl (fun _ e => e)
            · refine hp_z hm (at1 21 rfl) (fun (v21 : Int32) => [(6, (.int v21)), (0, (.ref 22)), (2, (.int x2)), (3, (.long a8)), (5, (.int p11))]) (fun (v21 : Int32) => []) rfl (by exact trivial) (pc' := 144) rfl (fun v21 => ?_)
              refine hp_goto hm 17 rfl (tgt := 109) rfl ?_
              exact hp_lf [1, 2, 3, 4, 0] rfl (fun _ e => e)
        · exact hp_vr hm 19 rfl rfl (fun _ e => e)
/-! HintHouse$Machine.shiftZone(ZI)V -/
def M_Ma_shiftZone : hM := (4, ⟨"HintHouse$Machine", "shiftZone", "(ZI)V"⟩, prog_6_method_55_code, 11, (Option.none : Option Jvm.ClassFile.FieldType), [], [(0, [(.aload_n 0, 1, 0, 0, 0, .null), (.iload_n 2, 1, 0, 0, 0, .null), (.iconst 1, 1, 0, 0, 0, (.int (1 : Int32)))]), (21, [(.iconst 1, 1, 0, 0, 0, (.int (1 : Int32)))]), (6, [(.iload_n 2, 1, 0, 0, 0, .null)]), (25, [(.iconst 0, 1, 0, 0, 0, (.int (0 : Int32)))]), (10, [(.aload_n 0, 1, 0, 0, 0, .null), (.getfield 73, 3, 4, 0, 4, .null), (.getfield 386, 3, 2, 9, 0, .null), (.iconst 2, 1, 0, 0, 0, (.int (2 : Int32)))]), (26, [(.iconst 5, 1, 0, 0, 0, (.int (5 : Int32)))]), (30, [(.iload_n 2, 1, 0, 0, 0, .null)]), (44, [(.aload_n 0, 1, 0, 0, 0, .null), (.getfield 23, 3, 4, 2, 4, .null)]), (34, [(.aload_n 0, 1, 0, 0, 0, .null), (.getfield 12, 3, 4, 1, 4, .null), (.getfield 126, 3, 5, 4, 4, .null)]), (48, [(.astore_n 3, 1, 0, 0, 0, .null), (.iload_n 2, 1, 0, 0, 0, .null)]), (60, [(.aload_n 0, 1, 0, 0, 0, .null), (.getfield 145, 3, 4, 3, 3, .null)]), (71, [(.aload_n 0, 1, 0, 0, 0, .null), (.getfield 145, 3, 4, 3, 3, .null), (.getfield 490, 3, 9, 3, 0, .null)]), (67, [(.iconst 0, 1, 0, 0, 0, (.int (0 : Int32)))]), (53, [(.aload_n 3, 1, 0, 0, 0, .null), (.getfield 142, 3, 6, 6, 0, .null)]), (78, [(.istore 4, 2, 0, 0, 0, .null), (.aload_n 0, 1, 0, 0, 0, .null), (.iload_n 1, 1, 0, 0, 0, .null)]), (85, [(.lstore 5, 2, 0, 0, 0, .null), (.aload_n 0, 1, 0, 0, 0, .null), (.iload_n 1, 1, 0, 0, 0, .null)]), (92, [(.aload_n 3, 1, 0, 0, 0, .null)]), (118, [(.iconst (-1), 1, 0, 0, 0, (.int (-1 : Int32)))]), (96, [(.iload_n 1, 1, 0, 0, 0, .null)]), (109, [(.aload_n 0, 1, 0, 0, 0, .null), (.getfield 67, 3, 4, 36, 4, .null), (.iconst 2, 1, 0, 0, 0, (.int (2 : Int32))), (.iaload, 1, 0, 0, 0, .null)]), (100, [(.aload_n 0, 1, 0, 0, 0, .null), (.getfield 67, 3, 4, 36, 4, .null), (.iconst 1, 1, 0, 0, 0, (.int (1 : Int32))), (.iaload, 1, 0, 0, 0, .null)]), (119, [(.istore 7, 2, 0, 0, 0, .null), (.iconst 0, 1, 0, 0, 0, (.int (0 : Int32))), (.istore 8, 2, 0, 0, 0, .null)]), (124, [(.iload 8, 2, 0, 0, 0, .null), (.iload 4, 2, 0, 0, 0, .null)]), (131, [(.iload 8, 2, 0, 0, 0, .null), (.iload 7, 2, 0, 0, 0, .null)]), (138, [(.aload_n 3, 1, 0, 0, 0, .null), (.getfield 278, 3, 6, 4, 4, .null), (.iload 8, 2, 0, 0, 0, .null), (.baload, 1, 101, 0, 0, .null), (.istore 9, 2, 0, 0, 0, .null)]), (147, [(.aload_n 3, 1, 0, 0, 0, .null), (.getfield 282, 3, 6, 5, 4, .null), (.iload 8, 2, 0, 0, 0, .null), (.baload, 1, 101, 0, 0, .null), (.istore 10, 2, 0, 0, 0, .null)]), (156, [(.aload_n 0, 1, 0, 0, 0, .null), (.aload_n 3, 1, 0, 0, 0, .null), (.iload 8, 2, 0, 0, 0, .null), (.lload 5, 2, 0, 0, 0, .null)]), (165, [(.aload_n 3, 1, 0, 0, 0, .null), (.getfield 278, 3, 6, 4, 4, .null), (.iload 8, 2, 0, 0, 0, .null), (.iload 9, 2, 0, 0, 0, .null), (.bastore, 1, 101, 0, 0, .null)]), (174, [(.aload_n 3, 1, 0, 0, 0, .null), (.getfield 282, 3, 6, 5, 4, .null), (.iload 8, 2, 0, 0, 0, .null), (.iload 10, 2, 0, 0, 0, .null), (.bastore, 1, 101, 0, 0, .null)]), (183, [(.iinc 8 1, 3, 0, 0, 0, (.int (1 : Int32)))])], [(22, .goto 4, 3), (18, .if_icmp .ne 7, 3), (7, .ifCond .ne 18, 3), (3, .if_icmp .eq 18, 3), (27, .invokevirtual 187, 3), (41, .goto 7, 3), (31, .ifCond .ne 13, 3), (68, .goto 10, 3), (64, .ifnonnull 7, 3), (57, .goto 21, 3), (50, .ifCond .ne 10, 3), (82, .invokevirtual 470, 3), (89, .invokevirtual 486, 3), (115, .goto 4, 3), (106, .goto 13, 3), (97, .ifCond .eq 12, 3), (93, .if_acmp .ne 25, 3), (162, .invokevirtual 429, 3), (135, .if_icmp .eq 48, 3), (186, .goto (-62), 3), (128, .if_icmp .ge 61, 3), (189, .return_, 1)])
set_option maxRecDepth 100000 in
theorem m_Ma_shiftZone : hx_mok M_Ma_shiftZone = true := by decide +kernel
theorem pd_Ma_shiftZone : (parseMethodDescriptor M_Ma_shiftZone.2.1.desc).map (fun q => q.parameters.length) = some 2 := by decide +kernel
theorem y_Ma_shiftZone : hx_okV M_Ma_shiftZone := ⟨⟨lw_g (lw_at lw_m6 179 rfl) rfl, lw_g (lw_at lw_m6 178 rfl) rfl, qs85, lw_g (lw_at lw_m1 5 rfl) rfl, rfl, by decide, by decide, by decide⟩, rfl, by decide, plainFor_of_name (by decide)⟩
noncomputable def f_Ma_shiftZone (x1 : Int32) (x2 : Int32) (h : hH) : Option (hH ⊕ (Unit × hH)) :=
  lz (A := Int32) (if x2 = (1 : Int32) then (1 : Int32) else (if x2 = 0 then (if (rdI h 4 9) = (2 : Int32) then (1 : Int32) else (0 : Int32)) else (0 : Int32))) fun p1 =>
  bT (f_Ma_want p1 (5 : Int32) h) fun _ h1 =>
  lz (A := Nat) (if x2 = 0 then 26 else 34) fun p5 =>
  bJT (P := Int32) (
    if x2 = 0 then (
      gd (isA 6 p5) <|
      some (.inr (rdI h1 p5 6))
    ) else (
      if (rdP h1 22 3) = 0 then (
        some (.inr (0 : Int32))
      ) else (
        gd (isA 9 (rdP h1 22 3)) <|
        some (.inr (rdI h1 (rdP h1 22 3) 3))
      )
    )
  ) fun p7 =>
  bT (f_Ma_reference x1 h1) fun a12 h2 =>
  bP (f_Ma_referenceZone x1 h2) fun a13 =>
  gd (isA 6 p5 ∧ isA 6 a13) <|
  lz (A := Int32) (if a13 = p5 then (if x1 = 0 then (rdI h2 54 2) else (rdI h2 54 1)) else (-1 : Int32)) fun p15 =>
  bJT (P := hH) (
    whT (A := (Int32 × hH)) (B := hH) (fun p18 =>
        if p7 ≤ p18.1 then (
          some (.inr (.inr p18.2))
        ) else (
          bJT (P := hH) (
            if p18.1 = p15 then (
              some (.inr p18.2)
            ) else (
              gd (vp_in p18.1 (zr p5)) <|
              lz (A := Int32) (rdI p18.2 (rf p5 4) (Int32.toNatClampNeg p18.1)) fun v21 =>
              gd (vp_in p18.1 (zr p5)) <|
              lz (A := Int32) (rdI p18.2 (rf p5 5) (Int32.toNatClampNeg p18.1)) fun v23 =>
              bS (f_Ma_move p5 p18.1 a12 p18.2) fun _ h3 =>
              gd (vp_in p18.1 (zr p5)) <|
              lz (wrI h3 (rf p5 4) (Int32.toNatClampNeg p18.1) (v21 &&& 1)) fun h4 =>
              gd (vp_in p18.1 (zr p5)) <|
              lz (wrI h4 (rf p5 5) (Int32.toNatClampNeg p18.1) (v23 &&& 1)) fun h5 =>
              some (.inr h5)
            )
          ) fun p20 =>
          lz (A := Int32) (p18.1 + (1 : Int32)) fun v28 =>
          some (.inr (.inl (v28, p20)))
        )
    ) ((0 : Int32), h2)
  ) fun p19 =>
  some (.inr ((), p19))
set_option maxRecDepth 20000 in
theorem k_Ma_shiftZone (x1 : Int32) (x2 : Int32) (h : hH) : hx_kT S0 M_Ma_shiftZone 9 NT [(.ref 22), (.int x1), (.int x2)] h (f_Ma_shiftZone x1 x2 h) cvU := by
  have hm := m_Ma_shiftZone
  show hx_P S0 M_Ma_shiftZone 9 0 [(0, (.ref 22)), (1, (.int x1)), (2, (.int x2))] [] NT h (f_Ma_shiftZone x1 x2 h) (hx_T NT (hx_Rc cvU NT))
  unfold f_Ma_shiftZone
  refine hp_JZ 26 (fun (p1 : Int32) => [(0, (.ref 22)), (1, (.int x1)), (2, (.int x2))]) (fun (p1 : Int32) => [(.int p1), (.ref 22)]) (fun (p1 : Int32) => h) ?_ (fun p1 => ?_)
  · refine hp_sv0 ?_
    refine hp_ic_eq hm (at1 0 rfl) rfl (by exact trivial) (pc' := 3) rfl 3 rfl (tgt := 21) rfl (fun c4 => ?_) (fun c4 => ?_)
    · refine hp_b hm (at1 1 rfl) (L' := [(0, (.ref 22)), (1, (.int x1)), (2, (.int x2))]) (st' := [(.int (1 : Int32)), (.ref 22)]) rfl (by exact trivial) (pc' := 22) rfl ?_
      refine hp_goto hm 0 rfl (tgt := 26) rfl ?_
      exact hp_lf [0, 1, 2] rfl (fun _ e => e)
    · refine hp_sv0 ?_
      refine hp_if_ne hm (at1 2 rfl) rfl (by exact trivial) (pc' := 7) rfl 2 rfl (tgt := 25) rfl (fun c3 => ?_) (fun c3 => ?_)
      · refine hp_b hm (at1 3 rfl) (L' := [(0, (.ref 22)), (1, (.int x1)), (2, (.int x2))]) (st' := [(.int (0 : Int32)), (.ref 22)]) rfl (by exact trivial) (pc' := 26) rfl ?_
        exact hp_lf [0, 1, 2] rfl (fun _ e => e)
      · refine hp_sv0 ?_
        refine hp_ic_ne hm (at1 4 rfl) rfl (by exact ⟨og_22, og_4⟩) (pc' := 18) rfl 1 rfl (tgt := 25) rfl (fun c2 => ?_) (fun c2 => ?_)
        · refine hp_b hm (at1 3 rfl) (L' := [(0, (.ref 22)), (1, (.int x1)), (2, (.int x2))]) (st' := [(.int (0 : Int32)), (.ref 22)]) rfl (by exact trivial) (pc' := 26) rfl ?_
          exact hp_lf [0, 1, 2] rfl (fun _ e => e)
        · refine hp_b hm (at1 1 rfl) (L' := [(0, (.ref 22)), (1, (.int x1)), (2, (.int x2))]) (st' := [(.int (1 : Int32)), (.ref 22)]) rfl (by exact trivial) (pc' := 22) rfl ?_
          refine hp_goto hm 0 rfl (tgt := 26) rfl ?_
          exact hp_lf [0, 1, 2] rfl (fun _ e => e)
  · refine hp_cVT (M2 := M_Ma_want) hm (at1 5 rfl) (as := [(.int p1), (.int (5 : Int32))]) (rest := []) (z := 22) rfl (by exact trivial) (pc' := 27) rfl 4 rfl (lw_g (lw_at lw_m5 139 rfl) rfl) y_Ma_want rfl (d2 := 6) ⟨le_b rfl, pd_Ma_want, le_b rfl⟩ (le_b rfl) og_22 rfl (k_Ma_want p1 (5 : Int32) h) (fun _ h1 => ?_)
    refine hp_JZ 48 (fun (p5 : Nat) => [(0, (.ref 22)), (1, (.int x1)), (2, (.int x2))]) (fun (p5 : Nat) => [(.ref p5)]) (fun (p5 : Nat) => h1) ?_ (fun p5 => ?_)
    · refine hp_sv0 ?_
      refine hp_if_ne hm (at1 6 rfl) rfl (by exact trivial) (pc' := 31) rfl 6 rfl (tgt := 44) rfl (fun c6 => ?_) (fun c6 => ?_)
      · refine hp_b hm (at1 7 rfl) (L' := [(0, (.ref 22)), (1, (.int x1)), (2, (.int x2))]) (st' := [(.ref 34)]) rfl (by exact og_22) (pc' := 48) rfl ?_
        exact hp_lf [0, 1, 2] rfl (fun _ e => e)
      · refine hp_b hm (at1 8 rfl) (L' := [(0, (.ref 22)), (1, (.int x1)), (2, (.int x2))]) (st' := [(.ref 26)]) rfl (by exact ⟨og_22, og_23⟩) (pc' := 41) rfl ?_
        refine hp_goto hm 5 rfl (tgt := 48) rfl ?_
        exact hp_lf [0, 1, 2] rfl (fun _ e => e)
    · refine hp_b hm (at1 9 rfl) (L' := [(3, (.ref p5)), (0, (.ref 22)), (1, (.int x1)), (2, (.int x2))]) (st' := [(.int x2)]) rfl (by exact trivial) (pc' := 50) rfl ?_
      refine hp_JT 78 (fun (p7 : Int32) => [(0, (.ref 22)), (1, (.int x1)), (3, (.ref p5))]) (fun (p7 : Int32) => [(.int p7)]) (fun (p7 : Int32) => h1) ?_ (fun p7 => ?_)
      · refine hp_if_ne hm at0 rfl (by exact trivial) (pc' := 50) rfl 10 rfl (tgt := 60) rfl (fun c11 => ?_) (fun c11 => ?_)
        · refine hp_nonnull hm (at1 10 rfl) rfl (by exact og_22) (pc' := 64) rfl 8 rfl (tgt := 71) rfl (fun c9 => ?_) (fun c9 => ?_)
          · refine hp_G hm (at1 11 rfl) (L' := [(3, (.ref p5)), (0, (.ref 22)), (1, (.int x1)), (2, (.int x2))]) (st' := [(.int (rdI h1 (rdP h1 22 3) 3))]) rfl (fun hP => (by exact ⟨og_22, hP⟩)) (pc' := 78) rfl (fun q8 => ?_)
            exact hp_lf [1, 2, 0] rfl (fun _ e => e)
          · refine hp_b hm (at1 12 rfl) (L' := [(3, (.ref p5)), (0, (.ref 22)), (1, (.int x1)), (2, (.int x2))]) (st' := [(.int (0 : Int32))]) rfl (by exact trivial) (pc' := 68) rfl ?_
            refine hp_goto hm 7 rfl (tgt := 78) rfl ?_
            exact hp_lf [1, 2, 0] rfl (fun _ e => e)
        · refine hp_G hm (at1 13 rfl) (L' := [(3, (.ref p5)), (0, (.ref 22)), (1, (.int x1)), (2, (.int x2))]) (st' := [(.int (rdI h1 p5 6))]) rfl (fun hP => (by exact hP)) (pc' := 57) rfl (fun q10 => ?_)
          refine hp_goto hm 9 rfl (tgt := 78) rfl ?_
          exact hp_lf [1, 2, 0] rfl (fun _ e => e)
      · refine hp_b hm (at1 14 rfl) (L' := [(4, (.int p7)), (0, (.ref 22)), (1, (.int x1)), (3, (.ref p5))]) (st' := [(.int x1), (.ref 22)]) rfl (by exact trivial) (pc' := 82) rfl ?_
        refine hp_cVT (M2 := M_Ma_reference) hm at0 (as := [(.int x1)]) (rest := []) (z := 22) rfl (by exact trivial) (pc' := 82) rfl 11 rfl (lw_g (lw_at lw_m6 164 rfl) rfl) y_Ma_reference rfl (d2 := 8) ⟨le_b rfl, pd_Ma_reference, le_b rfl⟩ (le_b rfl) og_22 rfl (k_Ma_reference x1 h1) (fun a12 h2 => ?_)
        refine hp_b hm (at1 15 rfl) (L' := [(5, (.long a12)), (4, (.int p7)), (0, (.ref 22)), (1, (.int x1)), (3, (.ref p5))]) (st' := [(.int x1), (.ref 22)]) rfl (by exact trivial) (pc' := 89) rfl ?_
        refine hp_cVP (M2 := M_Ma_referenceZone) hm at0 (as := [(.int x1)]) (rest := []) (z := 22) rfl (by exact trivial) (pc' := 89) rfl 12 rfl (lw_g (lw_at lw_m6 168 rfl) rfl) y_Ma_referenceZone rfl (d2 := 2) ⟨le_b rfl, pd_Ma_referenceZone, le_b rfl⟩ (le_b rfl) og_22 (k_Ma_referenceZone x1 h2) (fun a13 => ?_)
        refine hp_G hm (at1 16 rfl) (L' := [(5, (.long a12)), (4, (.int p7)), (0, (.ref 22)), (1, (.int x1)), (3, (.ref p5))]) (st' := [(.ref p5), (.ref a13)]) rfl (fun hP => (by exact trivial)) (pc' := 93) rfl (fun q14 => ?_)
        refine hp_JZ 119 (fun (p15 : Int32) => [(0, (.ref 22)), (3, (.ref p5)), (4, (.int p7)), (5, (.long a12))]) (fun (p15 : Int32) => [(.int p15)]) (fun (p15 : Int32) => h2) ?_ (fun p15 => ?_)
        · refine hp_sv0 ?_
          refine hp_ane hm at0 rfl (by exact trivial) (pc' := 93) rfl 16 rfl (tgt := 118) rfl (q14.2).2 (q14.1).2 (fun c17 => ?_) (fun c17 => ?_)
          · refine hp_b hm (at1 17 rfl) (L' := [(5, (.long a12)), (4, (.int p7)), (0, (.ref 22)), (1, (.int x1)), (3, (.ref p5))]) (st' := [(.int (-1 : Int32))]) rfl (by exact trivial) (pc' := 119) rfl ?_
            exact hp_lf [2, 4, 1, 0] rfl (fun _ e => e)
          · refine hp_sv0 ?_
            refine hp_if_eq hm (at1 18 rfl) rfl (by exact trivial) (pc' := 97) rfl 15 rfl (tgt := 109) rfl (fun c16 => ?_) (fun c16 => ?_)
            · refine hp_b hm (at1 19 rfl) (L' := [(5, (.long a12)), (4, (.int p7)), (0, (.ref 22)), (1, (.int x1)), (3, (.ref p5))]) (st' := [(.int (rdI h2 54 2))]) rfl (by exact ⟨og_22, ⟨og_54, (show vp_in (2 : Int32) 3 from vp_lit (by decide))⟩⟩) (pc' := 115) rfl ?_
              refine hp_goto hm 13 rfl (tgt := 119) rfl ?_
              exact hp_lf [2, 4, 1, 0] rfl (fun _ e => e)
            · refine hp_b hm (at1 20 rfl) (L' := [(5, (.long a12)), (4, (.int p7)), (0, (.ref 22)), (1, (.int x1)), (3, (.ref p5))]) (st' := [(.int (rdI h2 54 1))]) rfl (by exact ⟨og_22, ⟨og_54, (show vp_in (1 : Int32) 3 from vp_lit (by decide))⟩⟩) (pc' := 106) rfl ?_
              refine hp_goto hm 14 rfl (tgt := 119) rfl ?_
              exact hp_lf [2, 4, 1, 0] rfl (fun _ e => e)
        · refine hp_b hm (at1 21 rfl) (L' := [(8, (.int (0 : Int32))), (7, (.int p15)), (0, (.ref 22)), (3, (.ref p5)), (4, (.int p7)), (5, (.long a12))]) (st' := []) rfl (by exact trivial) (pc' := 124) rfl ?_
          refine hp_JT 189 (fun (p19 : hH) => []) (fun (p19 : hH) => []) (fun (p19 : hH) => p19) ?_ (fun p19 => ?_)
          · refine hp_s [2, 3, 4, 5, 1, 0] rfl (L' := [(0, (.ref 22)), (3, (.ref p5)), (4, (.int p7)), (5, (.long a12)), (7, (.int p15)), (8, (.int (0 : Int32)))]) ?_
            refine hp_whT (fun (p18 : (Int32 × hH)) => [(0, (.ref 22)), (3, (.ref p5)), (4, (.int p7)), (5, (.long a12)), (7, (.int p15)), (8, (.int p18.1))]) [] (fun (p18 : (Int32 × hH)) => p18.2) (fun p18 => ?_) ((0 : Int32), h2)
            refine hp_ic_ge hm (at1 22 rfl) rfl (by exact trivial) (pc' := 128) rfl 20 rfl (tgt := 189) rfl (fun c29 => ?_) (fun c29 => ?_)
            · exact hp_lf [] rfl (fun _ e => e)
            · refine hp_JT 183 (fun (p20 : hH) => [(0, (.ref 22)), (3, (.ref p5)), (4, (.int p7)), (5, (.long a12)), (7, (.int p15)), (8, (.int p18.1))]) (fun (p20 : hH) => []) (fun (p20 : hH) => p20) ?_ (fun p20 => ?_)
              · refine hp_ic_eq hm (at1 23 rfl) rfl (by exact trivial) (pc' := 135) rfl 18 rfl (tgt := 183) rfl (fun c27 => ?_) (fun c27 => ?_)
                · exact hp_lf [0, 1, 2, 3, 4, 5] rfl (fun _ e => e)
                · refine hp_GZ hm (at1 24 rfl) (fun (v21 : Int32) => [(9, (.int v21)), (0, (.ref 22)), (3, (.ref p5)), (4, (.int p7)), (5, (.long a12)), (7, (.int p15)), (8, (.int p18.1))]) (fun (v21 : Int32) => []) rfl (fun hP => (by exact ⟨q14.1, ⟨(rt_6_4 q14.1), (vp_cst (rl_6_4 q14.1) hP)⟩⟩)) (pc' := 147) rfl (fun q22 v21 => ?_)
                  refine hp_GZ hm (at1 25 rfl) (fun (v23 : Int32) => [(10, (.int v23)), (9, (.int v21)), (0, (.ref 22)), (3, (.ref p5)), (4, (.int p7)), (5, (.long a12)), (7, (.int p15)), (8, (.int p18.1))]) (fun (v23 : Int32) => []) rfl (fun hP => (by exact ⟨q14.1, ⟨(rt_6_5 q14.1), (vp_cst (rl_6_5 q14.1) hP)⟩⟩)) (pc' := 156) rfl (fun q24 v23 => ?_)
                  refine hp_cVS (M2 := M_Ma_move) hm (at1 26 rfl) (as := [(.ref p5), (.int p18.1), (.long a12)]) (rest := []) (z := 22) rfl (by exact trivial) (pc' := 162) rfl 17 rfl (lw_g (lw_at lw_m6 25 rfl) rfl) y_Ma_move rfl (d2 := 3) ⟨le_b rfl, pd_Ma_move, le_b rfl⟩ (le_b rfl) og_22 (k_Ma_move p5 p18.1 a12 p18.2 q14.1) (fun _ h3 => ?_)
                  refine hp_GW hm (at1 27 rfl) (L' := [(10, (.int v23)), (9, (.int v21)), (0, (.ref 22)), (3, (.ref p5)), (4, (.int p7)), (5, (.long a12)), (7, (.int p15)), (8, (.int p18.1))]) rfl (fun hP => (by exact ⟨q14.1, ⟨(rt_6_4 q14.1), (vp_cst (rl_6_4 q14.1) hP)⟩⟩)) (pc' := 174) rfl (fun q25 h4 => ?_)
                  refine hp_GW hm (at1 28 rfl) (L' := [(10, (.int v23)), (9, (.int v21)), (0, (.ref 22)), (3, (.ref p5)), (4, (.int p7)), (5, (.long a12)), (7, (.int p15)), (8, (.int p18.1))]) rfl (fun hP => (by exact ⟨q14.1, ⟨(rt_6_5 q14.1), (vp_cst (rl_6_5 q14.1) hP)⟩⟩)) (pc' := 183) rfl (fun q26 h5 => ?_)
                  exact hp_lf [2, 3, 4, 5, 6, 7] rfl (fun _ e => e)
              · refine hp_z hm (at1 29 rfl) (fun (v28 : Int32) => [(8, (.int v28)), (0, (.ref 22)), (3, (.ref p5)), (4, (.int p7)), (5, (.long a12)), (7, (.int p15))]) (fun (v28 : Int32) => []) rfl (by exact trivial) (pc' := 186) rfl (fun v28 => ?_)
                refine hp_goto hm 19 rfl (tgt := 124) rfl ?_
                exact hp_lf [1, 2, 3, 4, 5, 0] rfl (fun _ e => e)
          · exact hp_vr hm 21 rfl rfl (fun _ e => e)
/-! HintHouse$Machine.shiftBy(J)V -/
def M_Ma_shiftBy : hM := (4, ⟨"HintHouse$Machine", "shiftBy", "(J)V"⟩, prog_6_method_56_code, 6, (Option.none : Option Jvm.ClassFile.FieldType), [], [(0, [(.iconst 0, 1, 0, 0, 0, (.int (0 : Int32))), (.istore_n 3, 1, 0, 0, 0, .null)]), (2, [(.iload_n 3, 1, 0, 0, 0, .null), (.aload_n 0, 1, 0, 0, 0, .null), (.getfield 180, 3, 4, 38, 0, .null)]), (10, [(.aload_n 0, 1, 0, 0, 0, .null), (.aload_n 0, 1, 0, 0, 0, .null), (.iconst 2, 1, 0, 0, 0, (.int (2 : Int32)))]), (16, [(.aload_n 0, 1, 0, 0, 0, .null)]), (23, [(.istore 4, 2, 0, 0, 0, .null), (.aload_n 0, 1, 0, 0, 0, .null), (.iconst 2, 1, 0, 0, 0, (.int (2 : Int32)))]), (30, [(.astore 5, 2, 0, 0, 0, .null), (.aload 5, 2, 0, 0, 0, .null), (.getfield 252, 3, 6, 2, 4, .null), (.iload 4, 2, 0, 0, 0, .null), (.aload 5, 2, 0, 0, 0, .null), (.getfield 252, 3, 6, 2, 4, .null), (.iload 4, 2, 0, 0, 0, .null), (.iaload, 1, 0, 0, 0, .null), (.i2l, 1, 0, 0, 0, .null), (.lload_n 1, 1, 0, 0, 0, .null), (.aload_n 0, 1, 0, 0, 0, .null), (.getfield 200, 3, 4, 28, 0, .null), (.i2l, 1, 0, 0, 0, .null), (.lmul, 1, 0, 0, 0, .null), (.ldc2_w 250, 3, 0, 0, 0, (.long (16384 : Int64)))]), (61, [(.ladd, 1, 0, 0, 0, .null), (.l2i, 1, 0, 0, 0, .null), (.iastore, 1, 0, 0, 0, .null)]), (64, [(.aload 5, 2, 0, 0, 0, .null), (.getfield 255, 3, 6, 3, 4, .null), (.iload 4, 2, 0, 0, 0, .null), (.aload 5, 2, 0, 0, 0, .null), (.getfield 255, 3, 6, 3, 4, .null), (.iload 4, 2, 0, 0, 0, .null), (.iaload, 1, 0, 0, 0, .null), (.i2l, 1, 0, 0, 0, .null), (.lload_n 1, 1, 0, 0, 0, .null), (.aload_n 0, 1, 0, 0, 0, .null), (.getfield 203, 3, 4, 29, 0, .null), (.i2l, 1, 0, 0, 0, .null), (.lmul, 1, 0, 0, 0, .null), (.ldc2_w 250, 3, 0, 0, 0, (.long (16384 : Int64)))]), (93, [(.ladd, 1, 0, 0, 0, .null), (.l2i, 1, 0, 0, 0, .null), (.iastore, 1, 0, 0, 0, .null)]), (96, [(.aload_n 0, 1, 0, 0, 0, .null), (.aload 5, 2, 0, 0, 0, .null), (.iload 4, 2, 0, 0, 0, .null)]), (104, [(.iinc 3 1, 3, 0, 0, 0, (.int (1 : Int32)))]), (110, [(.aload_n 0, 1, 0, 0, 0, .null), (.iconst 1, 1, 0, 0, 0, (.int (1 : Int32))), (.putfield 180, 3, 4, 38, 0, .null)])], [(13, .invokevirtual 362, 3), (17, .invokevirtual 337, 3), (20, .invokevirtual 366, 3), (27, .invokevirtual 362, 3), (58, .invokestatic 154, 3), (90, .invokestatic 154, 3), (101, .invokevirtual 274, 3), (107, .goto (-105), 3), (7, .if_icmp .ge 103, 3), (115, .return_, 1)])
set_option maxRecDepth 100000 in
theorem m_Ma_shiftBy : hx_mok M_Ma_shiftBy = true := by decide +kernel
theorem pd_Ma_shiftBy : (parseMethodDescriptor M_Ma_shiftBy.2.1.desc).map (fun q => q.parameters.length) = some 1 := by decide +kernel
theorem y_Ma_shiftBy : hx_okV M_Ma_shiftBy := ⟨⟨lw_g (lw_at lw_m6 183 rfl) rfl, lw_g (lw_at lw_m6 182 rfl) rfl, qs86, lw_g (lw_at lw_m1 5 rfl) rfl, rfl, by decide, by decide, by decide⟩, rfl, by decide, plainFor_of_name (by decide)⟩
noncomputable def f_Ma_shiftBy (x1 : Int64) (h : hH) : Option (hH ⊕ (Unit × hH)) :=
  bJT (P := hH) (
    whT (A := (Int32 × hH)) (B := hH) (fun p1 =>
        if (rdI p1.2 22 38) ≤ p1.1 then (
          some (.inr (.inr p1.2))
        ) else (
          bP (f_Ma_zone (2 : Int32) p1.2) fun a3 =>
          bS (f_Ma_pop p1.2) fun a4 h1 =>
          gd (isA 6 a3) <|
          bT (f_Ma_point a3 a4 h1) fun a6 h2 =>
          bP (f_Ma_zone (2 : Int32) h2) fun a7 =>
          gd (isA 6 a7 ∧ vp_in a6 (zr a7)) <|
          bP (f_HH_over (x1 * (Int32.toInt64 (rdI h2 22 28))) (16384 : Int64)) fun a9 =>
          gd (vp_in a6 (zr a7)) <|
          lz (wrI h2 (rf a7 2) (Int32.toNatClampNeg a6) (Int64.toInt32 ((Int32.toInt64 (rdI h2 (rf a7 2) (Int32.toNatClampNeg a6))) + a9))) fun h3 =>
          gd (vp_in a6 (zr a7)) <|
          bP (f_HH_over (x1 * (Int32.toInt64 (rdI h3 22 29))) (16384 : Int64)) fun a12 =>
          gd (vp_in a6 (zr a7)) <|
          lz (wrI h3 (rf a7 3) (Int32.toNatClampNeg a6) (Int64.toInt32 ((Int32.toInt64 (rdI h3 (rf a7 3) (Int32.toNatClampNeg a6))) + a12))) fun h4 =>
          bS (f_Ma_touch a7 a6 h4) fun _ h5 =>
          lz (A := Int32) (p1.1 + (1 : Int32)) fun v14 =>
          some (.inr (.inl (v14, h5)))
        )
    ) ((0 : Int32), h)
  ) fun p2 =>
  lz (wrI p2 22 38 (1 : Int32)) fun h6 =>
  some (.inr ((), h6))
set_option maxRecDepth 20000 in
theorem k_Ma_shiftBy (x1 : Int64) (h : hH) : hx_kT S0 M_Ma_shiftBy 8 NT [(.ref 22), (.long x1)] h (f_Ma_shiftBy x1 h) cvU := by
  have hm := m_Ma_shiftBy
  show hx_P S0 M_Ma_shiftBy 8 0 [(0, (.ref 22)), (1, (.long x1))] [] NT h (f_Ma_shiftBy x1 h) (hx_T NT (hx_Rc cvU NT))
  unfold f_Ma_shiftBy
  refine hp_b hm (at1 0 rfl) (L' := [(3, (.int (0 : Int32))), (0, (.ref 22)), (1, (.long x1))]) (st' := []) rfl (by exact trivial) (pc' := 2) rfl ?_
  refine hp_JT 110 (fun (p2 : hH) => [(0, (.ref 22))]) (fun (p2 : hH) => []) (fun (p2 : hH) => p2) ?_ (fun p2 => ?_)
  · refine hp_s [1, 2, 0] rfl (L' := [(0, (.ref 22)), (1, (.long x1)), (3, (.int (0 : Int32)))]) ?_
    refine hp_whT (fun (p1 : (Int32 × hH)) => [(0, (.ref 22)), (1, (.long x1)), (3, (.int p1.1))]) [] (fun (p1 : (Int32 × hH)) => p1.2) (fun p1 => ?_) ((0 : Int32), h)
    refine hp_ic_ge hm (at1 1 rfl) rfl (by exact og_22) (pc' := 7) rfl 8 rfl (tgt := 110) rfl (fun c15 => ?_) (fun c15 => ?_)
    · exact hp_lf [0] rfl (fun _ e => e)
    · refine hp_cVP (M2 := M_Ma_zone) hm (at1 2 rfl) (as := [(.int (2 : Int32))]) (rest := [(.ref 22)]) (z := 22) rfl (by exact trivial) (pc' := 13) rfl 0 rfl (lw_g (lw_at lw_m5 225 rfl) rfl) y_Ma_zone rfl (d2 := 1) ⟨le_b rfl, pd_Ma_zone, le_b rfl⟩ (le_b rfl) og_22 (k_Ma_zone (2 : Int32) p1.2) (fun a3 => ?_)
      refine hp_cVS (M2 := M_Ma_pop) hm (at1 3 rfl) (as := []) (rest := [(.ref a3), (.ref 22)]) (z := 22) rfl (by exact trivial) (pc' := 17) rfl 1 rfl (lw_g (lw_at lw_m5 221 rfl) rfl) y_Ma_pop rfl (d2 := 1) ⟨le_b rfl, pd_Ma_pop, le_b rfl⟩ (le_b rfl) og_22 (k_Ma_pop p1.2) (fun a4 h1 => ?_)
      refine hp_G0 (fun q5 => ?_)
      refine hp_cVT (M2 := M_Ma_point) hm at0 (as := [(.ref a3), (.int a4)]) (rest := []) (z := 22) rfl (by exact trivial) (pc' := 20) rfl 2 rfl (lw_g (lw_at lw_m5 229 rfl) rfl) y_Ma_point rfl (d2 := 7) ⟨le_b rfl, pd_Ma_point, le_b rfl⟩ (le_b rfl) og_22 rfl (k_Ma_point a3 a4 h1 q5) (fun a6 h2 => ?_)
      refine hp_b hm (at1 4 rfl) (L' := [(4, (.int a6)), (0, (.ref 22)), (1, (.long x1)), (3, (.int p1.1))]) (st' := [(.int (2 : Int32)), (.ref 22)]) rfl (by exact trivial) (pc' := 27) rfl ?_
      refine hp_cVP (M2 := M_Ma_zone) hm at0 (as := [(.int (2 : Int32))]) (rest := []) (z := 22) rfl (by exact trivial) (pc' := 27) rfl 3 rfl (lw_g (lw_at lw_m5 225 rfl) rfl) y_Ma_zone rfl (d2 := 1) ⟨le_b rfl, pd_Ma_zone, le_b rfl⟩ (le_b rfl) og_22 (k_Ma_zone (2 : Int32) h2) (fun a7 => ?_)
      refine hp_G hm (at1 5 rfl) (L' := [(5, (.ref a7)), (4, (.int a6)), (0, (.ref 22)), (1, (.long x1)), (3, (.int p1.1))]) (st' := [(.long (16384 : Int64)), (.long (x1 * (Int32.toInt64 (rdI h2 22 28)))), (.long (Int32.toInt64 (rdI h2 (rf a7 2) (Int32.toNatClampNeg a6)))), (.int a6), (.ref (rf a7 2))]) rfl (fun hP => (by exact ⟨⟨⟨hP.1, hP.1⟩, ⟨(rt_6_2 hP.1), (vp_cst (rl_6_2 hP.1) hP.2)⟩⟩, og_22⟩)) (pc' := 58) rfl (fun q8 => ?_)
      refine hp_cNP (M2 := M_HH_over) hm at0 (as := [(.long (x1 * (Int32.toInt64 (rdI h2 22 28)))), (.long (16384 : Int64))]) (rest := [(.long (Int32.toInt64 (rdI h2 (rf a7 2) (Int32.toNatClampNeg a6)))), (.int a6), (.ref (rf a7 2))]) rfl (by exact trivial) (pc' := 58) rfl 4 rfl (hmn_4_154) y_HH_over rfl (d2 := 2) ⟨le_b rfl, pd_HH_over, le_b rfl⟩ (le_b rfl) (k_HH_over (x1 * (Int32.toInt64 (rdI h2 22 28))) (16384 : Int64) h2) (fun a9 => ?_)
      refine hp_GW hm (at1 6 rfl) (L' := [(5, (.ref a7)), (4, (.int a6)), (0, (.ref 22)), (1, (.long x1)), (3, (.int p1.1))]) rfl (fun hP => (by exact ⟨(rt_6_2 q8.1), (vp_cst (rl_6_2 q8.1) hP)⟩)) (pc' := 64) rfl (fun q10 h3 => ?_)
      refine hp_G hm (at1 7 rfl) (L' := [(5, (.ref a7)), (4, (.int a6)), (0, (.ref 22)), (1, (.long x1)), (3, (.int p1.1))]) (st' := [(.long (16384 : Int64)), (.long (x1 * (Int32.toInt64 (rdI h3 22 29)))), (.long (Int32.toInt64 (rdI h3 (rf a7 3) (Int32.toNatClampNeg a6)))), (.int a6), (.ref (rf a7 3))]) rfl (fun hP => (by exact ⟨⟨⟨q8.1, q8.1⟩, ⟨(rt_6_3 q8.1), (vp_cst (rl_6_3 q8.1) hP)⟩⟩, og_22⟩)) (pc' := 90) rfl (fun q11 => ?_)
      refine hp_cNP (M2 := M_HH_over) hm at0 (as := [(.long (x1 * (Int32.toInt64 (rdI h3 22 29)))), (.long (16384 : Int64))]) (rest := [(.long (Int32.toInt64 (rdI h3 (rf a7 3) (Int32.toNatClampNeg a6)))), (.int a6), (.ref (rf a7 3))]) rfl (by exact trivial) (pc' := 90) rfl 5 rfl (hmn_4_154) y_HH_over rfl (d2 := 2) ⟨le_b rfl, pd_HH_over, le_b rfl⟩ (le_b rfl) (k_HH_over (x1 * (Int32.toInt64 (rdI h3 22 29))) (16384 : Int64) h3) (fun a12 => ?_)
      refine hp_GW hm (at1 8 rfl) (L' := [(5, (.ref a7)), (4, (.int a6)), (0, (.ref 22)), (1, (.long x1)), (3, (.int p1.1))]) rfl (fun hP => (by exact ⟨(rt_6_3 q8.1), (vp_cst (rl_6_3 q8.1) hP)⟩)) (pc' := 96) rfl (fun q13 h4 => ?_)
      refine hp_cVS (M2 := M_Ma_touch) hm (at1 9 rfl) (as := [(.ref a7), (.int a6)]) (rest := []) (z := 22) rfl (by exact trivial) (pc' := 101) rfl 6 rfl (lw_g (lw_at lw_m6 30 rfl) rfl) y_Ma_touch rfl (d2 := 1) ⟨le_b rfl, pd_Ma_touch, le_b rfl⟩ (le_b rfl) og_22 (k_Ma_touch a7 a6 h4 q8.1) (fun _ h5 => ?_)
      refine hp_z hm (at1 10 rfl) (fun (v14 : Int32) => [(3, (.int v14)), (5, (.ref a7)), (4, (.int a6)), (0, (.ref 22)), (1, (.long x1))]) (fun (v14 : Int32) => []) rfl (by exact trivial) (pc' := 107) rfl (fun v14 => ?_)
      refine hp_goto hm 7 rfl (tgt := 2) rfl ?_
      exact hp_lf [3, 4, 0] rfl (fun _ e => e)
  · refine hp_w hm (at1 11 rfl) (L' := [(0, (.ref 22))]) rfl (by exact og_22) (pc' := 115) rfl (fun h6 => ?_)
    exact hp_vr hm 9 rfl rfl (fun _ e => e)
/-! HintHouse$Machine.interpolate()V -/
def M_Ma_interpolate : hM := (4, ⟨"HintHouse$Machine", "interpolate", "()V"⟩, prog_6_method_57_code, 16, (Option.none : Option Jvm.ClassFile.FieldType), [], [(0, [(.aload_n 0, 1, 0, 0, 0, .null), (.iconst 0, 1, 0, 0, 0, (.int (0 : Int32)))]), (5, [(.astore_n 1, 1, 0, 0, 0, .null), (.aload_n 0, 1, 0, 0, 0, .null), (.iconst 1, 1, 0, 0, 0, (.int (1 : Int32)))]), (11, [(.astore_n 2, 1, 0, 0, 0, .null), (.aload_n 0, 1, 0, 0, 0, .null), (.aload_n 1, 1, 0, 0, 0, .null), (.aload_n 0, 1, 0, 0, 0, .null), (.getfield 67, 3, 4, 36, 4, .null), (.iconst 1, 1, 0, 0, 0, (.int (1 : Int32))), (.iaload, 1, 0, 0, 0, .null)]), (23, [(.istore_n 3, 1, 0, 0, 0, .null), (.aload_n 0, 1, 0, 0, 0, .null), (.aload_n 2, 1, 0, 0, 0, .null), (.aload_n 0, 1, 0, 0, 0, .null), (.getfield 67, 3, 4, 36, 4, .null), (.iconst 2, 1, 0, 0, 0, (.int (2 : Int32))), (.iaload, 1, 0, 0, 0, .null)]), (35, [(.istore 4, 2, 0, 0, 0, .null), (.aload_n 0, 1, 0, 0, 0, .null), (.aload_n 2, 1, 0, 0, 0, .null), (.iload 4, 2, 0, 0, 0, .null), (.aload_n 1, 1, 0, 0, 0, .null), (.iload_n 3, 1, 0, 0, 0, .null)]), (46, [(.i2l, 1, 0, 0, 0, .null), (.lstore 5, 2, 0, 0, 0, .null)]), (49, [(.aload_n 0, 1, 0, 0, 0, .null), (.aload_n 2, 1, 0, 0, 0, .null), (.iload 4, 2, 0, 0, 0, .null), (.aload_n 1, 1, 0, 0, 0, .null), (.iload_n 3, 1, 0, 0, 0, .null)]), (58, [(.i2l, 1, 0, 0, 0, .null), (.lstore 7, 2, 0, 0, 0, .null)]), (61, [(.iconst 0, 1, 0, 0, 0, (.int (0 : Int32))), (.istore 9, 2, 0, 0, 0, .null)]), (64, [(.iload 9, 2, 0, 0, 0, .null), (.aload_n 0, 1, 0, 0, 0, .null), (.getfield 180, 3, 4, 38, 0, .null)]), (73, [(.aload_n 0, 1, 0, 0, 0, .null), (.iconst 2, 1, 0, 0, 0, (.int (2 : Int32)))]), (78, [(.astore 10, 2, 0, 0, 0, .null), (.aload_n 0, 1, 0, 0, 0, .null), (.aload 10, 2, 0, 0, 0, .null), (.aload_n 0, 1, 0, 0, 0, .null)]), (90, [(.istore 11, 2, 0, 0, 0, .null), (.aload_n 0, 1, 0, 0, 0, .null), (.aload 10, 2, 0, 0, 0, .null), (.iload 11, 2, 0, 0, 0, .null), (.aload_n 1, 1, 0, 0, 0, .null), (.iload_n 3, 1, 0, 0, 0, .null)]), (102, [(.i2l, 1, 0, 0, 0, .null), (.lstore 12, 2, 0, 0, 0, .null)]), (105, [(.lload 5, 2, 0, 0, 0, .null), (.lconst 0, 1, 0, 0, 0, (.long (0 : Int64))), (.lcmp, 1, 0, 0, 0, .null)]), (117, [(.lload 12, 2, 0, 0, 0, .null), (.lload 7, 2, 0, 0, 0, .null), (.lmul, 1, 0, 0, 0, .null), (.lload 5, 2, 0, 0, 0, .null)]), (112, [(.lload 12, 2, 0, 0, 0, .null)]), (127, [(.lstore 14, 2, 0, 0, 0, .null), (.aload_n 0, 1, 0, 0, 0, .null), (.aload 10, 2, 0, 0, 0, .null), (.iload 11, 2, 0, 0, 0, .null), (.lload 14, 2, 0, 0, 0, .null), (.aload_n 0, 1, 0, 0, 0, .null), (.aload 10, 2, 0, 0, 0, .null), (.iload 11, 2, 0, 0, 0, .null), (.aload_n 1, 1, 0, 0, 0, .null), (.iload_n 3, 1, 0, 0, 0, .null)]), (146, [(.i2l, 1, 0, 0, 0, .null), (.lsub, 1, 0, 0, 0, .null)]), (151, [(.iinc 9 1, 3, 0, 0, 0, (.int (1 : Int32)))]), (157, [(.aload_n 0, 1, 0, 0, 0, .null), (.iconst 1, 1, 0, 0, 0, (.int (1 : Int32))), (.putfield 180, 3, 4, 38, 0, .null)])], [(2, .invokevirtual 362, 3), (8, .invokevirtual 362, 3), (20, .invokevirtual 366, 3), (32, .invokevirtual 366, 3), (43, .invokevirtual 493, 3), (55, .invokevirtual 425, 3), (75, .invokevirtual 362, 3), (84, .invokevirtual 337, 3), (87, .invokevirtual 366, 3), (99, .invokevirtual 493, 3), (124, .invokestatic 154, 3), (114, .goto 13, 3), (109, .ifCond .ne 8, 3), (143, .invokevirtual 425, 3), (148, .invokevirtual 429, 3), (154, .goto (-90), 3), (70, .if_icmp .ge 87, 3), (162, .return_, 1)])
set_option maxRecDepth 100000 in
theorem m_Ma_interpolate : hx_mok M_Ma_interpolate = true := by decide +kernel
theorem pd_Ma_interpolate : (parseMethodDescriptor M_Ma_interpolate.2.1.desc).map (fun q => q.parameters.length) = some 0 := by decide +kernel
theorem y_Ma_interpolate : hx_okV M_Ma_interpolate := ⟨⟨lw_g (lw_at lw_m6 187 rfl) rfl, lw_g (lw_at lw_m6 186 rfl) rfl, qs87, lw_g (lw_at lw_m1 5 rfl) rfl, rfl, by decide, by decide, by decide⟩, rfl, by decide, plainFor_of_name (by decide)⟩
noncomputable def f_Ma_interpolate (h : hH) : Option (hH ⊕ (Unit × hH)) :=
  bP (f_Ma_zone (0 : Int32) h) fun a1 =>
  bP (f_Ma_zone (1 : Int32) h) fun a2 =>
  gd (isA 6 a1) <|
  bT (f_Ma_point a1 (rdI h 54 1) h) fun a4 h1 =>
  gd (isA 6 a2) <|
  bT (f_Ma_point a2 (rdI h1 54 2) h1) fun a6 h2 =>
  bP (f_Ma_oldDistance a2 a6 a1 a4 h2) fun a7 =>
  lz (A := Int64) (Int32.toInt64 a7) fun v8 =>
  bP (f_Ma_distance a2 a6 a1 a4 h2) fun a9 =>
  lz (A := Int64) (Int32.toInt64 a9) fun v10 =>
  bJT (P := hH) (
    whT (A := (Int32 × hH)) (B := hH) (fun p11 =>
        if (rdI p11.2 22 38) ≤ p11.1 then (
          some (.inr (.inr p11.2))
        ) else (
          bP (f_Ma_zone (2 : Int32) p11.2) fun a13 =>
          bS (f_Ma_pop p11.2) fun a14 h3 =>
          gd (isA 6 a13) <|
          bT (f_Ma_point a13 a14 h3) fun a16 h4 =>
          bP (f_Ma_oldDistance a13 a16 a1 a4 h4) fun a17 =>
          lz (A := Int64) (Int32.toInt64 a17) fun v18 =>
          bJT (P := Int64) (
            if v8 = (0 : Int64) then (
              some (.inr v18)
            ) else (
              bP (f_HH_over (v18 * v10) v8) fun a20 =>
              some (.inr a20)
            )
          ) fun p19 =>
          bP (f_Ma_distance a13 a16 a1 a4 h4) fun a22 =>
          bS (f_Ma_move a13 a16 (p19 - (Int32.toInt64 a22)) h4) fun _ h5 =>
          lz (A := Int32) (p11.1 + (1 : Int32)) fun v23 =>
          some (.inr (.inl (v23, h5)))
        )
    ) ((0 : Int32), h2)
  ) fun p12 =>
  lz (wrI p12 22 38 (1 : Int32)) fun h6 =>
  some (.inr ((), h6))
set_option maxRecDepth 20000 in
theorem k_Ma_interpolate (h : hH) : hx_kT S0 M_Ma_interpolate 8 NT [(.ref 22)] h (f_Ma_interpolate h) cvU := by
  have hm := m_Ma_interpolate
  show hx_P S0 M_Ma_interpolate 8 0 [(0, (.ref 22))] [] NT h (f_Ma_interpolate h) (hx_T NT (hx_Rc cvU NT))
  unfold f_Ma_interpolate
  refine hp_cVP (M2 := M_Ma_zone) hm (at1 0 rfl) (as := [(.int (0 : Int32))]) (rest := []) (z := 22) rfl (by exact trivial) (pc' := 2) rfl 0 rfl (lw_g (lw_at lw_m5 225 rfl) rfl) y_Ma_zone rfl (d2 := 1) ⟨le_b rfl, pd_Ma_zone, le_b rfl⟩ (le_b rfl) og_22 (k_Ma_zone (0 : Int32) h) (fun a1 => ?_)
  refine hp_b hm (at1 1 rfl) (L' := [(1, (.ref a1)), (0, (.ref 22))]) (st' := [(.int (1 : Int32)), (.ref 22)]) rfl (by exact trivial) (pc' := 8) rfl ?_
  refine hp_cVP (M2 := M_Ma_zone) hm at0 (as := [(.int (1 : Int32))]) (rest := []) (z := 22) rfl (by exact trivial) (pc' := 8) rfl 1 rfl (lw_g (lw_at lw_m5 225 rfl) rfl) y_Ma_zone rfl (d2 := 1) ⟨le_b rfl, pd_Ma_zone, le_b rfl⟩ (le_b rfl) og_22 (k_Ma_zone (1 : Int32) h) (fun a2 => ?_)
  refine hp_b hm (at1 2 rfl) (L' := [(2, (.ref a2)), (1, (.ref a1)), (0, (.ref 22))]) (st' := [(.int (rdI h 54 1)), (.ref a1), (.ref 22)]) rfl (by exact ⟨og_22, ⟨og_54, (show vp_in (1 : Int32) 3 from vp_lit (by decide))⟩⟩) (pc' := 20) rfl ?_
  refine hp_G0 (fun q3 => ?_)
  refine hp_cVT (M2 := M_Ma_point) hm at0 (as := [(.ref a1), (.int (rdI h 54 1))]) (rest := []) (z := 22) rfl (by exact trivial) (pc' := 20) rfl 2 rfl (lw_g (lw_at lw_m5 229 rfl) rfl) y_Ma_point rfl (d2 := 7) ⟨le_b rfl, pd_Ma_point, le_b rfl⟩ (le_b rfl) og_22 rfl (k_Ma_point a1 (rdI h 54 1) h q3) (fun a4 h1 => ?_)
  refine hp_b hm (at1 3 rfl) (L' := [(3, (.int a4)), (2, (.ref a2)), (1, (.ref a1)), (0, (.ref 22))]) (st' := [(.int (rdI h1 54 2)), (.ref a2), (.ref 22)]) rfl (by exact ⟨og_22, ⟨og_54, (show vp_in (2 : Int32) 3 from vp_lit (by decide))⟩⟩) (pc' := 32) rfl ?_
  refine hp_G0 (fun q5 => ?_)
  refine hp_cVT (M2 := M_Ma_point) hm at0 (as := [(.ref a2), (.int (rdI h1 54 2))]) (rest := []) (z := 22) rfl (by exact trivial) (pc' := 32) rfl 3 rfl (lw_g (lw_at lw_m5 229 rfl) rfl) y_Ma_point rfl (d2 := 7) ⟨le_b rfl, pd_Ma_point, le_b rfl⟩ (le_b rfl) og_22 rfl (k_Ma_point a2 (rdI h1 54 2) h1 q5) (fun a6 h2 => ?_)
  refine hp_b hm (at1 4 rfl) (L' := [(4, (.int a6)), (3, (.int a4)), (2, (.ref a2)), (1, (.ref a1)), (0, (.ref 22))]) (st' := [(.int a4), (.ref a1), (.int a6), (.ref a2), (.ref 22)]) rfl (by exact trivial) (pc' := 43) rfl ?_
  refine hp_cVP (M2 := M_Ma_oldDistance) hm at0 (as := [(.ref a2), (.int a6), (.ref a1), (.int a4)]) (rest := []) (z := 22) rfl (by exact trivial) (pc' := 43) rfl 4 rfl (lw_g (lw_at lw_m6 5 rfl) rfl) y_Ma_oldDistance rfl (d2 := 4) ⟨le_b rfl, pd_Ma_oldDistance, le_b rfl⟩ (le_b rfl) og_22 (k_Ma_oldDistance a2 a6 a1 a4 h2 q5 q3) (fun a7 => ?_)
  refine hp_z hm (at1 5 rfl) (fun (v8 : Int64) => [(5, (.long v8)), (4, (.int a6)), (3, (.int a4)), (2, (.ref a2)), (1, (.ref a1)), (0, (.ref 22))]) (fun (v8 : Int64) => []) rfl (by exact trivial) (pc' := 49) rfl (fun v8 => ?_)
  refine hp_cVP (M2 := M_Ma_distance) hm (at1 6 rfl) (as := [(.ref a2), (.int a6), (.ref a1), (.int a4)]) (rest := []) (z := 22) rfl (by exact trivial) (pc' := 55) rfl 5 rfl (lw_g (lw_at lw_m6 21 rfl) rfl) y_Ma_distance rfl (d2 := 4) ⟨le_b rfl, pd_Ma_distance, le_b rfl⟩ (le_b rfl) og_22 (k_Ma_distance a2 a6 a1 a4 h2 q5 q3) (fun a9 => ?_)
  refine hp_z hm (at1 7 rfl) (fun (v10 : Int64) => [(7, (.long v10)), (5, (.long v8)), (4, (.int a6)), (3, (.int a4)), (2, (.ref a2)), (1, (.ref a1)), (0, (.ref 22))]) (fun (v10 : Int64) => []) rfl (by exact trivial) (pc' := 61) rfl (fun v10 => ?_)
  refine hp_b hm (at1 8 rfl) (L' := [(9, (.int (0 : Int32))), (7, (.long v10)), (5, (.long v8)), (4, (.int a6)), (3, (.int a4)), (2, (.ref a2)), (1, (.ref a1)), (0, (.ref 22))]) (st' := []) rfl (by exact trivial) (pc' := 64) rfl ?_
  refine hp_JT 157 (fun (p12 : hH) => [(0, (.ref 22))]) (fun (p12 : hH) => []) (fun (p12 : hH) => p12) ?_ (fun p12 => ?_)
  · refine hp_s [7, 6, 4, 2, 1, 0] rfl (L' := [(0, (.ref 22)), (1, (.ref a1)), (3, (.int a4)), (5, (.long v8)), (7, (.long v10)), (9, (.int (0 : Int32)))]) ?_
    refine hp_whT (fun (p11 : (Int32 × hH)) => [(0, (.ref 22)), (1, (.ref a1)), (3, (.int a4)), (5, (.long v8)), (7, (.long v10)), (9, (.int p11.1))]) [] (fun (p11 : (Int32 × hH)) => p11.2) (fun p11 => ?_) ((0 : Int32), h2)
    refine hp_ic_ge hm (at1 9 rfl) rfl (by exact og_22) (pc' := 70) rfl 16 rfl (tgt := 157) rfl (fun c24 => ?_) (fun c24 => ?_)
    · exact hp_lf [0] rfl (fun _ e => e)
    · refine hp_cVP (M2 := M_Ma_zone) hm (at1 10 rfl) (as := [(.int (2 : Int32))]) (rest := []) (z := 22) rfl (by exact trivial) (pc' := 75) rfl 6 rfl (lw_g (lw_at lw_m5 225 rfl) rfl) y_Ma_zone rfl (d2 := 1) ⟨le_b rfl, pd_Ma_zone, le_b rfl⟩ (le_b rfl) og_22 (k_Ma_zone (2 : Int32) p11.2) (fun a13 => ?_)
      refine hp_b hm (at1 11 rfl) (L' := [(10, (.ref a13)), (0, (.ref 22)), (1, (.ref a1)), (3, (.int a4)), (5, (.long v8)), (7, (.long v10)), (9, (.int p11.1))]) (st' := [(.ref 22), (.ref a13), (.ref 22)]) rfl (by exact trivial) (pc' := 84) rfl ?_
      refine hp_cVS (M2 := M_Ma_pop) hm at0 (as := []) (rest := [(.ref a13), (.ref 22)]) (z := 22) rfl (by exact trivial) (pc' := 84) rfl 7 rfl (lw_g (lw_at lw_m5 221 rfl) rfl) y_Ma_pop rfl (d2 := 1) ⟨le_b rfl, pd_Ma_pop, le_b rfl⟩ (le_b rfl) og_22 (k_Ma_pop p11.2) (fun a14 h3 => ?_)
      refine hp_G0 (fun q15 => ?_)
      refine hp_cVT (M2 := M_Ma_point) hm at0 (as := [(.ref a13), (.int a14)]) (rest := []) (z := 22) rfl (by exact trivial) (pc' := 87) rfl 8 rfl (lw_g (lw_at lw_m5 229 rfl) rfl) y_Ma_point rfl (d2 := 7) ⟨le_b rfl, pd_Ma_point, le_b rfl⟩ (le_b rfl) og_22 rfl (k_Ma_point a13 a14 h3 q15) (fun a16 h4 => ?_)
      refine hp_b hm (at1 12 rfl) (L' := [(11, (.int a16)), (10, (.ref a13)), (0, (.ref 22)), (1, (.ref a1)), (3, (.int a4)), (5, (.long v8)), (7, (.long v10)), (9, (.int p11.1))]) (st' := [(.int a4), (.ref a1), (.int a16), (.ref a13), (.ref 22)]) rfl (by exact trivial) (pc' := 99) rfl ?_
      refine hp_cVP (M2 := M_Ma_oldDistance) hm at0 (as := [(.ref a13), (.int a16), (.ref a1), (.int a4)]) (rest := []) (z := 22) rfl (by exact trivial) (pc' := 99) rfl 9 rfl (lw_g (lw_at lw_m6 5 rfl) rfl) y_Ma_oldDistance rfl (d2 := 4) ⟨le_b rfl, pd_Ma_oldDistance, le_b rfl⟩ (le_b rfl) og_22 (k_Ma_oldDistance a13 a16 a1 a4 h4 q15 q3) (fun a17 => ?_)
      refine hp_z hm (at1 13 rfl) (fun (v18 : Int64) => [(12, (.long v18)), (11, (.int a16)), (10, (.ref a13)), (0, (.ref 22)), (1, (.ref a1)), (3, (.int a4)), (5, (.long v8)), (7, (.long v10)), (9, (.int p11.1))]) (fun (v18 : Int64) => []) rfl (by exact trivial) (pc' := 105) rfl (fun v18 => ?_)
      refine hp_JT 127 (fun (p19 : Int64) => [(0, (.ref 22)), (1, (.ref a1)), (3, (.int a4)), (5, (.long v8)), (7, (.long v10)), (9, (.int p11.1)), (10, (.ref a13)), (11, (.int a16))]) (fun (p19 : Int64) => [(.long p19)]) (fun (p19 : Int64) => h4) ?_ (fun p19 => ?_)
      · refine hp_lc_ne hm (at1 14 rfl) rfl (by exact trivial) (pc' := 109) rfl 12 rfl (tgt := 117) rfl (fun c21 => ?_) (fun c21 => ?_)
        · refine hp_cNP (M2 := M_HH_over) hm (at1 15 rfl) (as := [(.long (v18 * v10)), (.long v8)]) (rest := []) rfl (by exact trivial) (pc' := 124) rfl 10 rfl (hmn_4_154) y_HH_over rfl (d2 := 2) ⟨le_b rfl, pd_HH_over, le_b rfl⟩ (le_b rfl) (k_HH_over (v18 * v10) v8 h4) (fun a20 => ?_)
          exact hp_lf [3, 4, 5, 6, 7, 8, 2, 1] rfl (fun _ e => e)
        · refine hp_b hm (at1 16 rfl) (L' := [(12, (.long v18)), (11, (.int a16)), (10, (.ref a13)), (0, (.ref 22)), (1, (.ref a1)), (3, (.int a4)), (5, (.long v8)), (7, (.long v10)), (9, (.int p11.1))]) (st' := [(.long v18)]) rfl (by exact trivial) (pc' := 114) rfl ?_
          refine hp_goto hm 11 rfl (tgt := 127) rfl ?_
          exact hp_lf [3, 4, 5, 6, 7, 8, 2, 1] rfl (fun _ e => e)
      · refine hp_b hm (at1 17 rfl) (L' := [(14, (.long p19)), (0, (.ref 22)), (1, (.ref a1)), (3, (.int a4)), (5, (.long v8)), (7, (.long v10)), (9, (.int p11.1)), (10, (.ref a13)), (11, (.int a16))]) (st' := [(.int a4), (.ref a1), (.int a16), (.ref a13), (.ref 22), (.long p19), (.int a16), (.ref a13), (.ref 22)]) rfl (by exact trivial) (pc' := 143) rfl ?_
        refine hp_cVP (M2 := M_Ma_distance) hm at0 (as := [(.ref a13), (.int a16), (.ref a1), (.int a4)]) (rest := [(.long p19), (.int a16), (.ref a13), (.ref 22)]) (z := 22) rfl (by exact trivial) (pc' := 143) rfl 13 rfl (lw_g (lw_at lw_m6 21 rfl) rfl) y_Ma_distance rfl (d2 := 4) ⟨le_b rfl, pd_Ma_distance, le_b rfl⟩ (le_b rfl) og_22 (k_Ma_distance a13 a16 a1 a4 h4 q15 q3) (fun a22 => ?_)
        refine hp_cVS (M2 := M_Ma_move) hm (at1 18 rfl) (as := [(.ref a13), (.int a16), (.long (p19 - (Int32.toInt64 a22)))]) (rest := []) (z := 22) rfl (by exact trivial) (pc' := 148) rfl 14 rfl (lw_g (lw_at lw_m6 25 rfl) rfl) y_Ma_move rfl (d2 := 3) ⟨le_b rfl, pd_Ma_move, le_b rfl⟩ (le_b rfl) og_22 (k_Ma_move a13 a16 (p19 - (Int32.toInt64 a22)) h4 q15) (fun _ h5 => ?_)
        refine hp_z hm (at1 19 rfl) (fun (v23 : Int32) => [(9, (.int v23)), (14, (.long p19)), (0, (.ref 22)), (1, (.ref a1)), (3, (.int a4)), (5, (.long v8)), (7, (.long v10)), (10, (.ref a13)), (11, (.int a16))]) (fun (v23 : Int32) => []) rfl (by exact trivial) (pc' := 154) rfl (fun v23 => ?_)
        refine hp_goto hm 15 rfl (tgt := 64) rfl ?_
        exact hp_lf [2, 3, 4, 5, 6, 0] rfl (fun _ e => e)
  · refine hp_w hm (at1 20 rfl) (L' := [(0, (.ref 22))]) rfl (by exact og_22) (pc' := 162) rfl (fun h6 => ?_)
    exact hp_vr hm 17 rfl rfl (fun _ e => e)
/-! HintHouse$Machine.shifting(I)V -/
def M_Ma_shifting : hM := (4, ⟨"HintHouse$Machine", "shifting", "(I)V"⟩, prog_6_method_51_code, 7, (Option.none : Option Jvm.ClassFile.FieldType), [], [(0, [(.iload_n 1, 1, 0, 0, 0, .null)]), (187, [(.aload_n 0, 1, 0, 0, 0, .null), (.aload_n 0, 1, 0, 0, 0, .null), (.getfield 180, 3, 4, 38, 0, .null)]), (195, [(.aload_n 0, 1, 0, 0, 0, .null), (.aload_n 0, 1, 0, 0, 0, .null), (.getfield 170, 3, 4, 15, 0, .null), (.aload_n 0, 1, 0, 0, 0, .null), (.getfield 180, 3, 4, 38, 0, .null)]), (211, [(.iconst 0, 1, 0, 0, 0, (.int (0 : Int32)))]), (207, [(.iconst 1, 1, 0, 0, 0, (.int (1 : Int32)))]), (212, [(.iconst 1, 1, 0, 0, 0, (.int (1 : Int32)))]), (216, [(.aload_n 0, 1, 0, 0, 0, .null), (.aload_n 0, 1, 0, 0, 0, .null)]), (221, [(.i2l, 1, 0, 0, 0, .null)]), (228, [(.aload_n 0, 1, 0, 0, 0, .null), (.aload_n 0, 1, 0, 0, 0, .null), (.getfield 180, 3, 4, 38, 0, .null)]), (236, [(.aload_n 0, 1, 0, 0, 0, .null)]), (243, [(.aload_n 0, 1, 0, 0, 0, .null), (.aload_n 0, 1, 0, 0, 0, .null), (.getfield 180, 3, 4, 38, 0, .null)]), (251, [(.aload_n 0, 1, 0, 0, 0, .null), (.aload_n 0, 1, 0, 0, 0, .null), (.iconst 0, 1, 0, 0, 0, (.int (0 : Int32)))]), (257, [(.aload_n 0, 1, 0, 0, 0, .null), (.getfield 67, 3, 4, 36, 4, .null), (.iconst 0, 1, 0, 0, 0, (.int (0 : Int32))), (.iaload, 1, 0, 0, 0, .null)]), (266, [(.istore 4, 2, 0, 0, 0, .null), (.iconst 0, 1, 0, 0, 0, (.int (0 : Int32))), (.istore 5, 2, 0, 0, 0, .null)]), (271, [(.iload 5, 2, 0, 0, 0, .null), (.aload_n 0, 1, 0, 0, 0, .null), (.getfield 180, 3, 4, 38, 0, .null)]), (280, [(.aload_n 0, 1, 0, 0, 0, .null), (.aload_n 0, 1, 0, 0, 0, .null), (.iconst 1, 1, 0, 0, 0, (.int (1 : Int32)))]), (286, [(.aload_n 0, 1, 0, 0, 0, .null)]), (293, [(.istore 6, 2, 0, 0, 0, .null), (.aload_n 0, 1, 0, 0, 0, .null), (.aload_n 0, 1, 0, 0, 0, .null), (.iconst 1, 1, 0, 0, 0, (.int (1 : Int32)))]), (301, [(.iload 6, 2, 0, 0, 0, .null), (.aload_n 0, 1, 0, 0, 0, .null), (.aload_n 0, 1, 0, 0, 0, .null), (.iconst 1, 1, 0, 0, 0, (.int (1 : Int32)))]), (309, [(.iload 6, 2, 0, 0, 0, .null), (.aload_n 0, 1, 0, 0, 0, .null), (.iconst 0, 1, 0, 0, 0, (.int (0 : Int32)))]), (316, [(.iload 4, 2, 0, 0, 0, .null)]), (321, [(.i2l, 1, 0, 0, 0, .null), (.lneg, 1, 0, 0, 0, .null)]), (326, [(.iinc 5 1, 3, 0, 0, 0, (.int (1 : Int32)))]), (332, [(.aload_n 0, 1, 0, 0, 0, .null), (.iconst 1, 1, 0, 0, 0, (.int (1 : Int32))), (.putfield 180, 3, 4, 38, 0, .null)]), (340, [(.aload_n 0, 1, 0, 0, 0, .null), (.iload_n 1, 1, 0, 0, 0, .null)]), (160, [(.aload_n 0, 1, 0, 0, 0, .null), (.iconst 1, 1, 0, 0, 0, (.int (1 : Int32)))]), (165, [(.aload_n 0, 1, 0, 0, 0, .null), (.iload_n 1, 1, 0, 0, 0, .null), (.bipush 55, 2, 0, 0, 0, (.int (55 : Int32)))]), (176, [(.iconst 0, 1, 0, 0, 0, (.int (0 : Int32)))]), (172, [(.iconst 1, 1, 0, 0, 0, (.int (1 : Int32)))]), (177, [(.aload_n 0, 1, 0, 0, 0, .null)]), (133, [(.aload_n 0, 1, 0, 0, 0, .null), (.iconst 1, 1, 0, 0, 0, (.int (1 : Int32)))]), (138, [(.aload_n 0, 1, 0, 0, 0, .null), (.iload_n 1, 1, 0, 0, 0, .null), (.bipush 53, 2, 0, 0, 0, (.int (53 : Int32)))]), (149, [(.iconst 0, 1, 0, 0, 0, (.int (0 : Int32)))]), (145, [(.iconst 1, 1, 0, 0, 0, (.int (1 : Int32)))]), (150, [(.aload_n 0, 1, 0, 0, 0, .null)]), (60, [(.aload_n 0, 1, 0, 0, 0, .null), (.aload_n 0, 1, 0, 0, 0, .null), (.getfield 180, 3, 4, 38, 0, .null)]), (68, [(.aload_n 0, 1, 0, 0, 0, .null), (.iload_n 1, 1, 0, 0, 0, .null), (.bipush 51, 2, 0, 0, 0, (.int (51 : Int32)))]), (79, [(.iconst 0, 1, 0, 0, 0, (.int (0 : Int32)))]), (75, [(.iconst 1, 1, 0, 0, 0, (.int (1 : Int32)))]), (83, [(.lstore_n 2, 1, 0, 0, 0, .null), (.iconst 0, 1, 0, 0, 0, (.int (0 : Int32))), (.istore 4, 2, 0, 0, 0, .null)]), (87, [(.iload 4, 2, 0, 0, 0, .null), (.aload_n 0, 1, 0, 0, 0, .null), (.getfield 180, 3, 4, 38, 0, .null)]), (96, [(.aload_n 0, 1, 0, 0, 0, .null), (.aload_n 0, 1, 0, 0, 0, .null), (.iconst 2, 1, 0, 0, 0, (.int (2 : Int32)))]), (102, [(.aload_n 0, 1, 0, 0, 0, .null), (.aload_n 0, 1, 0, 0, 0, .null), (.iconst 2, 1, 0, 0, 0, (.int (2 : Int32)))]), (108, [(.aload_n 0, 1, 0, 0, 0, .null)]), (115, [(.lload_n 2, 1, 0, 0, 0, .null)]), (119, [(.iinc 4 1, 3, 0, 0, 0, (.int (1 : Int32)))]), (125, [(.aload_n 0, 1, 0, 0, 0, .null), (.iconst 1, 1, 0, 0, 0, (.int (1 : Int32))), (.putfield 180, 3, 4, 38, 0, .null)])], [(1, .tableswitch 339 50 60 #[59, 59, 132, 132, 159, 159, 186, 227, 339, 339, 242], 59), (192, .invokevirtual 334, 3), (208, .goto 4, 3), (204, .if_icmp .le 7, 3), (213, .invokevirtual 187, 3), (218, .invokevirtual 337, 3), (222, .invokevirtual 480, 3), (345, .return_, 1), (225, .goto 120, 3), (233, .invokevirtual 334, 3), (237, .invokevirtual 483, 3), (240, .goto 105, 3), (248, .invokevirtual 334, 3), (254, .invokevirtual 362, 3), (263, .invokevirtual 366, 3), (283, .invokevirtual 362, 3), (287, .invokevirtual 337, 3), (290, .invokevirtual 366, 3), (298, .invokevirtual 362, 3), (306, .invokevirtual 362, 3), (313, .invokevirtual 362, 3), (318, .invokevirtual 425, 3), (323, .invokevirtual 429, 3), (329, .goto (-58), 3), (277, .if_icmp .ge 55, 3), (337, .goto 8, 3), (342, .invokevirtual 383, 3), (162, .invokevirtual 334, 3), (173, .goto 4, 3), (169, .if_icmp .ne 7, 3), (178, .invokevirtual 337, 3), (181, .invokevirtual 477, 3), (184, .goto 161, 3), (135, .invokevirtual 334, 3), (146, .goto 4, 3), (142, .if_icmp .ne 7, 3), (151, .invokevirtual 337, 3), (154, .invokevirtual 474, 3), (157, .goto 188, 3), (65, .invokevirtual 334, 3), (76, .goto 4, 3), (72, .if_icmp .ne 7, 3), (80, .invokevirtual 470, 3), (99, .invokevirtual 362, 3), (105, .invokevirtual 362, 3), (109, .invokevirtual 337, 3), (112, .invokevirtual 366, 3), (116, .invokevirtual 429, 3), (122, .goto (-35), 3), (93, .if_icmp .ge 32, 3), (130, .goto 215, 3)])
set_option maxRecDepth 100000 in
theorem m_Ma_shifting : hx_mok M_Ma_shifting = true := by decide +kernel
theorem pd_Ma_shifting : (parseMethodDescriptor M_Ma_shifting.2.1.desc).map (fun q => q.parameters.length) = some 1 := by decide +kernel
theorem y_Ma_shifting : hx_okV M_Ma_shifting := ⟨⟨lw_g (lw_at lw_m6 163 rfl) rfl, lw_g (lw_at lw_m6 162 rfl) rfl, qs81, lw_g (lw_at lw_m1 5 rfl) rfl, rfl, by decide, by decide, by decide⟩, rfl, by decide, plainFor_of_name (by decide)⟩
noncomputable def f_Ma_shifting (x1 : Int32) (h : hH) : Option (hH ⊕ (Unit × hH)) :=
  bET (P := Unit) (X := (Unit × hH)) (
    bET (P := Unit) (X := (Unit ⊕ (Unit × hH))) (
      bET (P := Unit) (X := (Unit ⊕ (Unit ⊕ (Unit × hH)))) (
        bET (P := Unit) (X := (Unit ⊕ (Unit ⊕ (Unit ⊕ (Unit × hH))))) (
          if x1 = (50 : Int32) ∨ x1 = (51 : Int32) then (
            some (.inr (.inr (.inr (.inr (.inl ())))))
          ) else (
            if x1 = (52 : Int32) ∨ x1 = (53 : Int32) then (
              some (.inr (.inr (.inr (.inl ()))))
            ) else (
              if x1 = (54 : Int32) ∨ x1 = (55 : Int32) then (
                some (.inr (.inr (.inl ())))
              ) else (
                if x1 = (56 : Int32) then (
                  bT (f_Ma_need (rdI h 22 38) h) fun _ h1 =>
                  lz (A := Int32) (if (rdI h1 22 15) ≤ (rdI h1 22 38) then (0 : Int32) else (1 : Int32)) fun p8 =>
                  bT (f_Ma_want p8 (1 : Int32) h1) fun _ h2 =>
                  bS (f_Ma_pop h2) fun a10 h3 =>
                  bT (f_Ma_shiftBy (Int32.toInt64 a10) h3) fun _ h4 =>
                  some (.inr (.inr (.inr (.inr (.inr ((), h4))))))
                ) else (
                  if x1 = (57 : Int32) then (
                    bT (f_Ma_need (rdI h 22 38) h) fun _ h5 =>
                    bT (f_Ma_interpolate h5) fun _ h6 =>
                    some (.inr (.inr (.inr (.inr (.inr ((), h6))))))
                  ) else (
                    if x1 = (60 : Int32) then (
                      bT (f_Ma_need (rdI h 22 38) h) fun _ h7 =>
                      bP (f_Ma_zone (0 : Int32) h7) fun a13 =>
                      gd (isA 6 a13) <|
                      bT (f_Ma_point a13 (rdI h7 54 0) h7) fun a15 h8 =>
                      bJT (P := hH) (
                        whT (A := (Int32 × hH)) (B := hH) (fun p16 =>
                            if (rdI p16.2 22 38) ≤ p16.1 then (
                              some (.inr (.inr p16.2))
                            ) else (
                              bP (f_Ma_zone (1 : Int32) p16.2) fun a18 =>
                              bS (f_Ma_pop p16.2) fun a19 h9 =>
                              gd (isA 6 a18) <|
                              bT (f_Ma_point a18 a19 h9) fun a21 h10 =>
                              bP (f_Ma_zone (1 : Int32) h10) fun a22 =>
                              bP (f_Ma_zone (1 : Int32) h10) fun a23 =>
                              bP (f_Ma_zone (0 : Int32) h10) fun a24 =>
                              gd (isA 6 a23 ∧ isA 6 a24) <|
                              bP (f_Ma_distance a23 a21 a24 a15 h10) fun a26 =>
                              gd (isA 6 a22) <|
                              bS (f_Ma_move a22 a21 (-(Int32.toInt64 a26)) h10) fun _ h11 =>
                              lz (A := Int32) (p16.1 + (1 : Int32)) fun v28 =>
                              some (.inr (.inl (v28, h11)))
                            )
                        ) ((0 : Int32), h8)
                      ) fun p17 =>
                      lz (wrI p17 22 38 (1 : Int32)) fun h12 =>
                      some (.inr (.inr (.inr (.inr (.inr ((), h12))))))
                    ) else (
                      some (.inr (.inl ()))
                    )
                  )
                )
              )
            )
          )
        ) fun p4 =>
        bT (f_Ma_unknown x1 h) fun _ h13 =>
        some (.inr (.inr (.inr (.inr ((), h13)))))
      ) fun p3 =>
      bT (f_Ma_need (1 : Int32) h) fun _ h14 =>
      lz (A := Int32) (if x1 = (55 : Int32) then (1 : Int32) else (0 : Int32)) fun p31 =>
      bS (f_Ma_pop h14) fun a33 h15 =>
      bT (f_Ma_shiftZone p31 a33 h15) fun _ h16 =>
      some (.inr (.inr (.inr ((), h16))))
    ) fun p2 =>
    bT (f_Ma_need (1 : Int32) h) fun _ h17 =>
    lz (A := Int32) (if x1 = (53 : Int32) then (1 : Int32) else (0 : Int32)) fun p34 =>
    bS (f_Ma_pop h17) fun a36 h18 =>
    bT (f_Ma_shiftContour p34 a36 h18) fun _ h19 =>
    some (.inr (.inr ((), h19)))
  ) fun p1 =>
  bT (f_Ma_need (rdI h 22 38) h) fun _ h20 =>
  lz (A := Int32) (if x1 = (51 : Int32) then (1 : Int32) else (0 : Int32)) fun p37 =>
  bT (f_Ma_reference p37 h20) fun a39 h21 =>
  bJT (P := hH) (
    whT (A := (Int32 × hH)) (B := hH) (fun p40 =>
        if (rdI p40.2 22 38) ≤ p40.1 then (
          some (.inr (.inr p40.2))
        ) else (
          bP (f_Ma_zone (2 : Int32) p40.2) fun a42 =>
          bP (f_Ma_zone (2 : Int32) p40.2) fun a43 =>
          bS (f_Ma_pop p40.2) fun a44 h22 =>
          gd (isA 6 a43) <|
          bT (f_Ma_point a43 a44 h22) fun a46 h23 =>
          gd (isA 6 a42) <|
          bS (f_Ma_move a42 a46 a39 h23) fun _ h24 =>
          lz (A := Int32) (p40.1 + (1 : Int32)) fun v48 =>
          some (.inr (.inl (v48, h24)))
        )
    ) ((0 : Int32), h21)
  ) fun p41 =>
  lz (wrI p41 22 38 (1 : Int32)) fun h25 =>
  some (.inr ((), h25))
set_option maxRecDepth 20000 in
theorem k_Ma_shifting (x1 : Int32) (h : hH) : hx_kT S0 M_Ma_shifting 10 NT [(.ref 22), (.int x1)] h (f_Ma_shifting x1 h) cvU := by
  have hm := m_Ma_shifting
  show hx_P S0 M_Ma_shifting 10 0 [(0, (.ref 22)), (1, (.int x1))] [] NT h (f_Ma_shifting x1 h) (hx_T NT (hx_Rc cvU NT))
  unfold f_Ma_shifting
  refine hp_ET 60 (fun (p1 : Unit) => [(0, (.ref 22)), (1, (.int x1))]) (fun (p1 : Unit) => []) (fun (p1 : Unit) => h) ?_ (fun p1 => ?_)
  · refine hp_ET 133 (fun (p2 : Unit) => [(0, (.ref 22)), (1, (.int x1))]) (fun (p2 : Unit) => []) (fun (p2 : Unit) => h) ?_ (fun p2 => ?_)
    · refine hp_ET 160 (fun (p3 : Unit) => [(0, (.ref 22)), (1, (.int x1))]) (fun (p3 : Unit) => []) (fun (p3 : Unit) => h) ?_ (fun p3 => ?_)
      · refine hp_ET 340 (fun (p4 : Unit) => [(0, (.ref 22)), (1, (.int x1))]) (fun (p4 : Unit) => []) (fun (p4 : Unit) => h) ?_ (fun p4 => ?_)
        · refine hp_b hm (at1 0 rfl) (L' := [(0, (.ref 22)), (1, (.int x1))]) (st' := [(.int x1)]) rfl (by exact trivial) (pc' := 1) rfl ?_
          refine hp_sw hm 0 rfl (cs := [50, 51]) (off := 59) (by decide) (tgt := 60) rfl (sw2 _ _ _) ?_ (fun c5 => ?_)
          · exact hp_lf [0, 1] rfl (fun _ e => e)
          · refine hp_sw hm 0 rfl (cs := [52, 53]) (off := 132) (by decide) (tgt := 133) rfl (sw2 _ _ _) ?_ (fun c6 => ?_)
            · exact hp_lf [0, 1] rfl (fun _ e => e)
            · refine hp_sw hm 0 rfl (cs := [54, 55]) (off := 159) (by decide) (tgt := 160) rfl (sw2 _ _ _) ?_ (fun c7 => ?_)
              · exact hp_lf [0, 1] rfl (fun _ e => e)
              · refine hp_sw hm 0 rfl (cs := [56]) (off := 186) (by decide) (tgt := 187) rfl (sw1 _ _) ?_ (fun c11 => ?_)
                · refine hp_cVT (M2 := M_Ma_need) hm (at1 1 rfl) (as := [(.int (rdI h 22 38))]) (rest := []) (z := 22) rfl (by exact og_22) (pc' := 192) rfl 1 rfl (lw_g (lw_at lw_m5 217 rfl) rfl) y_Ma_need rfl (d2 := 7) ⟨le_b rfl, pd_Ma_need, le_b rfl⟩ (le_b rfl) og_22 rfl (k_Ma_need (rdI h 22 38) h) (fun _ h1 => ?_)
                  refine hp_JZ 212 (fun (p8 : Int32) => [(0, (.ref 22))]) (fun (p8 : Int32) => [(.int p8), (.ref 22)]) (fun (p8 : Int32) => h1) ?_ (fun p8 => ?_)
                  · refine hp_sv0 ?_
                    refine hp_ic_le hm (at1 2 rfl) rfl (by exact ⟨og_22, og_22⟩) (pc' := 204) rfl 3 rfl (tgt := 211) rfl (fun c9 => ?_) (fun c9 => ?_)
                    · refine hp_b hm (at1 3 rfl) (L' := [(0, (.ref 22)), (1, (.int x1))]) (st' := [(.int (0 : Int32)), (.ref 22)]) rfl (by exact trivial) (pc' := 212) rfl ?_
                      exact hp_lf [0] rfl (fun _ e => e)
                    · refine hp_b hm (at1 4 rfl) (L' := [(0, (.ref 22)), (1, (.int x1))]) (st' := [(.int (1 : Int32)), (.ref 22)]) rfl (by exact trivial) (pc' := 208) rfl ?_
                      refine hp_goto hm 2 rfl (tgt := 212) rfl ?_
                      exact hp_lf [0] rfl (fun _ e => e)
                  · refine hp_cVT (M2 := M_Ma_want) hm (at1 5 rfl) (as := [(.int p8), (.int (1 : Int32))]) (rest := []) (z := 22) rfl (by exact trivial) (pc' := 213) rfl 4 rfl (lw_g (lw_at lw_m5 139 rfl) rfl) y_Ma_want rfl (d2 := 6) ⟨le_b rfl, pd_Ma_want, le_b rfl⟩ (le_b rfl) og_22 rfl (k_Ma_want p8 (1 : Int32) h1) (fun _ h2 => ?_)
                    refine hp_cVS (M2 := M_Ma_pop) hm (at1 6 rfl) (as := []) (rest := [(.ref 22)]) (z := 22) rfl (by exact trivial) (pc' := 218) rfl 5 rfl (lw_g (lw_at lw_m5 221 rfl) rfl) y_Ma_pop rfl (d2 := 1) ⟨le_b rfl, pd_Ma_pop, le_b rfl⟩ (le_b rfl) og_22 (k_Ma_pop h2) (fun a10 h3 => ?_)
                    refine hp_cVT (M2 := M_Ma_shiftBy) hm (at1 7 rfl) (as := [(.long (Int32.toInt64 a10))]) (rest := []) (z := 22) rfl (by exact trivial) (pc' := 222) rfl 6 rfl (lw_g (lw_at lw_m6 180 rfl) rfl) y_Ma_shiftBy rfl (d2 := 8) ⟨le_b rfl, pd_Ma_shiftBy, le_b rfl⟩ (le_b rfl) og_22 rfl (k_Ma_shiftBy (Int32.toInt64 a10) h3) (fun _ h4 => ?_)
                    refine hp_goto hm 8 rfl (tgt := 345) rfl ?_
                    exact hp_vr hm 7 rfl rfl (fun _ e => e)
                · refine hp_sw hm 0 rfl (cs := [57]) (off := 227) (by decide) (tgt := 228) rfl (sw1 _ _) ?_ (fun c12 => ?_)
                  · refine hp_cVT (M2 := M_Ma_need) hm (at1 8 rfl) (as := [(.int (rdI h 22 38))]) (rest := []) (z := 22) rfl (by exact og_22) (pc' := 233) rfl 9 rfl (lw_g (lw_at lw_m5 217 rfl) rfl) y_Ma_need rfl (d2 := 7) ⟨le_b rfl, pd_Ma_need, le_b rfl⟩ (le_b rfl) og_22 rfl (k_Ma_need (rdI h 22 38) h) (fun _ h5 => ?_)
                    refine hp_cVT (M2 := M_Ma_interpolate) hm (at1 9 rfl) (as := []) (rest := []) (z := 22) rfl (by exact trivial) (pc' := 237) rfl 10 rfl (lw_g (lw_at lw_m6 184 rfl) rfl) y_Ma_interpolate rfl (d2 := 8) ⟨le_b rfl, pd_Ma_interpolate, le_b rfl⟩ (le_b rfl) og_22 rfl (k_Ma_interpolate h5) (fun _ h6 => ?_)
                    refine hp_goto hm 11 rfl (tgt := 345) rfl ?_
                    exact hp_vr hm 7 rfl rfl (fun _ e => e)
                  · refine hp_sw hm 0 rfl (cs := [60]) (off := 242) (by decide) (tgt := 243) rfl (sw1 _ _) ?_ (fun c30 => ?_)
                    · refine hp_cVT (M2 := M_Ma_need) hm (at1 10 rfl) (as := [(.int (rdI h 22 38))]) (rest := []) (z := 22) rfl (by exact og_22) (pc' := 248) rfl 12 rfl (lw_g (lw_at lw_m5 217 rfl) rfl) y_Ma_need rfl (d2 := 7) ⟨le_b rfl, pd_Ma_need, le_b rfl⟩ (le_b rfl) og_22 rfl (k_Ma_need (rdI h 22 38) h) (fun _ h7 => ?_)
                      refine hp_cVP (M2 := M_Ma_zone) hm (at1 11 rfl) (as := [(.int (0 : Int32))]) (rest := [(.ref 22)]) (z := 22) rfl (by exact trivial) (pc' := 254) rfl 13 rfl (lw_g (lw_at lw_m5 225 rfl) rfl) y_Ma_zone rfl (d2 := 1) ⟨le_b rfl, pd_Ma_zone, le_b rfl⟩ (le_b rfl) og_22 (k_Ma_zone (0 : Int32) h7) (fun a13 => ?_)
                      refine hp_G0 (fun q14 => ?_)
                      refine hp_b hm (at1 12 rfl) (L' := [(0, (.ref 22)), (1, (.int x1))]) (st' := [(.int (rdI h7 54 0)), (.ref a13), (.ref 22)]) rfl (by exact ⟨og_22, ⟨og_54, (show vp_in (0 : Int32) 3 from vp_lit (by decide))⟩⟩) (pc' := 263) rfl ?_
                      refine hp_cVT (M2 := M_Ma_point) hm at0 (as := [(.ref a13), (.int (rdI h7 54 0))]) (rest := []) (z := 22) rfl (by exact trivial) (pc' := 263) rfl 14 rfl (lw_g (lw_at lw_m5 229 rfl) rfl) y_Ma_point rfl (d2 := 7) ⟨le_b rfl, pd_Ma_point, le_b rfl⟩ (le_b rfl) og_22 rfl (k_Ma_point a13 (rdI h7 54 0) h7 q14) (fun a15 h8 => ?_)
                      refine hp_b hm (at1 13 rfl) (L' := [(5, (.int (0 : Int32))), (4, (.int a15)), (0, (.ref 22)), (1, (.int x1))]) (st' := []) rfl (by exact trivial) (pc' := 271) rfl ?_
                      refine hp_JT 332 (fun (p17 : hH) => [(0, (.ref 22))]) (fun (p17 : hH) => []) (fun (p17 : hH) => p17) ?_ (fun p17 => ?_)
                      · refine hp_s [2, 1, 0] rfl (L' := [(0, (.ref 22)), (4, (.int a15)), (5, (.int (0 : Int32)))]) ?_
                        refine hp_whT (fun (p16 : (Int32 × hH)) => [(0, (.ref 22)), (4, (.int a15)), (5, (.int p16.1))]) [] (fun (p16 : (Int32 × hH)) => p16.2) (fun p16 => ?_) ((0 : Int32), h8)
                        refine hp_ic_ge hm (at1 14 rfl) rfl (by exact og_22) (pc' := 277) rfl 24 rfl (tgt := 332) rfl (fun c29 => ?_) (fun c29 => ?_)
                        · exact hp_lf [0] rfl (fun _ e => e)
                        · refine hp_cVP (M2 := M_Ma_zone) hm (at1 15 rfl) (as := [(.int (1 : Int32))]) (rest := [(.ref 22)]) (z := 22) rfl (by exact trivial) (pc' := 283) rfl 15 rfl (lw_g (lw_at lw_m5 225 rfl) rfl) y_Ma_zone rfl (d2 := 1) ⟨le_b rfl, pd_Ma_zone, le_b rfl⟩ (le_b rfl) og_22 (k_Ma_zone (1 : Int32) p16.2) (fun a18 => ?_)
                          refine hp_cVS (M2 := M_Ma_pop) hm (at1 16 rfl) (as := []) (rest := [(.ref a18), (.ref 22)]) (z := 22) rfl (by exact trivial) (pc' := 287) rfl 16 rfl (lw_g (lw_at lw_m5 221 rfl) rfl) y_Ma_pop rfl (d2 := 1) ⟨le_b rfl, pd_Ma_pop, le_b rfl⟩ (le_b rfl) og_22 (k_Ma_pop p16.2) (fun a19 h9 => ?_)
                          refine hp_G0 (fun q20 => ?_)
                          refine hp_cVT (M2 := M_Ma_point) hm at0 (as := [(.ref a18), (.int a19)]) (rest := []) (z := 22) rfl (by exact trivial) (pc' := 290) rfl 17 rfl (lw_g (lw_at lw_m5 229 rfl) rfl) y_Ma_point rfl (d2 := 7) ⟨le_b rfl, pd_Ma_point, le_b rfl⟩ (le_b rfl) og_22 rfl (k_Ma_point a18 a19 h9 q20) (fun a21 h10 => ?_)
                          refine hp_b hm (at1 17 rfl) (L' := [(6, (.int a21)), (0, (.ref 22)), (4, (.int a15)), (5, (.int p16.1))]) (st' := [(.int (1 : Int32)), (.ref 22), (.ref 22)]) rfl (by exact trivial) (pc' := 298) rfl ?_
                          refine hp_cVP (M2 := M_Ma_zone) hm at0 (as := [(.int (1 : Int32))]) (rest := [(.ref 22)]) (z := 22) rfl (by exact trivial) (pc' := 298) rfl 18 rfl (lw_g (lw_at lw_m5 225 rfl) rfl) y_Ma_zone rfl (d2 := 1) ⟨le_b rfl, pd_Ma_zone, le_b rfl⟩ (le_b rfl) og_22 (k_Ma_zone (1 : Int32) h10) (fun a22 => ?_)
                          refine hp_cVP (M2 := M_Ma_zone) hm (at1 18 rfl) (as := [(.int (1 : Int32))]) (rest := [(.ref 22), (.int a21), (.ref a22), (.ref 22)]) (z := 22) rfl (by exact trivial) (pc' := 306) rfl 19 rfl (lw_g (lw_at lw_m5 225 rfl) rfl) y_Ma_zone rfl (d2 := 1) ⟨le_b rfl, pd_Ma_zone, le_b rfl⟩ (le_b rfl) og_22 (k_Ma_zone (1 : Int32) h10) (fun a23 => ?_)
                          refine hp_cVP (M2 := M_Ma_zone) hm (at1 19 rfl) (as := [(.int (0 : Int32))]) (rest := [(.int a21), (.ref a23), (.ref 22), (.int a21), (.ref a22), (.ref 22)]) (z := 22) rfl (by exact trivial) (pc' := 313) rfl 20 rfl (lw_g (lw_at lw_m5 225 rfl) rfl) y_Ma_zone rfl (d2 := 1) ⟨le_b rfl, pd_Ma_zone, le_b rfl⟩ (le_b rfl) og_22 (k_Ma_zone (0 : Int32) h10) (fun a24 => ?_)
                          refine hp_G0 (fun q25 => ?_)
                          refine hp_b hm (at1 20 rfl) (L' := [(6, (.int a21)), (0, (.ref 22)), (4, (.int a15)), (5, (.int p16.1))]) (st' := [(.int a15), (.ref a24), (.int a21), (.ref a23), (.ref 22), (.int a21), (.ref a22), (.ref 22)]) rfl (by exact trivial) (pc' := 318) rfl ?_
                          refine hp_cVP (M2 := M_Ma_distance) hm at0 (as := [(.ref a23), (.int a21), (.ref a24), (.int a15)]) (rest := [(.int a21), (.ref a22), (.ref 22)]) (z := 22) rfl (by exact trivial) (pc' := 318) rfl 21 rfl (lw_g (lw_at lw_m6 21 rfl) rfl) y_Ma_distance rfl (d2 := 4) ⟨le_b rfl, pd_Ma_distance, le_b rfl⟩ (le_b rfl) og_22 (k_Ma_distance a23 a21 a24 a15 h10 q25.1 q25.2) (fun a26 => ?_)
                          refine hp_G0 (fun q27 => ?_)
                          refine hp_b hm (at1 21 rfl) (L' := [(6, (.int a21)), (0, (.ref 22)), (4, (.int a15)), (5, (.int p16.1))]) (st' := [(.long (-(Int32.toInt64 a26))), (.int a21), (.ref a22), (.ref 22)]) rfl (by exact trivial) (pc' := 323) rfl ?_
                          refine hp_cVS (M2 := M_Ma_move) hm at0 (as := [(.ref a22), (.int a21), (.long (-(Int32.toInt64 a26)))]) (rest := []) (z := 22) rfl (by exact trivial) (pc' := 323) rfl 22 rfl (lw_g (lw_at lw_m6 25 rfl) rfl) y_Ma_move rfl (d2 := 3) ⟨le_b rfl, pd_Ma_move, le_b rfl⟩ (le_b rfl) og_22 (k_Ma_move a22 a21 (-(Int32.toInt64 a26)) h10 q27) (fun _ h11 => ?_)
                          refine hp_z hm (at1 22 rfl) (fun (v28 : Int32) => [(5, (.int v28)), (6, (.int a21)), (0, (.ref 22)), (4, (.int a15))]) (fun (v28 : Int32) => []) rfl (by exact trivial) (pc' := 329) rfl (fun v28 => ?_)
                          refine hp_goto hm 23 rfl (tgt := 271) rfl ?_
                          exact hp_lf [2, 3, 0] rfl (fun _ e => e)
                      · refine hp_w hm (at1 23 rfl) (L' := [(0, (.ref 22))]) rfl (by exact og_22) (pc' := 337) rfl (fun h12 => ?_)
                        refine hp_goto hm 25 rfl (tgt := 345) rfl ?_
                        exact hp_vr hm 7 rfl rfl (fun _ e => e)
                    · refine hp_sd2 hm 0 rfl (css := [[50, 51], [52, 53], [54, 55], [56], [57], [60]]) (by decide) (by decide) (List.forall_mem_cons.mpr ⟨c5, (List.forall_mem_cons.mpr ⟨c6, (List.forall_mem_cons.mpr ⟨c7, (List.forall_mem_cons.mpr ⟨c11, (List.forall_mem_cons.mpr ⟨c12, (List.forall_mem_cons.mpr ⟨c30, (fun _ h => absurd h List.not_mem_nil)⟩)⟩)⟩)⟩)⟩)⟩) (tgt := 340) rfl ?_
                      exact hp_lf [0, 1] rfl (fun _ e => e)
        · refine hp_cVT (M2 := M_Ma_unknown) hm (at1 24 rfl) (as := [(.int x1)]) (rest := []) (z := 22) rfl (by exact trivial) (pc' := 342) rfl 26 rfl (lw_g (lw_at lw_m6 71 rfl) rfl) y_Ma_unknown rfl (d2 := 8) ⟨le_b rfl, pd_Ma_unknown, le_b rfl⟩ (le_b rfl) og_22 rfl (k_Ma_unknown x1 h) (fun _ h13 => ?_)
          exact hp_vr hm 7 rfl rfl (fun _ e => e)
      · refine hp_cVT (M2 := M_Ma_need) hm (at1 25 rfl) (as := [(.int (1 : Int32))]) (rest := []) (z := 22) rfl (by exact trivial) (pc' := 162) rfl 27 rfl (lw_g (lw_at lw_m5 217 rfl) rfl) y_Ma_need rfl (d2 := 7) ⟨le_b rfl, pd_Ma_need, le_b rfl⟩ (le_b rfl) og_22 rfl (k_Ma_need (1 : Int32) h) (fun _ h14 => ?_)
        refine hp_JZ 177 (fun (p31 : Int32) => [(0, (.ref 22))]) (fun (p31 : Int32) => [(.int p31), (.ref 22)]) (fun (p31 : Int32) => h14) ?_ (fun p31 => ?_)
        · refine hp_sv0 ?_
          refine hp_ic_ne hm (at1 26 rfl) rfl (by exact trivial) (pc' := 169) rfl 29 rfl (tgt := 176) rfl (fun c32 => ?_) (fun c32 => ?_)
          · refine hp_b hm (at1 27 rfl) (L' := [(0, (.ref 22)), (1, (.int x1))]) (st' := [(.int (0 : Int32)), (.ref 22)]) rfl (by exact trivial) (pc' := 177) rfl ?_
            exact hp_lf [0] rfl (fun _ e => e)
          · refine hp_b hm (at1 28 rfl) (L' := [(0, (.ref 22)), (1, (.int x1))]) (st' := [(.int (1 : Int32)), (.ref 22)]) rfl (by exact trivial) (pc' := 173) rfl ?_
            refine hp_goto hm 28 rfl (tgt := 177) rfl ?_
            exact hp_lf [0] rfl (fun _ e => e)
        · refine hp_cVS (M2 := M_Ma_pop) hm (at1 29 rfl) (as := []) (rest := [(.int p31), (.ref 22)]) (z := 22) rfl (by exact trivial) (pc' := 178) rfl 30 rfl (lw_g (lw_at lw_m5 221 rfl) rfl) y_Ma_pop rfl (d2 := 1) ⟨le_b rfl, pd_Ma_pop, le_b rfl⟩ (le_b rfl) og_22 (k_Ma_pop h14) (fun a33 h15 => ?_)
          refine hp_cVT (M2 := M_Ma_shiftZone) hm at0 (as := [(.int p31), (.int a33)]) (rest := []) (z := 22) rfl (by exact trivial) (pc' := 181) rfl 31 rfl (lw_g (lw_at lw_m6 176 rfl) rfl) y_Ma_shiftZone rfl (d2 := 9) ⟨le_b rfl, pd_Ma_shiftZone, le_b rfl⟩ (le_b rfl) og_22 rfl (k_Ma_shiftZone p31 a33 h15) (fun _ h16 => ?_)
          refine hp_goto hm 32 rfl (tgt := 345) rfl ?_
          exact hp_vr hm 7 rfl rfl (fun _ e => e)
    · refine hp_cVT (M2 := M_Ma_need) hm (at1 30 rfl) (as := [(.int (1 : Int32))]) (rest := []) (z := 22) rfl (by exact trivial) (pc' := 135) rfl 33 rfl (lw_g (lw_at lw_m5 217 rfl) rfl) y_Ma_need rfl (d2 := 7) ⟨le_b rfl, pd_Ma_need, le_b rfl⟩ (le_b rfl) og_22 rfl (k_Ma_need (1 : Int32) h) (fun _ h17 => ?_)
      refine hp_JZ 150 (fun (p34 : Int32) => [(0, (.ref 22))]) (fun (p34 : Int32) => [(.int p34), (.ref 22)]) (fun (p34 : Int32) => h17) ?_ (fun p34 => ?_)
      · refine hp_sv0 ?_
        refine hp_ic_ne hm (at1 31 rfl) rfl (by exact trivial) (pc' := 142) rfl 35 rfl (tgt := 149) rfl (fun c35 => ?_) (fun c35 => ?_)
        · refine hp_b hm (at1 32 rfl) (L' := [(0, (.ref 22)), (1, (.int x1))]) (st' := [(.int (0 : Int32)), (.ref 22)]) rfl (by exact trivial) (pc' := 150) rfl ?_
          exact hp_lf [0] rfl (fun _ e => e)
        · refine hp_b hm (at1 33 rfl) (L' := [(0, (.ref 22)), (1, (.int x1))]) (st' := [(.int (1 : Int32)), (.ref 22)]) rfl (by exact trivial) (pc' := 146) rfl ?_
          refine hp_goto hm 34 rfl (tgt := 150) rfl ?_
          exact hp_lf [0] rfl (fun _ e => e)
      · refine hp_cVS (M2 := M_Ma_pop) hm (at1 34 rfl) (as := []) (rest := [(.int p34), (.ref 22)]) (z := 22) rfl (by exact trivial) (pc' := 151) rfl 36 rfl (lw_g (lw_at lw_m5 221 rfl) rfl) y_Ma_pop rfl (d2 := 1) ⟨le_b rfl, pd_Ma_pop, le_b rfl⟩ (le_b rfl) og_22 (k_Ma_pop h17) (fun a36 h18 => ?_)
        refine hp_cVT (M2 := M_Ma_shiftContour) hm at0 (as := [(.int p34), (.int a36)]) (rest := []) (z := 22) rfl (by exact trivial) (pc' := 154) rfl 37 rfl (lw_g (lw_at lw_m6 172 rfl) rfl) y_Ma_shiftContour rfl (d2 := 9) ⟨le_b rfl, pd_Ma_shiftContour, le_b rfl⟩ (le_b rfl) og_22 rfl (k_Ma_shiftContour p34 a36 h18) (fun _ h19 => ?_)
        refine hp_goto hm 38 rfl (tgt := 345) rfl ?_
        exact hp_vr hm 7 rfl rfl (fun _ e => e)
  · refine hp_cVT (M2 := M_Ma_need) hm (at1 35 rfl) (as := [(.int (rdI h 22 38))]) (rest := []) (z := 22) rfl (by exact og_22) (pc' := 65) rfl 39 rfl (lw_g (lw_at lw_m5 217 rfl) rfl) y_Ma_need rfl (d2 := 7) ⟨le_b rfl, pd_Ma_need, le_b rfl⟩ (le_b rfl) og_22 rfl (k_Ma_need (rdI h 22 38) h) (fun _ h20 => ?_)
    refine hp_JZ 80 (fun (p37 : Int32) => [(0, (.ref 22))]) (fun (p37 : Int32) => [(.int p37), (.ref 22)]) (fun (p37 : Int32) => h20) ?_ (fun p37 => ?_)
    · refine hp_sv0 ?_
      refine hp_ic_ne hm (at1 36 rfl) rfl (by exact trivial) (pc' := 72) rfl 41 rfl (tgt := 79) rfl (fun c38 => ?_) (fun c38 => ?_)
      · refine hp_b hm (at1 37 rfl) (L' := [(0, (.ref 22)), (1, (.int x1))]) (st' := [(.int (0 : Int32)), (.ref 22)]) rfl (by exact trivial) (pc' := 80) rfl ?_
        exact hp_lf [0] rfl (fun _ e => e)
      · refine hp_b hm (at1 38 rfl) (L' := [(0, (.ref 22)), (1, (.int x1))]) (st' := [(.int (1 : Int32)), (.ref 22)]) rfl (by exact trivial) (pc' := 76) rfl ?_
        refine hp_goto hm 40 rfl (tgt := 80) rfl ?_
        exact hp_lf [0] rfl (fun _ e => e)
    · refine hp_cVT (M2 := M_Ma_reference) hm at0 (as := [(.int p37)]) (rest := []) (z := 22) rfl (by exact trivial) (pc' := 80) rfl 42 rfl (lw_g (lw_at lw_m6 164 rfl) rfl) y_Ma_reference rfl (d2 := 8) ⟨le_b rfl, pd_Ma_reference, le_b rfl⟩ (le_b rfl) og_22 rfl (k_Ma_reference p37 h20) (fun a39 h21 => ?_)
      refine hp_b hm (at1 39 rfl) (L' := [(4, (.int (0 : Int32))), (2, (.long a39)), (0, (.ref 22))]) (st' := []) rfl (by exact trivial) (pc' := 87) rfl ?_
      refine hp_JT 125 (fun (p41 : hH) => [(0, (.ref 22))]) (fun (p41 : hH) => []) (fun (p41 : hH) => p41) ?_ (fun p41 => ?_)
      · refine hp_s [2, 1, 0] rfl (L' := [(0, (.ref 22)), (2, (.long a39)), (4, (.int (0 : Int32)))]) ?_
        refine hp_whT (fun (p40 : (Int32 × hH)) => [(0, (.ref 22)), (2, (.long a39)), (4, (.int p40.1))]) [] (fun (p40 : (Int32 × hH)) => p40.2) (fun p40 => ?_) ((0 : Int32), h21)
        refine hp_ic_ge hm (at1 40 rfl) rfl (by exact og_22) (pc' := 93) rfl 49 rfl (tgt := 125) rfl (fun c49 => ?_) (fun c49 => ?_)
        · exact hp_lf [0] rfl (fun _ e => e)
        · refine hp_cVP (M2 := M_Ma_zone) hm (at1 41 rfl) (as := [(.int (2 : Int32))]) (rest := [(.ref 22)]) (z := 22) rfl (by exact trivial) (pc' := 99) rfl 43 rfl (lw_g (lw_at lw_m5 225 rfl) rfl) y_Ma_zone rfl (d2 := 1) ⟨le_b rfl, pd_Ma_zone, le_b rfl⟩ (le_b rfl) og_22 (k_Ma_zone (2 : Int32) p40.2) (fun a42 => ?_)
          refine hp_cVP (M2 := M_Ma_zone) hm (at1 42 rfl) (as := [(.int (2 : Int32))]) (rest := [(.ref 22), (.ref a42), (.ref 22)]) (z := 22) rfl (by exact trivial) (pc' := 105) rfl 44 rfl (lw_g (lw_at lw_m5 225 rfl) rfl) y_Ma_zone rfl (d2 := 1) ⟨le_b rfl, pd_Ma_zone, le_b rfl⟩ (le_b rfl) og_22 (k_Ma_zone (2 : Int32) p40.2) (fun a43 => ?_)
          refine hp_cVS (M2 := M_Ma_pop) hm (at1 43 rfl) (as := []) (rest := [(.ref a43), (.ref 22), (.ref a42), (.ref 22)]) (z := 22) rfl (by exact trivial) (pc' := 109) rfl 45 rfl (lw_g (lw_at lw_m5 221 rfl) rfl) y_Ma_pop rfl (d2 := 1) ⟨le_b rfl, pd_Ma_pop, le_b rfl⟩ (le_b rfl) og_22 (k_Ma_pop p40.2) (fun a44 h22 => ?_)
          refine hp_G0 (fun q45 => ?_)
          refine hp_cVT (M2 := M_Ma_point) hm at0 (as := [(.ref a43), (.int a44)]) (rest := [(.ref a42), (.ref 22)]) (z := 22) rfl (by exact trivial) (pc' := 112) rfl 46 rfl (lw_g (lw_at lw_m5 229 rfl) rfl) y_Ma_point rfl (d2 := 7) ⟨le_b rfl, pd_Ma_point, le_b rfl⟩ (le_b rfl) og_22 rfl (k_Ma_point a43 a44 h22 q45) (fun a46 h23 => ?_)
          refine hp_G0 (fun q47 => ?_)
          refine hp_b hm (at1 44 rfl) (L' := [(0, (.ref 22)), (2, (.long a39)), (4, (.int p40.1))]) (st' := [(.long a39), (.int a46), (.ref a42), (.ref 22)]) rfl (by exact trivial) (pc' := 116) rfl ?_
          refine hp_cVS (M2 := M_Ma_move) hm at0 (as := [(.ref a42), (.int a46), (.long a39)]) (rest := []) (z := 22) rfl (by exact trivial) (pc' := 116) rfl 47 rfl (lw_g (lw_at lw_m6 25 rfl) rfl) y_Ma_move rfl (d2 := 3) ⟨le_b rfl, pd_Ma_move, le_b rfl⟩ (le_b rfl) og_22 (k_Ma_move a42 a46 a39 h23 q47) (fun _ h24 => ?_)
          refine hp_z hm (at1 45 rfl) (fun (v48 : Int32) => [(4, (.int v48)), (0, (.ref 22)), (2, (.long a39))]) (fun (v48 : Int32) => []) rfl (by exact trivial) (pc' := 122) rfl (fun v48 => ?_)
          refine hp_goto hm 48 rfl (tgt := 87) rfl ?_
          exact hp_lf [1, 2, 0] rfl (fun _ e => e)
      · refine hp_w hm (at1 46 rfl) (L' := [(0, (.ref 22))]) rfl (by exact og_22) (pc' := 130) rfl (fun h25 => ?_)
        refine hp_goto hm 50 rfl (tgt := 345) rfl ?_
        exact hp_vr hm 7 rfl rfl (fun _ e => e)
/-! HintHouse$Machine.moving(I)V -/
def M_Ma_moving : hM := (4, ⟨"HintHouse$Machine", "moving", "(I)V"⟩, prog_6_method_45_code, 9, (Option.none : Option Jvm.ClassFile.FieldType), [], [(0, [(.iload_n 1, 1, 0, 0, 0, .null)]), (116, [(.aload_n 0, 1, 0, 0, 0, .null), (.iconst 2, 1, 0, 0, 0, (.int (2 : Int32)))]), (121, [(.aload_n 0, 1, 0, 0, 0, .null), (.aload_n 0, 1, 0, 0, 0, .null), (.iconst 0, 1, 0, 0, 0, (.int (0 : Int32)))]), (127, [(.aload_n 0, 1, 0, 0, 0, .null), (.getfield 34, 3, 4, 14, 4, .null), (.aload_n 0, 1, 0, 0, 0, .null), (.getfield 170, 3, 4, 15, 0, .null), (.iconst 1, 1, 0, 0, 0, (.int (1 : Int32))), (.isub, 1, 0, 0, 0, .null), (.iaload, 1, 0, 0, 0, .null)]), (141, [(.istore_n 2, 1, 0, 0, 0, .null), (.aload_n 0, 1, 0, 0, 0, .null), (.aload_n 0, 1, 0, 0, 0, .null), (.iconst 1, 1, 0, 0, 0, (.int (1 : Int32)))]), (148, [(.aload_n 0, 1, 0, 0, 0, .null), (.getfield 34, 3, 4, 14, 4, .null), (.aload_n 0, 1, 0, 0, 0, .null), (.getfield 170, 3, 4, 15, 0, .null), (.iconst 2, 1, 0, 0, 0, (.int (2 : Int32))), (.isub, 1, 0, 0, 0, .null), (.iaload, 1, 0, 0, 0, .null)]), (162, [(.istore_n 3, 1, 0, 0, 0, .null), (.aload_n 0, 1, 0, 0, 0, .null), (.dup, 1, 0, 0, 0, .null), (.getfield 170, 3, 4, 15, 0, .null), (.iconst 2, 1, 0, 0, 0, (.int (2 : Int32))), (.isub, 1, 0, 0, 0, .null), (.putfield 170, 3, 4, 15, 0, .null)]), (173, [(.aload_n 0, 1, 0, 0, 0, .null), (.aload_n 0, 1, 0, 0, 0, .null), (.iconst 0, 1, 0, 0, 0, (.int (0 : Int32)))]), (179, [(.iload_n 2, 1, 0, 0, 0, .null), (.aload_n 0, 1, 0, 0, 0, .null), (.iconst 1, 1, 0, 0, 0, (.int (1 : Int32)))]), (185, [(.iload_n 3, 1, 0, 0, 0, .null)]), (189, [(.iconst 2, 1, 0, 0, 0, (.int (2 : Int32))), (.idiv, 1, 0, 0, 0, .null), (.istore 4, 2, 0, 0, 0, .null)]), (193, [(.aload_n 0, 1, 0, 0, 0, .null), (.aload_n 0, 1, 0, 0, 0, .null), (.iconst 1, 1, 0, 0, 0, (.int (1 : Int32)))]), (199, [(.iload_n 3, 1, 0, 0, 0, .null), (.iload 4, 2, 0, 0, 0, .null), (.i2l, 1, 0, 0, 0, .null)]), (206, [(.aload_n 0, 1, 0, 0, 0, .null), (.aload_n 0, 1, 0, 0, 0, .null), (.iconst 0, 1, 0, 0, 0, (.int (0 : Int32)))]), (212, [(.iload_n 2, 1, 0, 0, 0, .null), (.iload 4, 2, 0, 0, 0, .null), (.ineg, 1, 0, 0, 0, .null), (.i2l, 1, 0, 0, 0, .null)]), (223, [(.aload_n 0, 1, 0, 0, 0, .null), (.iconst 1, 1, 0, 0, 0, (.int (1 : Int32)))]), (228, [(.aload_n 0, 1, 0, 0, 0, .null), (.aload_n 0, 1, 0, 0, 0, .null), (.iconst 0, 1, 0, 0, 0, (.int (0 : Int32)))]), (234, [(.aload_n 0, 1, 0, 0, 0, .null)]), (241, [(.istore 5, 2, 0, 0, 0, .null), (.aload_n 0, 1, 0, 0, 0, .null), (.iconst 0, 1, 0, 0, 0, (.int (0 : Int32)))]), (248, [(.getfield 278, 3, 6, 4, 4, .null), (.iload 5, 2, 0, 0, 0, .null), (.dup2, 1, 0, 0, 0, .null), (.baload, 1, 101, 0, 0, .null), (.aload_n 0, 1, 0, 0, 0, .null), (.getfield 200, 3, 4, 28, 0, .null)]), (266, [(.iconst 0, 1, 0, 0, 0, (.int (0 : Int32)))]), (262, [(.iconst 1, 1, 0, 0, 0, (.int (1 : Int32)))]), (267, [(.iand, 1, 0, 0, 0, .null), (.bastore, 1, 101, 0, 0, .null)]), (269, [(.aload_n 0, 1, 0, 0, 0, .null), (.iconst 0, 1, 0, 0, 0, (.int (0 : Int32)))]), (274, [(.getfield 282, 3, 6, 5, 4, .null), (.iload 5, 2, 0, 0, 0, .null), (.dup2, 1, 0, 0, 0, .null), (.baload, 1, 101, 0, 0, .null), (.aload_n 0, 1, 0, 0, 0, .null), (.getfield 203, 3, 4, 29, 0, .null)]), (292, [(.iconst 0, 1, 0, 0, 0, (.int (0 : Int32)))]), (288, [(.iconst 1, 1, 0, 0, 0, (.int (1 : Int32)))]), (293, [(.iand, 1, 0, 0, 0, .null), (.bastore, 1, 101, 0, 0, .null)]), (381, [(.aload_n 0, 1, 0, 0, 0, .null), (.aload_n 0, 1, 0, 0, 0, .null), (.getfield 23, 3, 4, 2, 4, .null), (.getfield 265, 3, 6, 1, 4, .null), (.aload_n 0, 1, 0, 0, 0, .null), (.getfield 23, 3, 4, 2, 4, .null), (.getfield 255, 3, 6, 3, 4, .null), (.aload_n 0, 1, 0, 0, 0, .null), (.getfield 23, 3, 4, 2, 4, .null), (.getfield 282, 3, 6, 5, 4, .null)]), (409, [(.aload_n 0, 1, 0, 0, 0, .null), (.aload_n 0, 1, 0, 0, 0, .null), (.getfield 23, 3, 4, 2, 4, .null), (.getfield 262, 3, 6, 0, 4, .null), (.aload_n 0, 1, 0, 0, 0, .null), (.getfield 23, 3, 4, 2, 4, .null), (.getfield 252, 3, 6, 2, 4, .null), (.aload_n 0, 1, 0, 0, 0, .null), (.getfield 23, 3, 4, 2, 4, .null), (.getfield 278, 3, 6, 4, 4, .null)]), (460, [(.aload_n 0, 1, 0, 0, 0, .null), (.iconst 2, 1, 0, 0, 0, (.int (2 : Int32)))]), (465, [(.aload_n 0, 1, 0, 0, 0, .null), (.iload_n 1, 1, 0, 0, 0, .null), (.bipush 63, 2, 0, 0, 0, (.int (63 : Int32)))]), (476, [(.iconst 0, 1, 0, 0, 0, (.int (0 : Int32)))]), (472, [(.iconst 1, 1, 0, 0, 0, (.int (1 : Int32)))]), (437, [(.aload_n 0, 1, 0, 0, 0, .null), (.iconst 2, 1, 0, 0, 0, (.int (2 : Int32)))]), (442, [(.aload_n 0, 1, 0, 0, 0, .null), (.iload_n 1, 1, 0, 0, 0, .null), (.bipush 59, 2, 0, 0, 0, (.int (59 : Int32)))]), (453, [(.iconst 0, 1, 0, 0, 0, (.int (0 : Int32)))]), (449, [(.iconst 1, 1, 0, 0, 0, (.int (1 : Int32)))]), (298, [(.aload_n 0, 1, 0, 0, 0, .null), (.iconst 1, 1, 0, 0, 0, (.int (1 : Int32)))]), (303, [(.aload_n 0, 1, 0, 0, 0, .null), (.aload_n 0, 1, 0, 0, 0, .null), (.iconst 0, 1, 0, 0, 0, (.int (0 : Int32)))]), (309, [(.aload_n 0, 1, 0, 0, 0, .null)]), (316, [(.istore 6, 2, 0, 0, 0, .null), (.aload_n 0, 1, 0, 0, 0, .null), (.aload_n 0, 1, 0, 0, 0, .null), (.iconst 0, 1, 0, 0, 0, (.int (0 : Int32)))]), (324, [(.iload 6, 2, 0, 0, 0, .null)]), (329, [(.i2l, 1, 0, 0, 0, .null), (.lstore 7, 2, 0, 0, 0, .null)]), (332, [(.aload_n 0, 1, 0, 0, 0, .null), (.aload_n 0, 1, 0, 0, 0, .null), (.iconst 0, 1, 0, 0, 0, (.int (0 : Int32)))]), (338, [(.iload 6, 2, 0, 0, 0, .null), (.iload_n 1, 1, 0, 0, 0, .null), (.bipush 47, 2, 0, 0, 0, (.int (47 : Int32)))]), (358, [(.lconst 0, 1, 0, 0, 0, (.long (0 : Int64)))]), (346, [(.aload_n 0, 1, 0, 0, 0, .null), (.lload 7, 2, 0, 0, 0, .null)]), (352, [(.lload 7, 2, 0, 0, 0, .null), (.lsub, 1, 0, 0, 0, .null)]), (362, [(.aload_n 0, 1, 0, 0, 0, .null), (.getfield 67, 3, 4, 36, 4, .null), (.iconst 0, 1, 0, 0, 0, (.int (0 : Int32))), (.iload 6, 2, 0, 0, 0, .null), (.iastore, 1, 0, 0, 0, .null)]), (370, [(.aload_n 0, 1, 0, 0, 0, .null), (.getfield 67, 3, 4, 36, 4, .null), (.iconst 1, 1, 0, 0, 0, (.int (1 : Int32))), (.iload 6, 2, 0, 0, 0, .null), (.iastore, 1, 0, 0, 0, .null)]), (483, [(.aload_n 0, 1, 0, 0, 0, .null), (.iload_n 1, 1, 0, 0, 0, .null)])], [(1, .tableswitch 482 39 63 #[115, 482, 222, 482, 482, 482, 482, 297, 297, 380, 408, 482, 482, 482, 482, 482, 482, 482, 482, 436, 436, 482, 482, 459, 459], 115), (118, .invokevirtual 334, 3), (124, .invokevirtual 362, 3), (138, .invokevirtual 366, 3), (145, .invokevirtual 362, 3), (159, .invokevirtual 366, 3), (176, .invokevirtual 362, 3), (182, .invokevirtual 362, 3), (186, .invokevirtual 425, 3), (196, .invokevirtual 362, 3), (203, .invokevirtual 429, 3), (209, .invokevirtual 362, 3), (217, .invokevirtual 429, 3), (488, .return_, 1), (220, .goto 268, 3), (225, .invokevirtual 334, 3), (231, .invokevirtual 362, 3), (235, .invokevirtual 337, 3), (238, .invokevirtual 366, 3), (245, .invokevirtual 362, 3), (263, .goto 4, 3), (259, .ifCond .ne 7, 3), (271, .invokevirtual 362, 3), (289, .goto 4, 3), (285, .ifCond .ne 7, 3), (295, .goto 193, 3), (403, .invokevirtual 436, 3), (406, .goto 82, 3), (431, .invokevirtual 436, 3), (434, .goto 54, 3), (462, .invokevirtual 334, 3), (473, .goto 4, 3), (469, .if_icmp .ne 7, 3), (477, .invokevirtual 443, 3), (480, .goto 8, 3), (439, .invokevirtual 334, 3), (450, .goto 4, 3), (446, .if_icmp .ne 7, 3), (454, .invokevirtual 440, 3), (457, .goto 31, 3), (300, .invokevirtual 334, 3), (306, .invokevirtual 362, 3), (310, .invokevirtual 337, 3), (313, .invokevirtual 366, 3), (321, .invokevirtual 362, 3), (326, .invokevirtual 433, 3), (335, .invokevirtual 362, 3), (349, .invokevirtual 301, 3), (355, .goto 4, 3), (343, .if_icmp .ne 15, 3), (359, .invokevirtual 429, 3), (378, .goto 110, 3), (485, .invokevirtual 446, 3)])
set_option maxRecDepth 100000 in
theorem m_Ma_moving : hx_mok M_Ma_moving = true := by decide +kernel
theorem pd_Ma_moving : (parseMethodDescriptor M_Ma_moving.2.1.desc).map (fun q => q.parameters.length) = some 1 := by decide +kernel
theorem y_Ma_moving : hx_okV M_Ma_moving := ⟨⟨lw_g (lw_at lw_m6 136 rfl) rfl, lw_g (lw_at lw_m6 135 rfl) rfl, qs76, lw_g (lw_at lw_m1 5 rfl) rfl, rfl, by decide, by decide, by decide⟩, rfl, by decide, plainFor_of_name (by decide)⟩
noncomputable def f_Ma_moving (x1 : Int32) (h : hH) : Option (hH ⊕ (Unit × hH)) :=
  bET (P := Unit) (X := (Unit × hH)) (
    bET (P := Unit) (X := (Unit ⊕ (Unit × hH))) (
      bET (P := Unit) (X := (Unit ⊕ (Unit ⊕ (Unit × hH)))) (
        bET (P := Unit) (X := (Unit ⊕ (Unit ⊕ (Unit ⊕ (Unit × hH))))) (
          if x1 = (39 : Int32) then (
            bT (f_Ma_need (2 : Int32) h) fun _ h1 =>
            bP (f_Ma_zone (0 : Int32) h1) fun a5 =>
            gd (vp_in ((rdI h1 22 15) - (1 : Int32)) 256) <|
            gd (isA 6 a5) <|
            bT (f_Ma_point a5 (rdI h1 43 (Int32.toNatClampNeg ((rdI h1 22 15) - (1 : Int32)))) h1) fun a8 h2 =>
            bP (f_Ma_zone (1 : Int32) h2) fun a9 =>
            gd (vp_in ((rdI h2 22 15) - (2 : Int32)) 256) <|
            gd (isA 6 a9) <|
            bT (f_Ma_point a9 (rdI h2 43 (Int32.toNatClampNeg ((rdI h2 22 15) - (2 : Int32)))) h2) fun a12 h3 =>
            lz (wrI h3 22 15 ((rdI h3 22 15) - (2 : Int32))) fun h4 =>
            bP (f_Ma_zone (0 : Int32) h4) fun a13 =>
            bP (f_Ma_zone (1 : Int32) h4) fun a14 =>
            gd (isA 6 a13 ∧ isA 6 a14) <|
            bP (f_Ma_distance a13 a8 a14 a12 h4) fun a16 =>
            lz (A := Int32) (a16 / (2 : Int32)) fun v17 =>
            bP (f_Ma_zone (1 : Int32) h4) fun a18 =>
            gd (isA 6 a18) <|
            bS (f_Ma_move a18 a12 (Int32.toInt64 v17) h4) fun _ h5 =>
            bP (f_Ma_zone (0 : Int32) h5) fun a20 =>
            gd (isA 6 a20) <|
            bS (f_Ma_move a20 a8 (Int32.toInt64 (-v17)) h5) fun _ h6 =>
            some (.inr (.inr (.inr (.inr (.inr ((), h6))))))
          ) else (
            if x1 = (41 : Int32) then (
              bT (f_Ma_need (1 : Int32) h) fun _ h7 =>
              bP (f_Ma_zone (0 : Int32) h7) fun a23 =>
              bS (f_Ma_pop h7) fun a24 h8 =>
              gd (isA 6 a23) <|
              bT (f_Ma_point a23 a24 h8) fun a26 h9 =>
              bP (f_Ma_zone (0 : Int32) h9) fun a27 =>
              gd (isA 6 a27 ∧ vp_in a26 (zr a27)) <|
              lz (A := Int32) (if (rdI h9 22 28) = 0 then (1 : Int32) else (0 : Int32)) fun p29 =>
              gd (vp_in a26 (zr a27)) <|
              lz (wrI h9 (rf a27 4) (Int32.toNatClampNeg a26) (((rdI h9 (rf a27 4) (Int32.toNatClampNeg a26)) &&& p29) &&& 1)) fun h10 =>
              bP (f_Ma_zone (0 : Int32) h10) fun a32 =>
              gd (isA 6 a32 ∧ vp_in a26 (zr a32)) <|
              lz (A := Int32) (if (rdI h10 22 29) = 0 then (1 : Int32) else (0 : Int32)) fun p34 =>
              gd (vp_in a26 (zr a32)) <|
              lz (wrI h10 (rf a32 5) (Int32.toNatClampNeg a26) (((rdI h10 (rf a32 5) (Int32.toNatClampNeg a26)) &&& p34) &&& 1)) fun h11 =>
              some (.inr (.inr (.inr (.inr (.inr ((), h11))))))
            ) else (
              if x1 = (46 : Int32) ∨ x1 = (47 : Int32) then (
                some (.inr (.inr (.inr (.inl ()))))
              ) else (
                if x1 = (48 : Int32) then (
                  bS (f_Ma_between 36 38 40 h) fun _ h12 =>
                  some (.inr (.inr (.inr (.inr (.inr ((), h12))))))
                ) else (
                  if x1 = (49 : Int32) then (
                    bS (f_Ma_between 35 37 39 h) fun _ h13 =>
                    some (.inr (.inr (.inr (.inr (.inr ((), h13))))))
                  ) else (
                    if x1 = (58 : Int32) ∨ x1 = (59 : Int32) then (
                      some (.inr (.inr (.inl ())))
                    ) else (
                      if x1 = (62 : Int32) ∨ x1 = (63 : Int32) then (
                        some (.inr (.inl ()))
                      ) else (
                        some (.inr (.inr (.inr (.inr (.inl ())))))
                      )
                    )
                  )
                )
              )
            )
          )
        ) fun p4 =>
        bT (f_Ma_need (2 : Int32) h) fun _ h14 =>
        lz (A := Int32) (if x1 = (63 : Int32) then (1 : Int32) else (0 : Int32)) fun p43 =>
        bT (f_Ma_absolute p43 h14) fun _ h15 =>
        some (.inr (.inr (.inr (.inr ((), h15)))))
      ) fun p3 =>
      bT (f_Ma_need (2 : Int32) h) fun _ h16 =>
      lz (A := Int32) (if x1 = (59 : Int32) then (1 : Int32) else (0 : Int32)) fun p45 =>
      bT (f_Ma_indirect p45 h16) fun _ h17 =>
      some (.inr (.inr (.inr ((), h17))))
    ) fun p2 =>
    bT (f_Ma_need (1 : Int32) h) fun _ h18 =>
    bP (f_Ma_zone (0 : Int32) h18) fun a47 =>
    bS (f_Ma_pop h18) fun a48 h19 =>
    gd (isA 6 a47) <|
    bT (f_Ma_point a47 a48 h19) fun a50 h20 =>
    bP (f_Ma_zone (0 : Int32) h20) fun a51 =>
    gd (isA 6 a51) <|
    bP (f_Ma_place a51 a50 h20) fun a53 =>
    lz (A := Int64) (Int32.toInt64 a53) fun v54 =>
    bP (f_Ma_zone (0 : Int32) h20) fun a55 =>
    bJT (P := Int64) (
      if x1 = (47 : Int32) then (
        bP (f_Ma_rounded 2 v54 h20) fun a57 =>
        some (.inr (a57 - v54))
      ) else (
        some (.inr (0 : Int64))
      )
    ) fun p56 =>
    gd (isA 6 a55) <|
    bS (f_Ma_move a55 a50 p56 h20) fun _ h21 =>
    lz (wrI h21 54 0 a50) fun h22 =>
    lz (wrI h22 54 1 a50) fun h23 =>
    some (.inr (.inr ((), h23)))
  ) fun p1 =>
  bT (f_Ma_shifting x1 h) fun _ h24 =>
  some (.inr ((), h24))
set_option maxRecDepth 20000 in
theorem k_Ma_moving (x1 : Int32) (h : hH) : hx_kT S0 M_Ma_moving 11 NT [(.ref 22), (.int x1)] h (f_Ma_moving x1 h) cvU := by
  have hm := m_Ma_moving
  show hx_P S0 M_Ma_moving 11 0 [(0, (.ref 22)), (1, (.int x1))] [] NT h (f_Ma_moving x1 h) (hx_T NT (hx_Rc cvU NT))
  unfold f_Ma_moving
  refine hp_ET 483 (fun (p1 : Unit) => [(0, (.ref 22)), (1, (.int x1))]) (fun (p1 : Unit) => []) (fun (p1 : Unit) => h) ?_ (fun p1 => ?_)
  · refine hp_ET 298 (fun (p2 : Unit) => [(0, (.ref 22)), (1, (.int x1))]) (fun (p2 : Unit) => []) (fun (p2 : Unit) => h) ?_ (fun p2 => ?_)
    · refine hp_ET 437 (fun (p3 : Unit) => [(0, (.ref 22)), (1, (.int x1))]) (fun (p3 : Unit) => []) (fun (p3 : Unit) => h) ?_ (fun p3 => ?_)
      · refine hp_ET 460 (fun (p4 : Unit) => [(0, (.ref 22)), (1, (.int x1))]) (fun (p4 : Unit) => []) (fun (p4 : Unit) => h) ?_ (fun p4 => ?_)
        · refine hp_b hm (at1 0 rfl) (L' := [(0, (.ref 22)), (1, (.int x1))]) (st' := [(.int x1)]) rfl (by exact trivial) (pc' := 1) rfl ?_
          refine hp_sw hm 0 rfl (cs := [39]) (off := 115) (by decide) (tgt := 116) rfl (sw1 _ _) ?_ (fun c22 => ?_)
          · refine hp_cVT (M2 := M_Ma_need) hm (at1 1 rfl) (as := [(.int (2 : Int32))]) (rest := []) (z := 22) rfl (by exact trivial) (pc' := 118) rfl 1 rfl (lw_g (lw_at lw_m5 217 rfl) rfl) y_Ma_need rfl (d2 := 7) ⟨le_b rfl, pd_Ma_need, le_b rfl⟩ (le_b rfl) og_22 rfl (k_Ma_need (2 : Int32) h) (fun _ h1 => ?_)
            refine hp_cVP (M2 := M_Ma_zone) hm (at1 2 rfl) (as := [(.int (0 : Int32))]) (rest := [(.ref 22)]) (z := 22) rfl (by exact trivial) (pc' := 124) rfl 2 rfl (lw_g (lw_at lw_m5 225 rfl) rfl) y_Ma_zone rfl (d2 := 1) ⟨le_b rfl, pd_Ma_zone, le_b rfl⟩ (le_b rfl) og_22 (k_Ma_zone (0 : Int32) h1) (fun a5 => ?_)
            refine hp_G hm (at1 3 rfl) (L' := [(0, (.ref 22)), (1, (.int x1))]) (st' := [(.int (rdI h1 43 (Int32.toNatClampNeg ((rdI h1 22 15) - (1 : Int32))))), (.ref a5), (.ref 22)]) rfl (fun hP => (by exact ⟨⟨og_22, og_22⟩, ⟨og_43, hP⟩⟩)) (pc' := 138) rfl (fun q6 => ?_)
            refine hp_G0 (fun q7 => ?_)
            refine hp_cVT (M2 := M_Ma_point) hm at0 (as := [(.ref a5), (.int (rdI h1 43 (Int32.toNatClampNeg ((rdI h1 22 15) - (1 : Int32)))))]) (rest := []) (z := 22) rfl (by exact trivial) (pc' := 138) rfl 3 rfl (lw_g (lw_at lw_m5 229 rfl) rfl) y_Ma_point rfl (d2 := 7) ⟨le_b rfl, pd_Ma_point, le_b rfl⟩ (le_b rfl) og_22 rfl (k_Ma_point a5 (rdI h1 43 (Int32.toNatClampNeg ((rdI h1 22 15) - (1 : Int32)))) h1 q7) (fun a8 h2 => ?_)
            refine hp_b hm (at1 4 rfl) (L' := [(2, (.int a8)), (0, (.ref 22)), (1, (.int x1))]) (st' := [(.int (1 : Int32)), (.ref 22), (.ref 22)]) rfl (by exact trivial) (pc' := 145) rfl ?_
            refine hp_cVP (M2 := M_Ma_zone) hm at0 (as := [(.int (1 : Int32))]) (rest := [(.ref 22)]) (z := 22) rfl (by exact trivial) (pc' := 145) rfl 4 rfl (lw_g (lw_at lw_m5 225 rfl) rfl) y_Ma_zone rfl (d2 := 1) ⟨le_b rfl, pd_Ma_zone, le_b rfl⟩ (le_b rfl) og_22 (k_Ma_zone (1 : Int32) h2) (fun a9 => ?_)
            refine hp_G hm (at1 5 rfl) (L' := [(2, (.int a8)), (0, (.ref 22)), (1, (.int x1))]) (st' := [(.int (rdI h2 43 (Int32.toNatClampNeg ((rdI h2 22 15) - (2 : Int32))))), (.ref a9), (.ref 22)]) rfl (fun hP => (by exact ⟨⟨og_22, og_22⟩, ⟨og_43, hP⟩⟩)) (pc' := 159) rfl (fun q10 => ?_)
            refine hp_G0 (fun q11 => ?_)
            refine hp_cVT (M2 := M_Ma_point) hm at0 (as := [(.ref a9), (.int (rdI h2 43 (Int32.toNatClampNeg ((rdI h2 22 15) - (2 : Int32)))))]) (rest := []) (z := 22) rfl (by exact trivial) (pc' := 159) rfl 5 rfl (lw_g (lw_at lw_m5 229 rfl) rfl) y_Ma_point rfl (d2 := 7) ⟨le_b rfl, pd_Ma_point, le_b rfl⟩ (le_b rfl) og_22 rfl (k_Ma_point a9 (rdI h2 43 (Int32.toNatClampNeg ((rdI h2 22 15) - (2 : Int32)))) h2 q11) (fun a12 h3 => ?_)
            refine hp_w hm (at1 6 rfl) (L' := [(3, (.int a12)), (2, (.int a8)), (0, (.ref 22)), (1, (.int x1))]) rfl (by exact ⟨og_22, og_22⟩) (pc' := 173) rfl (fun h4 => ?_)
            refine hp_cVP (M2 := M_Ma_zone) hm (at1 7 rfl) (as := [(.int (0 : Int32))]) (rest := [(.ref 22)]) (z := 22) rfl (by exact trivial) (pc' := 176) rfl 6 rfl (lw_g (lw_at lw_m5 225 rfl) rfl) y_Ma_zone rfl (d2 := 1) ⟨le_b rfl, pd_Ma_zone, le_b rfl⟩ (le_b rfl) og_22 (k_Ma_zone (0 : Int32) h4) (fun a13 => ?_)
            refine hp_cVP (M2 := M_Ma_zone) hm (at1 8 rfl) (as := [(.int (1 : Int32))]) (rest := [(.int a8), (.ref a13), (.ref 22)]) (z := 22) rfl (by exact trivial) (pc' := 182) rfl 7 rfl (lw_g (lw_at lw_m5 225 rfl) rfl) y_Ma_zone rfl (d2 := 1) ⟨le_b rfl, pd_Ma_zone, le_b rfl⟩ (le_b rfl) og_22 (k_Ma_zone (1 : Int32) h4) (fun a14 => ?_)
            refine hp_G0 (fun q15 => ?_)
            refine hp_b hm (at1 9 rfl) (L' := [(3, (.int a12)), (2, (.int a8)), (0, (.ref 22)), (1, (.int x1))]) (st' := [(.int a12), (.ref a14), (.int a8), (.ref a13), (.ref 22)]) rfl (by exact trivial) (pc' := 186) rfl ?_
            refine hp_cVP (M2 := M_Ma_distance) hm at0 (as := [(.ref a13), (.int a8), (.ref a14), (.int a12)]) (rest := []) (z := 22) rfl (by exact trivial) (pc' := 186) rfl 8 rfl (lw_g (lw_at lw_m6 21 rfl) rfl) y_Ma_distance rfl (d2 := 4) ⟨le_b rfl, pd_Ma_distance, le_b rfl⟩ (le_b rfl) og_22 (k_Ma_distance a13 a8 a14 a12 h4 q15.1 q15.2) (fun a16 => ?_)
            refine hp_z hm (at1 10 rfl) (fun (v17 : Int32) => [(4, (.int v17)), (3, (.int a12)), (2, (.int a8)), (0, (.ref 22)), (1, (.int x1))]) (fun (v17 : Int32) => []) rfl (by exact (show ¬ (2 : Int32) = 0 by decide)) (pc' := 193) rfl (fun v17 => ?_)
            refine hp_cVP (M2 := M_Ma_zone) hm (at1 11 rfl) (as := [(.int (1 : Int32))]) (rest := [(.ref 22)]) (z := 22) rfl (by exact trivial) (pc' := 196) rfl 9 rfl (lw_g (lw_at lw_m5 225 rfl) rfl) y_Ma_zone rfl (d2 := 1) ⟨le_b rfl, pd_Ma_zone, le_b rfl⟩ (le_b rfl) og_22 (k_Ma_zone (1 : Int32) h4) (fun a18 => ?_)
            refine hp_G0 (fun q19 => ?_)
            refine hp_b hm (at1 12 rfl) (L' := [(4, (.int v17)), (3, (.int a12)), (2, (.int a8)), (0, (.ref 22)), (1, (.int x1))]) (st' := [(.long (Int32.toInt64 v17)), (.int a12), (.ref a18), (.ref 22)]) rfl (by exact trivial) (pc' := 203) rfl ?_
            refine hp_cVS (M2 := M_Ma_move) hm at0 (as := [(.ref a18), (.int a12), (.long (Int32.toInt64 v17))]) (rest := []) (z := 22) rfl (by exact trivial) (pc' := 203) rfl 10 rfl (lw_g (lw_at lw_m6 25 rfl) rfl) y_Ma_move rfl (d2 := 3) ⟨le_b rfl, pd_Ma_move, le_b rfl⟩ (le_b rfl) og_22 (k_Ma_move a18 a12 (Int32.toInt64 v17) h4 q19) (fun _ h5 => ?_)
            refine hp_cVP (M2 := M_Ma_zone) hm (at1 13 rfl) (as := [(.int (0 : Int32))]) (rest := [(.ref 22)]) (z := 22) rfl (by exact trivial) (pc' := 209) rfl 11 rfl (lw_g (lw_at lw_m5 225 rfl) rfl) y_Ma_zone rfl (d2 := 1) ⟨le_b rfl, pd_Ma_zone, le_b rfl⟩ (le_b rfl) og_22 (k_Ma_zone (0 : Int32) h5) (fun a20 => ?_)
            refine hp_G0 (fun q21 => ?_)
            refine hp_b hm (at1 14 rfl) (L' := [(4, (.int v17)), (3, (.int a12)), (2, (.int a8)), (0, (.ref 22)), (1, (.int x1))]) (st' := [(.long (Int32.toInt64 (-v17))), (.int a8), (.ref a20), (.ref 22)]) rfl (by exact trivial) (pc' := 217) rfl ?_
            refine hp_cVS (M2 := M_Ma_move) hm at0 (as := [(.ref a20), (.int a8), (.long (Int32.toInt64 (-v17)))]) (rest := []) (z := 22) rfl (by exact trivial) (pc' := 217) rfl 12 rfl (lw_g (lw_at lw_m6 25 rfl) rfl) y_Ma_move rfl (d2 := 3) ⟨le_b rfl, pd_Ma_move, le_b rfl⟩ (le_b rfl) og_22 (k_Ma_move a20 a8 (Int32.toInt64 (-v17)) h5 q21) (fun _ h6 => ?_)
            refine hp_goto hm 14 rfl (tgt := 488) rfl ?_
            exact hp_vr hm 13 rfl rfl (fun _ e => e)
          · refine hp_sw hm 0 rfl (cs := [41]) (off := 222) (by decide) (tgt := 223) rfl (sw1 _ _) ?_ (fun c37 => ?_)
            · refine hp_cVT (M2 := M_Ma_need) hm (at1 15 rfl) (as := [(.int (1 : Int32))]) (rest := []) (z := 22) rfl (by exact trivial) (pc' := 225) rfl 15 rfl (lw_g (lw_at lw_m5 217 rfl) rfl) y_Ma_need rfl (d2 := 7) ⟨le_b rfl, pd_Ma_need, le_b rfl⟩ (le_b rfl) og_22 rfl (k_Ma_need (1 : Int32) h) (fun _ h7 => ?_)
              refine hp_cVP (M2 := M_Ma_zone) hm (at1 16 rfl) (as := [(.int (0 : Int32))]) (rest := [(.ref 22)]) (z := 22) rfl (by exact trivial) (pc' := 231) rfl 16 rfl (lw_g (lw_at lw_m5 225 rfl) rfl) y_Ma_zone rfl (d2 := 1) ⟨le_b rfl, pd_Ma_zone, le_b rfl⟩ (le_b rfl) og_22 (k_Ma_zone (0 : Int32) h7) (fun a23 => ?_)
              refine hp_cVS (M2 := M_Ma_pop) hm (at1 17 rfl) (as := []) (rest := [(.ref a23), (.ref 22)]) (z := 22) rfl (by exact trivial) (pc' := 235) rfl 17 rfl (lw_g (lw_at lw_m5 221 rfl) rfl) y_Ma_pop rfl (d2 := 1) ⟨le_b rfl, pd_Ma_pop, le_b rfl⟩ (le_b rfl) og_22 (k_Ma_pop h7) (fun a24 h8 => ?_)
              refine hp_G0 (fun q25 => ?_)
              refine hp_cVT (M2 := M_Ma_point) hm at0 (as := [(.ref a23), (.int a24)]) (rest := []) (z := 22) rfl (by exact trivial) (pc' := 238) rfl 18 rfl (lw_g (lw_at lw_m5 229 rfl) rfl) y_Ma_point rfl (d2 := 7) ⟨le_b rfl, pd_Ma_point, le_b rfl⟩ (le_b rfl) og_22 rfl (k_Ma_point a23 a24 h8 q25) (fun a26 h9 => ?_)
              refine hp_b hm (at1 18 rfl) (L' := [(5, (.int a26)), (0, (.ref 22)), (1, (.int x1))]) (st' := [(.int (0 : Int32)), (.ref 22)]) rfl (by exact trivial) (pc' := 245) rfl ?_
              refine hp_cVP (M2 := M_Ma_zone) hm at0 (as := [(.int (0 : Int32))]) (rest := []) (z := 22) rfl (by exact trivial) (pc' := 245) rfl 19 rfl (lw_g (lw_at lw_m5 225 rfl) rfl) y_Ma_zone rfl (d2 := 1) ⟨le_b rfl, pd_Ma_zone, le_b rfl⟩ (le_b rfl) og_22 (k_Ma_zone (0 : Int32) h9) (fun a27 => ?_)
              refine hp_G hm (at1 19 rfl) (L' := [(5, (.int a26)), (0, (.ref 22)), (1, (.int x1))]) (st' := [(.int (rdI h9 22 28)), (.int (rdI h9 (rf a27 4) (Int32.toNatClampNeg a26))), (.int a26), (.ref (rf a27 4))]) rfl (fun hP => (by exact ⟨⟨hP.1, ⟨(rt_6_4 hP.1), (vp_cst (rl_6_4 hP.1) hP.2)⟩⟩, og_22⟩)) (pc' := 259) rfl (fun q28 => ?_)
              refine hp_JZ 267 (fun (p29 : Int32) => [(0, (.ref 22)), (5, (.int a26))]) (fun (p29 : Int32) => [(.int p29), (.int (rdI h9 (rf a27 4) (Int32.toNatClampNeg a26))), (.int a26), (.ref (rf a27 4))]) (fun (p29 : Int32) => h9) ?_ (fun p29 => ?_)
              · refine hp_sv0 ?_
                refine hp_if_ne hm at0 rfl (by exact trivial) (pc' := 259) rfl 21 rfl (tgt := 266) rfl (fun c30 => ?_) (fun c30 => ?_)
                · refine hp_b hm (at1 20 rfl) (L' := [(5, (.int a26)), (0, (.ref 22)), (1, (.int x1))]) (st' := [(.int (0 : Int32)), (.int (rdI h9 (rf a27 4) (Int32.toNatClampNeg a26))), (.int a26), (.ref (rf a27 4))]) rfl (by exact trivial) (pc' := 267) rfl ?_
                  exact hp_lf [1, 0] rfl (fun _ e => e)
                · refine hp_b hm (at1 21 rfl) (L' := [(5, (.int a26)), (0, (.ref 22)), (1, (.int x1))]) (st' := [(.int (1 : Int32)), (.int (rdI h9 (rf a27 4) (Int32.toNatClampNeg a26))), (.int a26), (.ref (rf a27 4))]) rfl (by exact trivial) (pc' := 263) rfl ?_
                  refine hp_goto hm 20 rfl (tgt := 267) rfl ?_
                  exact hp_lf [1, 0] rfl (fun _ e => e)
              · refine hp_GW hm (at1 22 rfl) (L' := [(0, (.ref 22)), (5, (.int a26))]) rfl (fun hP => (by exact ⟨(rt_6_4 q28.1), (vp_cst (rl_6_4 q28.1) hP)⟩)) (pc' := 269) rfl (fun q31 h10 => ?_)
                refine hp_cVP (M2 := M_Ma_zone) hm (at1 23 rfl) (as := [(.int (0 : Int32))]) (rest := []) (z := 22) rfl (by exact trivial) (pc' := 271) rfl 22 rfl (lw_g (lw_at lw_m5 225 rfl) rfl) y_Ma_zone rfl (d2 := 1) ⟨le_b rfl, pd_Ma_zone, le_b rfl⟩ (le_b rfl) og_22 (k_Ma_zone (0 : Int32) h10) (fun a32 => ?_)
                refine hp_G hm (at1 24 rfl) (L' := [(0, (.ref 22)), (5, (.int a26))]) (st' := [(.int (rdI h10 22 29)), (.int (rdI h10 (rf a32 5) (Int32.toNatClampNeg a26))), (.int a26), (.ref (rf a32 5))]) rfl (fun hP => (by exact ⟨⟨hP.1, ⟨(rt_6_5 hP.1), (vp_cst (rl_6_5 hP.1) hP.2)⟩⟩, og_22⟩)) (pc' := 285) rfl (fun q33 => ?_)
                refine hp_JZ 293 (fun (p34 : Int32) => []) (fun (p34 : Int32) => [(.int p34), (.int (rdI h10 (rf a32 5) (Int32.toNatClampNeg a26))), (.int a26), (.ref (rf a32 5))]) (fun (p34 : Int32) => h10) ?_ (fun p34 => ?_)
                · refine hp_sv0 ?_
                  refine hp_if_ne hm at0 rfl (by exact trivial) (pc' := 285) rfl 24 rfl (tgt := 292) rfl (fun c35 => ?_) (fun c35 => ?_)
                  · refine hp_b hm (at1 25 rfl) (L' := [(0, (.ref 22)), (5, (.int a26))]) (st' := [(.int (0 : Int32)), (.int (rdI h10 (rf a32 5) (Int32.toNatClampNeg a26))), (.int a26), (.ref (rf a32 5))]) rfl (by exact trivial) (pc' := 293) rfl ?_
                    exact hp_lf [] rfl (fun _ e => e)
                  · refine hp_b hm (at1 26 rfl) (L' := [(0, (.ref 22)), (5, (.int a26))]) (st' := [(.int (1 : Int32)), (.int (rdI h10 (rf a32 5) (Int32.toNatClampNeg a26))), (.int a26), (.ref (rf a32 5))]) rfl (by exact trivial) (pc' := 289) rfl ?_
                    refine hp_goto hm 23 rfl (tgt := 293) rfl ?_
                    exact hp_lf [] rfl (fun _ e => e)
                · refine hp_GW hm (at1 27 rfl) (L' := []) rfl (fun hP => (by exact ⟨(rt_6_5 q33.1), (vp_cst (rl_6_5 q33.1) hP)⟩)) (pc' := 295) rfl (fun q36 h11 => ?_)
                  refine hp_goto hm 25 rfl (tgt := 488) rfl ?_
                  exact hp_vr hm 13 rfl rfl (fun _ e => e)
            · refine hp_sw hm 0 rfl (cs := [46, 47]) (off := 297) (by decide) (tgt := 298) rfl (sw2 _ _ _) ?_ (fun c38 => ?_)
              · exact hp_lf [0, 1] rfl (fun _ e => e)
              · refine hp_sw hm 0 rfl (cs := [48]) (off := 380) (by decide) (tgt := 381) rfl (sw1 _ _) ?_ (fun c39 => ?_)
                · refine hp_cVS (M2 := M_Ma_between) hm (at1 28 rfl) (as := [(.ref 36), (.ref 38), (.ref 40)]) (rest := []) (z := 22) rfl (by exact ⟨⟨⟨⟨⟨og_22, og_34⟩, og_22⟩, og_34⟩, og_22⟩, og_34⟩) (pc' := 403) rfl 26 rfl (lw_g (lw_at lw_m6 141 rfl) rfl) y_Ma_between rfl (d2 := 4) ⟨le_b rfl, pd_Ma_between, le_b rfl⟩ (le_b rfl) og_22 (k_Ma_between 36 38 40 h og_36 og_38 og_40) (fun _ h12 => ?_)
                  refine hp_goto hm 27 rfl (tgt := 488) rfl ?_
                  exact hp_vr hm 13 rfl rfl (fun _ e => e)
                · refine hp_sw hm 0 rfl (cs := [49]) (off := 408) (by decide) (tgt := 409) rfl (sw1 _ _) ?_ (fun c40 => ?_)
                  · refine hp_cVS (M2 := M_Ma_between) hm (at1 29 rfl) (as := [(.ref 35), (.ref 37), (.ref 39)]) (rest := []) (z := 22) rfl (by exact ⟨⟨⟨⟨⟨og_22, og_34⟩, og_22⟩, og_34⟩, og_22⟩, og_34⟩) (pc' := 431) rfl 28 rfl (lw_g (lw_at lw_m6 141 rfl) rfl) y_Ma_between rfl (d2 := 4) ⟨le_b rfl, pd_Ma_between, le_b rfl⟩ (le_b rfl) og_22 (k_Ma_between 35 37 39 h og_35 og_37 og_39) (fun _ h13 => ?_)
                    refine hp_goto hm 29 rfl (tgt := 488) rfl ?_
                    exact hp_vr hm 13 rfl rfl (fun _ e => e)
                  · refine hp_sw hm 0 rfl (cs := [58, 59]) (off := 436) (by decide) (tgt := 437) rfl (sw2 _ _ _) ?_ (fun c41 => ?_)
                    · exact hp_lf [0, 1] rfl (fun _ e => e)
                    · refine hp_sw hm 0 rfl (cs := [62, 63]) (off := 459) (by decide) (tgt := 460) rfl (sw2 _ _ _) ?_ (fun c42 => ?_)
                      · exact hp_lf [0, 1] rfl (fun _ e => e)
                      · refine hp_sd2 hm 0 rfl (css := [[39], [41], [46, 47], [48], [49], [58, 59], [62, 63]]) (by decide) (by decide) (List.forall_mem_cons.mpr ⟨c22, (List.forall_mem_cons.mpr ⟨c37, (List.forall_mem_cons.mpr ⟨c38, (List.forall_mem_cons.mpr ⟨c39, (List.forall_mem_cons.mpr ⟨c40, (List.forall_mem_cons.mpr ⟨c41, (List.forall_mem_cons.mpr ⟨c42, (fun _ h => absurd h List.not_mem_nil)⟩)⟩)⟩)⟩)⟩)⟩)⟩) (tgt := 483) rfl ?_
                        exact hp_lf [0, 1] rfl (fun _ e => e)
        · refine hp_cVT (M2 := M_Ma_need) hm (at1 30 rfl) (as := [(.int (2 : Int32))]) (rest := []) (z := 22) rfl (by exact trivial) (pc' := 462) rfl 30 rfl (lw_g (lw_at lw_m5 217 rfl) rfl) y_Ma_need rfl (d2 := 7) ⟨le_b rfl, pd_Ma_need, le_b rfl⟩ (le_b rfl) og_22 rfl (k_Ma_need (2 : Int32) h) (fun _ h14 => ?_)
          refine hp_JZ 477 (fun (p43 : Int32) => []) (fun (p43 : Int32) => [(.int p43), (.ref 22)]) (fun (p43 : Int32) => h14) ?_ (fun p43 => ?_)
          · refine hp_sv0 ?_
            refine hp_ic_ne hm (at1 31 rfl) rfl (by exact trivial) (pc' := 469) rfl 32 rfl (tgt := 476) rfl (fun c44 => ?_) (fun c44 => ?_)
            · refine hp_b hm (at1 32 rfl) (L' := [(0, (.ref 22)), (1, (.int x1))]) (st' := [(.int (0 : Int32)), (.ref 22)]) rfl (by exact trivial) (pc' := 477) rfl ?_
              exact hp_lf [] rfl (fun _ e => e)
            · refine hp_b hm (at1 33 rfl) (L' := [(0, (.ref 22)), (1, (.int x1))]) (st' := [(.int (1 : Int32)), (.ref 22)]) rfl (by exact trivial) (pc' := 473) rfl ?_
              refine hp_goto hm 31 rfl (tgt := 477) rfl ?_
              exact hp_lf [] rfl (fun _ e => e)
          · refine hp_cVT (M2 := M_Ma_absolute) hm at0 (as := [(.int p43)]) (rest := []) (z := 22) rfl (by exact trivial) (pc' := 477) rfl 33 rfl (lw_g (lw_at lw_m6 156 rfl) rfl) y_Ma_absolute rfl (d2 := 8) ⟨le_b rfl, pd_Ma_absolute, le_b rfl⟩ (le_b rfl) og_22 rfl (k_Ma_absolute p43 h14) (fun _ h15 => ?_)
            refine hp_goto hm 34 rfl (tgt := 488) rfl ?_
            exact hp_vr hm 13 rfl rfl (fun _ e => e)
      · refine hp_cVT (M2 := M_Ma_need) hm (at1 34 rfl) (as := [(.int (2 : Int32))]) (rest := []) (z := 22) rfl (by exact trivial) (pc' := 439) rfl 35 rfl (lw_g (lw_at lw_m5 217 rfl) rfl) y_Ma_need rfl (d2 := 7) ⟨le_b rfl, pd_Ma_need, le_b rfl⟩ (le_b rfl) og_22 rfl (k_Ma_need (2 : Int32) h) (fun _ h16 => ?_)
        refine hp_JZ 454 (fun (p45 : Int32) => []) (fun (p45 : Int32) => [(.int p45), (.ref 22)]) (fun (p45 : Int32) => h16) ?_ (fun p45 => ?_)
        · refine hp_sv0 ?_
          refine hp_ic_ne hm (at1 35 rfl) rfl (by exact trivial) (pc' := 446) rfl 37 rfl (tgt := 453) rfl (fun c46 => ?_) (fun c46 => ?_)
          · refine hp_b hm (at1 36 rfl) (L' := [(0, (.ref 22)), (1, (.int x1))]) (st' := [(.int (0 : Int32)), (.ref 22)]) rfl (by exact trivial) (pc' := 454) rfl ?_
            exact hp_lf [] rfl (fun _ e => e)
          · refine hp_b hm (at1 37 rfl) (L' := [(0, (.ref 22)), (1, (.int x1))]) (st' := [(.int (1 : Int32)), (.ref 22)]) rfl (by exact trivial) (pc' := 450) rfl ?_
            refine hp_goto hm 36 rfl (tgt := 454) rfl ?_
            exact hp_lf [] rfl (fun _ e => e)
        · refine hp_cVT (M2 := M_Ma_indirect) hm at0 (as := [(.int p45)]) (rest := []) (z := 22) rfl (by exact trivial) (pc' := 454) rfl 38 rfl (lw_g (lw_at lw_m6 152 rfl) rfl) y_Ma_indirect rfl (d2 := 8) ⟨le_b rfl, pd_Ma_indirect, le_b rfl⟩ (le_b rfl) og_22 rfl (k_Ma_indirect p45 h16) (fun _ h17 => ?_)
          refine hp_goto hm 39 rfl (tgt := 488) rfl ?_
          exact hp_vr hm 13 rfl rfl (fun _ e => e)
    · refine hp_cVT (M2 := M_Ma_need) hm (at1 38 rfl) (as := [(.int (1 : Int32))]) (rest := []) (z := 22) rfl (by exact trivial) (pc' := 300) rfl 40 rfl (lw_g (lw_at lw_m5 217 rfl) rfl) y_Ma_need rfl (d2 := 7) ⟨le_b rfl, pd_Ma_need, le_b rfl⟩ (le_b rfl) og_22 rfl (k_Ma_need (1 : Int32) h) (fun _ h18 => ?_)
      refine hp_cVP (M2 := M_Ma_zone) hm (at1 39 rfl) (as := [(.int (0 : Int32))]) (rest := [(.ref 22)]) (z := 22) rfl (by exact trivial) (pc' := 306) rfl 41 rfl (lw_g (lw_at lw_m5 225 rfl) rfl) y_Ma_zone rfl (d2 := 1) ⟨le_b rfl, pd_Ma_zone, le_b rfl⟩ (le_b rfl) og_22 (k_Ma_zone (0 : Int32) h18) (fun a47 => ?_)
      refine hp_cVS (M2 := M_Ma_pop) hm (at1 40 rfl) (as := []) (rest := [(.ref a47), (.ref 22)]) (z := 22) rfl (by exact trivial) (pc' := 310) rfl 42 rfl (lw_g (lw_at lw_m5 221 rfl) rfl) y_Ma_pop rfl (d2 := 1) ⟨le_b rfl, pd_Ma_pop, le_b rfl⟩ (le_b rfl) og_22 (k_Ma_pop h18) (fun a48 h19 => ?_)
      refine hp_G0 (fun q49 => ?_)
      refine hp_cVT (M2 := M_Ma_point) hm at0 (as := [(.ref a47), (.int a48)]) (rest := []) (z := 22) rfl (by exact trivial) (pc' := 313) rfl 43 rfl (lw_g (lw_at lw_m5 229 rfl) rfl) y_Ma_point rfl (d2 := 7) ⟨le_b rfl, pd_Ma_point, le_b rfl⟩ (le_b rfl) og_22 rfl (k_Ma_point a47 a48 h19 q49) (fun a50 h20 => ?_)
      refine hp_b hm (at1 41 rfl) (L' := [(6, (.int a50)), (0, (.ref 22)), (1, (.int x1))]) (st' := [(.int (0 : Int32)), (.ref 22), (.ref 22)]) rfl (by exact trivial) (pc' := 321) rfl ?_
      refine hp_cVP (M2 := M_Ma_zone) hm at0 (as := [(.int (0 : Int32))]) (rest := [(.ref 22)]) (z := 22) rfl (by exact trivial) (pc' := 321) rfl 44 rfl (lw_g (lw_at lw_m5 225 rfl) rfl) y_Ma_zone rfl (d2 := 1) ⟨le_b rfl, pd_Ma_zone, le_b rfl⟩ (le_b rfl) og_22 (k_Ma_zone (0 : Int32) h20) (fun a51 => ?_)
      refine hp_G0 (fun q52 => ?_)
      refine hp_b hm (at1 42 rfl) (L' := [(6, (.int a50)), (0, (.ref 22)), (1, (.int x1))]) (st' := [(.int a50), (.ref a51), (.ref 22)]) rfl (by exact trivial) (pc' := 326) rfl ?_
      refine hp_cVP (M2 := M_Ma_place) hm at0 (as := [(.ref a51), (.int a50)]) (rest := []) (z := 22) rfl (by exact trivial) (pc' := 326) rfl 45 rfl (lw_g (lw_at lw_m6 137 rfl) rfl) y_Ma_place rfl (d2 := 4) ⟨le_b rfl, pd_Ma_place, le_b rfl⟩ (le_b rfl) og_22 (k_Ma_place a51 a50 h20 q52) (fun a53 => ?_)
      refine hp_z hm (at1 43 rfl) (fun (v54 : Int64) => [(7, (.long v54)), (6, (.int a50)), (0, (.ref 22)), (1, (.int x1))]) (fun (v54 : Int64) => []) rfl (by exact trivial) (pc' := 332) rfl (fun v54 => ?_)
      refine hp_cVP (M2 := M_Ma_zone) hm (at1 44 rfl) (as := [(.int (0 : Int32))]) (rest := [(.ref 22)]) (z := 22) rfl (by exact trivial) (pc' := 335) rfl 46 rfl (lw_g (lw_at lw_m5 225 rfl) rfl) y_Ma_zone rfl (d2 := 1) ⟨le_b rfl, pd_Ma_zone, le_b rfl⟩ (le_b rfl) og_22 (k_Ma_zone (0 : Int32) h20) (fun a55 => ?_)
      refine hp_JT 359 (fun (p56 : Int64) => [(0, (.ref 22)), (6, (.int a50))]) (fun (p56 : Int64) => [(.long p56), (.int a50), (.ref a55), (.ref 22)]) (fun (p56 : Int64) => h20) ?_ (fun p56 => ?_)
      · refine hp_ic_ne hm (at1 45 rfl) rfl (by exact trivial) (pc' := 343) rfl 49 rfl (tgt := 358) rfl (fun c58 => ?_) (fun c58 => ?_)
        · refine hp_b hm (at1 46 rfl) (L' := [(7, (.long v54)), (6, (.int a50)), (0, (.ref 22)), (1, (.int x1))]) (st' := [(.long (0 : Int64)), (.int a50), (.ref a55), (.ref 22)]) rfl (by exact trivial) (pc' := 359) rfl ?_
          exact hp_lf [2, 1] rfl (fun _ e => e)
        · refine hp_cVP (M2 := M_Ma_rounded) hm (at1 47 rfl) (as := [(.long v54)]) (rest := [(.int a50), (.ref a55), (.ref 22)]) (z := 22) rfl (by exact trivial) (pc' := 349) rfl 47 rfl (lw_g (lw_at lw_m6 12 rfl) rfl) y_Ma_rounded rfl (d2 := 5) ⟨le_b rfl, pd_Ma_rounded, le_b rfl⟩ (le_b rfl) og_22 (k_Ma_rounded 2 v54 h20) (fun a57 => ?_)
          refine hp_b hm (at1 48 rfl) (L' := [(7, (.long v54)), (6, (.int a50)), (0, (.ref 22)), (1, (.int x1))]) (st' := [(.long (a57 - v54)), (.int a50), (.ref a55), (.ref 22)]) rfl (by exact trivial) (pc' := 355) rfl ?_
          refine hp_goto hm 48 rfl (tgt := 359) rfl ?_
          exact hp_lf [2, 1] rfl (fun _ e => e)
      · refine hp_G0 (fun q59 => ?_)
        refine hp_cVS (M2 := M_Ma_move) hm at0 (as := [(.ref a55), (.int a50), (.long p56)]) (rest := []) (z := 22) rfl (by exact trivial) (pc' := 359) rfl 50 rfl (lw_g (lw_at lw_m6 25 rfl) rfl) y_Ma_move rfl (d2 := 3) ⟨le_b rfl, pd_Ma_move, le_b rfl⟩ (le_b rfl) og_22 (k_Ma_move a55 a50 p56 h20 q59) (fun _ h21 => ?_)
        refine hp_w hm (at1 49 rfl) (L' := [(0, (.ref 22)), (6, (.int a50))]) rfl (by exact ⟨og_22, ⟨og_54, (show vp_in (0 : Int32) 3 from vp_lit (by decide))⟩⟩) (pc' := 370) rfl (fun h22 => ?_)
        refine hp_w hm (at1 50 rfl) (L' := [(0, (.ref 22)), (6, (.int a50))]) rfl (by exact ⟨og_22, ⟨og_54, (show vp_in (1 : Int32) 3 from vp_lit (by decide))⟩⟩) (pc' := 378) rfl (fun h23 => ?_)
        refine hp_goto hm 51 rfl (tgt := 488) rfl ?_
        exact hp_vr hm 13 rfl rfl (fun _ e => e)
  · refine hp_cVT (M2 := M_Ma_shifting) hm (at1 51 rfl) (as := [(.int x1)]) (rest := []) (z := 22) rfl (by exact trivial) (pc' := 485) rfl 52 rfl (lw_g (lw_at lw_m6 160 rfl) rfl) y_Ma_shifting rfl (d2 := 10) ⟨le_b rfl, pd_Ma_shifting, le_b rfl⟩ (le_b rfl) og_22 rfl (k_Ma_shifting x1 h) (fun _ h24 => ?_)
    exact hp_vr hm 13 rfl rfl (fun _ e => e)
