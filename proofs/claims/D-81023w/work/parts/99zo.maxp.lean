/-! LAYER 3BW: maxp, on both sides (printed by gen/mk99zo.py) -/
theorem L_maxp {B : Nat → Int32} {s n b l i : Int32} {c m : hH} (cb : CB B s c) (mb : MB B s m) (s0 : 0 ≤ s) (s1 : s ≤ 12000) (tb : TB s c m 1835104368 b l i) : ∃ a c' m', f_Fo_isMaxp c = some (a, c') ∧ f_Mo_maxp m = some (a, m') ∧ FC4 [8, 9, 10, 11, 12, 13, 14, 15] c c' ∧ FM4 [12, 13, 14, 15, 16, 17, 18, 19] m m' ∧ (a = 0 ∨ (a = 1 ∧ (rdI m' 192 12 = rdI c' 4 8 ∧ 1 ≤ rdI c' 4 8 ∧ rdI c' 4 8 ≤ 200) ∧ rdI m' 192 13 = rdI c' 4 9 ∧ (rdI m' 192 14 = rdI c' 4 10 ∧ 0 ≤ rdI c' 4 10 ∧ rdI c' 4 10 ≤ 64) ∧ (rdI m' 192 15 = rdI c' 4 11 ∧ 0 ≤ rdI c' 4 11 ∧ rdI c' 4 11 ≤ 64) ∧ (rdI m' 192 16 = rdI c' 4 12 ∧ 0 ≤ rdI c' 4 12 ∧ rdI c' 4 12 ≤ 64) ∧ (rdI m' 192 17 = rdI c' 4 13 ∧ 0 ≤ rdI c' 4 13 ∧ rdI c' 4 13 ≤ 16) ∧ (rdI m' 192 18 = rdI c' 4 14 ∧ 0 ≤ rdI c' 4 14 ∧ rdI c' 4 14 ≤ 256) ∧ (rdI m' 192 19 = rdI c' 4 15 ∧ 0 ≤ rdI c' 4 15 ∧ rdI c' 4 15 ≤ 4))) := by
  obtain ⟨_, ⟨t1, t2, t3, t4⟩, ⟨b0, b1⟩, ⟨l0, l1⟩, bl, _, _⟩ := tb
  have n10 : ¬ (1 : Int32) = 0 := by decide
  have t1' : f_Fo_beginOf 1835104368 c = some b := t1
  have t2' : f_Fo_lengthOf 1835104368 c = some l := t2
  unfold f_Fo_isMaxp f_Mo_maxp
  obtain ⟨w12, e12⟩ := mT2 (p := b + 4) mb s1
  have mb0 : MB B s (wrI m 192 12 w12) := MB_w mb (by omega) (by decide)
  obtain ⟨w13, e13⟩ := mT2 (p := b + 14) mb0 s1
  have mb1 : MB B s (wrI (wrI m 192 12 w12) 192 13 w13) := MB_w mb0 (by omega) (by decide)
  obtain ⟨w14, e14⟩ := mT2 (p := b + 16) mb1 s1
  have mb2 : MB B s (wrI (wrI (wrI m 192 12 w12) 192 13 w13) 192 14 w14) := MB_w mb1 (by omega) (by decide)
  obtain ⟨w15, e15⟩ := mT2 (p := b + 18) mb2 s1
  have mb3 : MB B s (wrI (wrI (wrI (wrI m 192 12 w12) 192 13 w13) 192 14 w14) 192 15 w15) := MB_w mb2 (by omega) (by decide)
  obtain ⟨w16, e16⟩ := mT2 (p := b + 20) mb3 s1
  have mb4 : MB B s (wrI (wrI (wrI (wrI (wrI m 192 12 w12) 192 13 w13) 192 14 w14) 192 15 w15) 192 16 w16) := MB_w mb3 (by omega) (by decide)
  obtain ⟨w17, e17⟩ := mT2 (p := b + 22) mb4 s1
  have mb5 : MB B s (wrI (wrI (wrI (wrI (wrI (wrI m 192 12 w12) 192 13 w13) 192 14 w14) 192 15 w15) 192 16 w16) 192 17 w17) := MB_w mb4 (by omega) (by decide)
  obtain ⟨w18, e18⟩ := mT2 (p := b + 24) mb5 s1
  have mb6 : MB B s (wrI (wrI (wrI (wrI (wrI (wrI (wrI m 192 12 w12) 192 13 w13) 192 14 w14) 192 15 w15) 192 16 w16) 192 17 w17) 192 18 w18) := MB_w mb5 (by omega) (by decide)
  obtain ⟨w19, e19⟩ := mT2 (p := b + 30) mb6 s1
  have mb7 : MB B s (wrI (wrI (wrI (wrI (wrI (wrI (wrI (wrI m 192 12 w12) 192 13 w13) 192 14 w14) 192 15 w15) 192 16 w16) 192 17 w17) 192 18 w18) 192 19 w19) := MB_w mb6 (by omega) (by decide)
  have fmM : FM4 [12, 13, 14, 15, 16, 17, 18, 19] m (wrI (wrI (wrI (wrI (wrI (wrI (wrI (wrI m 192 12 w12) 192 13 w13) 192 14 w14) 192 15 w15) 192 16 w16) 192 17 w17) 192 18 w18) 192 19 w19) := (FM4_w (FM4_w (FM4_w (FM4_w (FM4_w (FM4_w (FM4_w (FM4_w FM4_rfl (by decide)) (by decide)) (by decide)) (by decide)) (by decide)) (by decide)) (by decide)) (by decide))
  have lenM : f_Mo_lengthOf 1835104368 (wrI (wrI (wrI (wrI (wrI (wrI (wrI (wrI m 192 12 w12) 192 13 w13) 192 14 w14) 192 15 w15) 192 16 w16) 192 17 w17) 192 18 w18) 192 19 w19) = some l := by
    rw [lengthOf_loc (fmM.1 192 5 (by decide)) (fun k => fmM.1 195 k (by omega)) (fun k => fmM.2.1 198 k)]
    exact t4
  rw [t1', t2', bP_some, bP_some, t3, bP_some, e12, bP_some, lz_eq, e13, bP_some, lz_eq, e14, bP_some, lz_eq, e15, bP_some, lz_eq, e16, bP_some, lz_eq, e17, bP_some, lz_eq, e18, bP_some, lz_eq, e19, bP_some, lz_eq, lenM, bP_some]
  have r12 : rdI (wrI (wrI (wrI (wrI (wrI (wrI (wrI (wrI m 192 12 w12) 192 13 w13) 192 14 w14) 192 15 w15) 192 16 w16) 192 17 w17) 192 18 w18) 192 19 w19) 192 12 = w12 := by simp only [rdI_wrI, rdP_wrI, rdL_wrI, Nat.reduceEqDiff, false_and, and_false, true_and, and_true, eq_self, reduceIte, ite_self]
  have r13 : rdI (wrI (wrI (wrI (wrI (wrI (wrI (wrI (wrI m 192 12 w12) 192 13 w13) 192 14 w14) 192 15 w15) 192 16 w16) 192 17 w17) 192 18 w18) 192 19 w19) 192 13 = w13 := by simp only [rdI_wrI, rdP_wrI, rdL_wrI, Nat.reduceEqDiff, false_and, and_false, true_and, and_true, eq_self, reduceIte, ite_self]
  have r14 : rdI (wrI (wrI (wrI (wrI (wrI (wrI (wrI (wrI m 192 12 w12) 192 13 w13) 192 14 w14) 192 15 w15) 192 16 w16) 192 17 w17) 192 18 w18) 192 19 w19) 192 14 = w14 := by simp only [rdI_wrI, rdP_wrI, rdL_wrI, Nat.reduceEqDiff, false_and, and_false, true_and, and_true, eq_self, reduceIte, ite_self]
  have r15 : rdI (wrI (wrI (wrI (wrI (wrI (wrI (wrI (wrI m 192 12 w12) 192 13 w13) 192 14 w14) 192 15 w15) 192 16 w16) 192 17 w17) 192 18 w18) 192 19 w19) 192 15 = w15 := by simp only [rdI_wrI, rdP_wrI, rdL_wrI, Nat.reduceEqDiff, false_and, and_false, true_and, and_true, eq_self, reduceIte, ite_self]
  have r16 : rdI (wrI (wrI (wrI (wrI (wrI (wrI (wrI (wrI m 192 12 w12) 192 13 w13) 192 14 w14) 192 15 w15) 192 16 w16) 192 17 w17) 192 18 w18) 192 19 w19) 192 16 = w16 := by simp only [rdI_wrI, rdP_wrI, rdL_wrI, Nat.reduceEqDiff, false_and, and_false, true_and, and_true, eq_self, reduceIte, ite_self]
  have r17 : rdI (wrI (wrI (wrI (wrI (wrI (wrI (wrI (wrI m 192 12 w12) 192 13 w13) 192 14 w14) 192 15 w15) 192 16 w16) 192 17 w17) 192 18 w18) 192 19 w19) 192 17 = w17 := by simp only [rdI_wrI, rdP_wrI, rdL_wrI, Nat.reduceEqDiff, false_and, and_false, true_and, and_true, eq_self, reduceIte, ite_self]
  have r18 : rdI (wrI (wrI (wrI (wrI (wrI (wrI (wrI (wrI m 192 12 w12) 192 13 w13) 192 14 w14) 192 15 w15) 192 16 w16) 192 17 w17) 192 18 w18) 192 19 w19) 192 18 = w18 := by simp only [rdI_wrI, rdP_wrI, rdL_wrI, Nat.reduceEqDiff, false_and, and_false, true_and, and_true, eq_self, reduceIte, ite_self]
  have r19 : rdI (wrI (wrI (wrI (wrI (wrI (wrI (wrI (wrI m 192 12 w12) 192 13 w13) 192 14 w14) 192 15 w15) 192 16 w16) 192 17 w17) 192 18 w18) 192 19 w19) 192 19 = w19 := by simp only [rdI_wrI, rdP_wrI, rdL_wrI, Nat.reduceEqDiff, false_and, and_false, true_and, and_true, eq_self, reduceIte, ite_self]
  by_cases qn : ¬ (l = 32)
  · rw [if_neg qn, if_neg qn, bP_some, if_pos rfl]
    exact ⟨_, _, _, rfl, rfl, FC4_rfl, fmM, Or.inl rfl⟩
  have q : l = 32 := Decidable.not_not.mp qn
  have bs : b + 32 ≤ s := by rw [q] at bl; exact bl
  rw [if_pos q, if_pos q]
  have v12 : w12 = u2B B (b + 4).toNatClampNeg := by
    have := mU2 (p := b + 4) mb s0 s1 (by grind) (by grind)
    rw [e12] at this
    exact Option.some.inj this
  have v13 : w13 = u2B B (b + 14).toNatClampNeg := by
    have := mU2 (p := b + 14) mb0 s0 s1 (by grind) (by grind)
    rw [e13] at this
    exact Option.some.inj this
  have v14 : w14 = u2B B (b + 16).toNatClampNeg := by
    have := mU2 (p := b + 16) mb1 s0 s1 (by grind) (by grind)
    rw [e14] at this
    exact Option.some.inj this
  have v15 : w15 = u2B B (b + 18).toNatClampNeg := by
    have := mU2 (p := b + 18) mb2 s0 s1 (by grind) (by grind)
    rw [e15] at this
    exact Option.some.inj this
  have v16 : w16 = u2B B (b + 20).toNatClampNeg := by
    have := mU2 (p := b + 20) mb3 s0 s1 (by grind) (by grind)
    rw [e16] at this
    exact Option.some.inj this
  have v17 : w17 = u2B B (b + 22).toNatClampNeg := by
    have := mU2 (p := b + 22) mb4 s0 s1 (by grind) (by grind)
    rw [e17] at this
    exact Option.some.inj this
  have v18 : w18 = u2B B (b + 24).toNatClampNeg := by
    have := mU2 (p := b + 24) mb5 s0 s1 (by grind) (by grind)
    rw [e18] at this
    exact Option.some.inj this
  have v19 : w19 = u2B B (b + 30).toNatClampNeg := by
    have := mU2 (p := b + 30) mb6 s0 s1 (by grind) (by grind)
    rw [e19] at this
    exact Option.some.inj this
  generalize hM : (wrI (wrI (wrI (wrI (wrI (wrI (wrI (wrI m 192 12 w12) 192 13 w13) 192 14 w14) 192 15 w15) 192 16 w16) 192 17 w17) 192 18 w18) 192 19 w19) = M at mb7 fmM lenM r12 r13 r14 r15 r16 r17 r18 r19
  rw [cU4 (p := b) cb s0 s1 b0 (by grind), mU4 (p := b) mb7 s0 s1 b0 (by grind), bP_some, bP_some]
  by_cases q1n : ¬ (u4B B b.toNatClampNeg = 65536)
  · rw [if_neg q1n, if_neg q1n, bP_some, if_pos rfl]
    exact ⟨_, _, _, rfl, rfl, FC4_rfl, fmM, Or.inl rfl⟩
  have q1 : u4B B b.toNatClampNeg = 65536 := Decidable.not_not.mp q1n
  rw [if_pos q1, if_pos q1]
  have d8 := cU2 (p := b + 4) cb s0 s1 (by grind) (by grind)
  rw [← v12] at d8
  have cb0 : CB B s (wrI c 4 8 w12) := CB_w cb (by omega) (by decide)
  have d9 := cU2 (p := b + 14) cb0 s0 s1 (by grind) (by grind)
  rw [← v13] at d9
  have cb1 : CB B s (wrI (wrI c 4 8 w12) 4 9 w13) := CB_w cb0 (by omega) (by decide)
  have d10 := cU2 (p := b + 16) cb1 s0 s1 (by grind) (by grind)
  rw [← v14] at d10
  have cb2 : CB B s (wrI (wrI (wrI c 4 8 w12) 4 9 w13) 4 10 w14) := CB_w cb1 (by omega) (by decide)
  have d11 := cU2 (p := b + 18) cb2 s0 s1 (by grind) (by grind)
  rw [← v15] at d11
  have cb3 : CB B s (wrI (wrI (wrI (wrI c 4 8 w12) 4 9 w13) 4 10 w14) 4 11 w15) := CB_w cb2 (by omega) (by decide)
  have d12 := cU2 (p := b + 20) cb3 s0 s1 (by grind) (by grind)
  rw [← v16] at d12
  have cb4 : CB B s (wrI (wrI (wrI (wrI (wrI c 4 8 w12) 4 9 w13) 4 10 w14) 4 11 w15) 4 12 w16) := CB_w cb3 (by omega) (by decide)
  have d13 := cU2 (p := b + 22) cb4 s0 s1 (by grind) (by grind)
  rw [← v17] at d13
  have cb5 : CB B s (wrI (wrI (wrI (wrI (wrI (wrI c 4 8 w12) 4 9 w13) 4 10 w14) 4 11 w15) 4 12 w16) 4 13 w17) := CB_w cb4 (by omega) (by decide)
  have d14 := cU2 (p := b + 24) cb5 s0 s1 (by grind) (by grind)
  rw [← v18] at d14
  have cb6 : CB B s (wrI (wrI (wrI (wrI (wrI (wrI (wrI c 4 8 w12) 4 9 w13) 4 10 w14) 4 11 w15) 4 12 w16) 4 13 w17) 4 14 w18) := CB_w cb5 (by omega) (by decide)
  have d15 := cU2 (p := b + 30) cb6 s0 s1 (by grind) (by grind)
  rw [← v19] at d15
  have cb7 : CB B s (wrI (wrI (wrI (wrI (wrI (wrI (wrI (wrI c 4 8 w12) 4 9 w13) 4 10 w14) 4 11 w15) 4 12 w16) 4 13 w17) 4 14 w18) 4 15 w19) := CB_w cb6 (by omega) (by decide)
  rw [d8, bP_some, lz_eq, d9, bP_some, lz_eq, d10, bP_some, lz_eq, d11, bP_some, lz_eq, d12, bP_some, lz_eq, d13, bP_some, lz_eq, d14, bP_some, lz_eq, d15, bP_some, lz_eq]
  have fcM : FC4 [8, 9, 10, 11, 12, 13, 14, 15] c (wrI (wrI (wrI (wrI (wrI (wrI (wrI (wrI c 4 8 w12) 4 9 w13) 4 10 w14) 4 11 w15) 4 12 w16) 4 13 w17) 4 14 w18) 4 15 w19) := (FC4_w (FC4_w (FC4_w (FC4_w (FC4_w (FC4_w (FC4_w (FC4_w FC4_rfl (by decide)) (by decide)) (by decide)) (by decide)) (by decide)) (by decide)) (by decide)) (by decide))
  have k8 : rdI (wrI (wrI (wrI (wrI (wrI (wrI (wrI (wrI c 4 8 w12) 4 9 w13) 4 10 w14) 4 11 w15) 4 12 w16) 4 13 w17) 4 14 w18) 4 15 w19) 4 8 = w12 := by simp only [rdI_wrI, rdP_wrI, rdL_wrI, Nat.reduceEqDiff, false_and, and_false, true_and, and_true, eq_self, reduceIte, ite_self]
  have k9 : rdI (wrI (wrI (wrI (wrI (wrI (wrI (wrI (wrI c 4 8 w12) 4 9 w13) 4 10 w14) 4 11 w15) 4 12 w16) 4 13 w17) 4 14 w18) 4 15 w19) 4 9 = w13 := by simp only [rdI_wrI, rdP_wrI, rdL_wrI, Nat.reduceEqDiff, false_and, and_false, true_and, and_true, eq_self, reduceIte, ite_self]
  have k10 : rdI (wrI (wrI (wrI (wrI (wrI (wrI (wrI (wrI c 4 8 w12) 4 9 w13) 4 10 w14) 4 11 w15) 4 12 w16) 4 13 w17) 4 14 w18) 4 15 w19) 4 10 = w14 := by simp only [rdI_wrI, rdP_wrI, rdL_wrI, Nat.reduceEqDiff, false_and, and_false, true_and, and_true, eq_self, reduceIte, ite_self]
  have k11 : rdI (wrI (wrI (wrI (wrI (wrI (wrI (wrI (wrI c 4 8 w12) 4 9 w13) 4 10 w14) 4 11 w15) 4 12 w16) 4 13 w17) 4 14 w18) 4 15 w19) 4 11 = w15 := by simp only [rdI_wrI, rdP_wrI, rdL_wrI, Nat.reduceEqDiff, false_and, and_false, true_and, and_true, eq_self, reduceIte, ite_self]
  have k12 : rdI (wrI (wrI (wrI (wrI (wrI (wrI (wrI (wrI c 4 8 w12) 4 9 w13) 4 10 w14) 4 11 w15) 4 12 w16) 4 13 w17) 4 14 w18) 4 15 w19) 4 12 = w16 := by simp only [rdI_wrI, rdP_wrI, rdL_wrI, Nat.reduceEqDiff, false_and, and_false, true_and, and_true, eq_self, reduceIte, ite_self]
  have k13 : rdI (wrI (wrI (wrI (wrI (wrI (wrI (wrI (wrI c 4 8 w12) 4 9 w13) 4 10 w14) 4 11 w15) 4 12 w16) 4 13 w17) 4 14 w18) 4 15 w19) 4 13 = w17 := by simp only [rdI_wrI, rdP_wrI, rdL_wrI, Nat.reduceEqDiff, false_and, and_false, true_and, and_true, eq_self, reduceIte, ite_self]
  have k14 : rdI (wrI (wrI (wrI (wrI (wrI (wrI (wrI (wrI c 4 8 w12) 4 9 w13) 4 10 w14) 4 11 w15) 4 12 w16) 4 13 w17) 4 14 w18) 4 15 w19) 4 14 = w18 := by simp only [rdI_wrI, rdP_wrI, rdL_wrI, Nat.reduceEqDiff, false_and, and_false, true_and, and_true, eq_self, reduceIte, ite_self]
  have k15 : rdI (wrI (wrI (wrI (wrI (wrI (wrI (wrI (wrI c 4 8 w12) 4 9 w13) 4 10 w14) 4 11 w15) 4 12 w16) 4 13 w17) 4 14 w18) 4 15 w19) 4 15 = w19 := by simp only [rdI_wrI, rdP_wrI, rdL_wrI, Nat.reduceEqDiff, false_and, and_false, true_and, and_true, eq_self, reduceIte, ite_self]
  generalize hC : (wrI (wrI (wrI (wrI (wrI (wrI (wrI (wrI c 4 8 w12) 4 9 w13) 4 10 w14) 4 11 w15) 4 12 w16) 4 13 w17) 4 14 w18) 4 15 w19) = C at fcM k8 k9 k10 k11 k12 k13 k14 k15
  have u12 : 0 ≤ w12 ∧ w12 ≤ 65535 := by rw [v12]; exact u2B_r B _
  have u13 : 0 ≤ w13 ∧ w13 ≤ 65535 := by rw [v13]; exact u2B_r B _
  have u14 : 0 ≤ w14 ∧ w14 ≤ 65535 := by rw [v14]; exact u2B_r B _
  have u15 : 0 ≤ w15 ∧ w15 ≤ 65535 := by rw [v15]; exact u2B_r B _
  have u16 : 0 ≤ w16 ∧ w16 ≤ 65535 := by rw [v16]; exact u2B_r B _
  have u17 : 0 ≤ w17 ∧ w17 ≤ 65535 := by rw [v17]; exact u2B_r B _
  have u18 : 0 ≤ w18 ∧ w18 ≤ 65535 := by rw [v18]; exact u2B_r B _
  have u19 : 0 ≤ w19 ∧ w19 ≤ 65535 := by rw [v19]; exact u2B_r B _
  have i12 : f_Mo_in w12.toInt64 1 200 = some (if 1 ≤ w12 ∧ w12 ≤ 200 then 1 else 0) := in_lit (a := 1) (b := 200)
  have i13 : f_Mo_in w13.toInt64 1 2 = some (if 1 ≤ w13 ∧ w13 ≤ 2 then 1 else 0) := in_lit (a := 1) (b := 2)
  have i14 : f_Mo_in w14.toInt64 0 64 = some (if 0 ≤ w14 ∧ w14 ≤ 64 then 1 else 0) := in_lit (a := 0) (b := 64)
  have i15 : f_Mo_in w15.toInt64 0 64 = some (if 0 ≤ w15 ∧ w15 ≤ 64 then 1 else 0) := in_lit (a := 0) (b := 64)
  have i16 : f_Mo_in w16.toInt64 0 64 = some (if 0 ≤ w16 ∧ w16 ≤ 64 then 1 else 0) := in_lit (a := 0) (b := 64)
  have i17 : f_Mo_in w17.toInt64 0 16 = some (if 0 ≤ w17 ∧ w17 ≤ 16 then 1 else 0) := in_lit (a := 0) (b := 16)
  have i18 : f_Mo_in w18.toInt64 0 256 = some (if 0 ≤ w18 ∧ w18 ≤ 256 then 1 else 0) := in_lit (a := 0) (b := 256)
  have i19 : f_Mo_in w19.toInt64 0 4 = some (if 0 ≤ w19 ∧ w19 ≤ 4 then 1 else 0) := in_lit (a := 0) (b := 4)
  rw [k8, k9, k10, k11, k12, k13, k14, k15, r12, r13, r14, r15, r16, r17, r18, r19, wi_in, i12, wi_in, i13, i14, i15, i16, i17, i18, i19]
  simp only [bP_some, lz]
  by_cases Q : (1 ≤ w12 ∧ w12 ≤ 200) ∧ (1 ≤ w13 ∧ w13 ≤ 2) ∧ (w13 = 1 → w14 = 0) ∧ w14 ≤ 64 ∧ w15 ≤ 64 ∧ w16 ≤ 64 ∧ w17 ≤ 16 ∧ w18 ≤ 256 ∧ w19 ≤ 4
  · obtain ⟨a1, a2, a3, a4, a5, a6, a7, a8, a9⟩ := Q
    have p14 : 0 ≤ w14 ∧ w14 ≤ 64 := ⟨u14.1, a4⟩
    have p15 : 0 ≤ w15 ∧ w15 ≤ 64 := ⟨u15.1, a5⟩
    have p16 : 0 ≤ w16 ∧ w16 ≤ 64 := ⟨u16.1, a6⟩
    have p17 : 0 ≤ w17 ∧ w17 ≤ 16 := ⟨u17.1, a7⟩
    have p18 : 0 ≤ w18 ∧ w18 ≤ 256 := ⟨u18.1, a8⟩
    have p19 : 0 ≤ w19 ∧ w19 ≤ 4 := ⟨u19.1, a9⟩
    have m4 : ¬ (if w13 = 1 then (0 : Int32) else 64) < w14 := by
      split
      · rename_i z
        rw [a3 z]
        decide
      · exact Int32.not_lt.mpr a4
    simp only [if_pos a1, if_pos a2, if_neg n10, if_neg m4, if_neg (Int32.not_lt.mpr a5), if_neg (Int32.not_lt.mpr a6), if_neg (Int32.not_lt.mpr a7), if_neg (Int32.not_lt.mpr a8), if_neg (Int32.not_lt.mpr a9), if_pos p14, if_pos p15, if_pos p16, if_pos p17, if_pos p18, if_pos p19, bP_some]
    have fin : (if w13 = 2 then (some ((1 : Int32), M) : Option (Int32 × hH)) else if w14 = 0 then some (1, M) else some (0, M)) = some (1, M) := by
      by_cases z : w13 = 2
      · rw [if_pos z]
      · rw [if_neg z, if_pos (a3 (by grind))]
    rw [fin]
    refine ⟨_, _, _, rfl, rfl, fcM, fmM, Or.inr ⟨rfl, ?_, ?_, ?_, ?_, ?_, ?_, ?_, ?_⟩⟩
    · rw [r12, k8]; exact ⟨rfl, a1⟩
    · rw [r13, k9]
    · rw [r14, k10]; exact ⟨rfl, p14⟩
    · rw [r15, k11]; exact ⟨rfl, p15⟩
    · rw [r16, k12]; exact ⟨rfl, p16⟩
    · rw [r17, k13]; exact ⟨rfl, p17⟩
    · rw [r18, k14]; exact ⟨rfl, p18⟩
    · rw [r19, k15]; exact ⟨rfl, p19⟩
  · refine ⟨0, C, M, ?_, ?_, fcM, fmM, Or.inl rfl⟩
    · by_cases a1n : ¬ (1 ≤ w12 ∧ w12 ≤ 200)
      · simp only [if_neg a1n, if_neg n10, reduceIte, bP_some]
      have a1 : 1 ≤ w12 ∧ w12 ≤ 200 := Decidable.not_not.mp a1n
      by_cases a2n : ¬ (1 ≤ w13 ∧ w13 ≤ 2)
      · simp only [if_pos a1, if_neg a2n, if_neg n10, reduceIte, bP_some]
      have a2 : 1 ≤ w13 ∧ w13 ≤ 2 := Decidable.not_not.mp a2n
      by_cases a3 : (if w13 = 1 then (0 : Int32) else 64) < w14
      · simp only [if_pos a1, if_pos a2, if_pos a3, if_neg n10, reduceIte, bP_some]
      by_cases a4 : 64 < w15
      · simp only [if_pos a1, if_pos a2, if_neg a3, if_pos a4, if_neg n10, reduceIte, bP_some]
      by_cases a5 : 64 < w16
      · simp only [if_pos a1, if_pos a2, if_neg a3, if_neg a4, if_pos a5, if_neg n10, reduceIte, bP_some]
      by_cases a6 : 16 < w17
      · simp only [if_pos a1, if_pos a2, if_neg a3, if_neg a4, if_neg a5, if_pos a6, if_neg n10, reduceIte, bP_some]
      by_cases a7 : 256 < w18
      · simp only [if_pos a1, if_pos a2, if_neg a3, if_neg a4, if_neg a5, if_neg a6, if_pos a7, if_neg n10, reduceIte, bP_some]
      by_cases a8 : 4 < w19
      · simp only [if_pos a1, if_pos a2, if_neg a3, if_neg a4, if_neg a5, if_neg a6, if_neg a7, if_pos a8, if_neg n10, reduceIte, bP_some]
      refine absurd ⟨a1, a2, fun z => ?_, ?_, Int32.not_lt.mp a4, Int32.not_lt.mp a5, Int32.not_lt.mp a6, Int32.not_lt.mp a7, Int32.not_lt.mp a8⟩ Q
      · rw [if_pos z] at a3
        have := u14.1
        grind
      · by_cases z : w13 = 1
        · rw [if_pos z] at a3
          grind
        · rw [if_neg z] at a3
          exact Int32.not_lt.mp a3
    · by_cases a12n : ¬ (1 ≤ w12 ∧ w12 ≤ 200)
      · simp only [if_neg a12n, if_neg n10, reduceIte, bP_some]
      have a12 : 1 ≤ w12 ∧ w12 ≤ 200 := Decidable.not_not.mp a12n
      by_cases a13n : ¬ (1 ≤ w13 ∧ w13 ≤ 2)
      · simp only [if_pos a12, if_neg a13n, if_neg n10, reduceIte, bP_some]
      have a13 : 1 ≤ w13 ∧ w13 ≤ 2 := Decidable.not_not.mp a13n
      by_cases a14n : ¬ (0 ≤ w14 ∧ w14 ≤ 64)
      · simp only [if_pos a12, if_pos a13, if_neg a14n, if_neg n10, reduceIte, bP_some]
      have a14 : 0 ≤ w14 ∧ w14 ≤ 64 := Decidable.not_not.mp a14n
      by_cases a15n : ¬ (0 ≤ w15 ∧ w15 ≤ 64)
      · simp only [if_pos a12, if_pos a13, if_pos a14, if_neg a15n, if_neg n10, reduceIte, bP_some]
      have a15 : 0 ≤ w15 ∧ w15 ≤ 64 := Decidable.not_not.mp a15n
      by_cases a16n : ¬ (0 ≤ w16 ∧ w16 ≤ 64)
      · simp only [if_pos a12, if_pos a13, if_pos a14, if_pos a15, if_neg a16n, if_neg n10, reduceIte, bP_some]
      have a16 : 0 ≤ w16 ∧ w16 ≤ 64 := Decidable.not_not.mp a16n
      by_cases a17n : ¬ (0 ≤ w17 ∧ w17 ≤ 16)
      · simp only [if_pos a12, if_pos a13, if_pos a14, if_pos a15, if_pos a16, if_neg a17n, if_neg n10, reduceIte, bP_some]
      have a17 : 0 ≤ w17 ∧ w17 ≤ 16 := Decidable.not_not.mp a17n
      by_cases a18n : ¬ (0 ≤ w18 ∧ w18 ≤ 256)
      · simp only [if_pos a12, if_pos a13, if_pos a14, if_pos a15, if_pos a16, if_pos a17, if_neg a18n, if_neg n10, reduceIte, bP_some]
      have a18 : 0 ≤ w18 ∧ w18 ≤ 256 := Decidable.not_not.mp a18n
      by_cases a19n : ¬ (0 ≤ w19 ∧ w19 ≤ 4)
      · simp only [if_pos a12, if_pos a13, if_pos a14, if_pos a15, if_pos a16, if_pos a17, if_pos a18, if_neg a19n, if_neg n10, reduceIte, bP_some]
      have a19 : 0 ≤ w19 ∧ w19 ≤ 4 := Decidable.not_not.mp a19n
      by_cases z : w13 = 2
      · exact absurd ⟨a12, a13, fun w => absurd (w.symm.trans z) (by decide), a14.2, a15.2, a16.2, a17.2, a18.2, a19.2⟩ Q
      by_cases tz : w14 = 0
      · exact absurd ⟨a12, a13, fun _ => tz, a14.2, a15.2, a16.2, a17.2, a18.2, a19.2⟩ Q
      simp only [if_pos a12, if_pos a13, if_pos a14, if_pos a15, if_pos a16, if_pos a17, if_pos a18, if_pos a19, if_neg n10, if_neg z, if_neg tz, bP_some]
