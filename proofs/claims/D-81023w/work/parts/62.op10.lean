/-! LAYER 3x: codes 96 to 141 without loops -/
theorem ite_some {X : Type} {c : Prop} {ic : Decidable c} {a b : X} : @ite _ c ic (some a) (some b) = some (@ite _ c ic a b) := by split <;> rfl
theorem max_le {a b : Int64} : (if a < b then b else a) = (if a ≤ b then b else a) := by
  by_cases q : a < b
  · rw [if_pos q, if_pos (Int64.le_of_lt q)]
  · rw [if_neg q]
    by_cases w : a ≤ b
    · rw [if_pos w]
      exact Int64.le_antisymm w (Int64.not_lt.mp q)
    · rw [if_neg w]
theorem min_le {a b : Int64} : (if b < a then b else a) = (if b ≤ a then b else a) := by
  by_cases q : b < a
  · rw [if_pos q, if_pos (Int64.le_of_lt q)]
  · rw [if_neg q]
    by_cases w : b ≤ a
    · rw [if_pos w]
      exact Int64.le_antisymm (Int64.not_lt.mp q) w
    · rw [if_neg w]
theorem op_96 {P : hH → hH → Prop} {hc hm : hH} (h : Rm P hc hm) {c : Int32} (hcc : c = 96 ∨ c = 97 ∨ c = 99 ∨ c = 139 ∨ c = 140) : OK2 (f_Ma_upper c hc) (f_Mo_high c hm) (Tr P) := by
  by_cases q : 2 ≤ rdI hc 22 15
  · obtain ⟨q1, k, q2, k2⟩ := h.two q
    have o1 : ∀ a, f_HH_over a 64 = some (ov a 64) := fun a => f_HH_over_eq (by decide)
    have o2 : ∀ a, f_Mo_over a 64 = some (ov a 64) := fun a => f_Mo_over_eq (by decide) (by decide)
    rcases hcc with rfl | rfl | rfl | rfl | rfl <;> unfold f_Ma_upper f_Ma_reckon f_Mo_high <;> simp +decide only [need_T q, has_T h q, f_Ma_pop_eq q1 h.top256, f_Mo_pop_eq h q1, f_Ma_pop_eq q2 k.top256, f_Mo_pop_eq k q2, o1, o2, f_JM_max_eq, f_JM_min_eq, ite_some, max_le, min_le, false_and, lz, bP_some, bS_some, bT_inl, bT_inr, bJT_inl, bJT_inr, bE_inl, bE_inr, bET_t, bET_inl, bET_inr, cO_t, cO_f, cS_t, cS_f, bE_bS, bE_bP, bE_gd, bET_bT, bET_bS, bET_bP, bET_gd, bJT_bT, bJT_bS, bJT_bP, bJT_gd, bJT_bJT, bP_bS, bP_bP, bP_gd, bT_bT, bT_bS, bT_bP, bT_gd, bS_bS, bS_bP, bS_gd, reduceIte] <;> exact E_push k2 _
  · have q' := le_of_not q
    rcases hcc with rfl | rfl | rfl | rfl | rfl <;> unfold f_Ma_upper f_Ma_reckon f_Mo_high <;> simp +decide only [need_F q', has_F h q', lz, bP_some, bS_some, bT_inl, bT_inr, bJT_inl, bJT_inr, bE_inl, bE_inr, bET_t, bET_inl, bET_inr, cO_t, cO_f, cS_t, cS_f, bE_bS, bE_bP, bE_gd, bET_bT, bET_bS, bET_bP, bET_gd, bJT_bT, bJT_bS, bJT_bP, bJT_gd, bJT_bJT, bP_bS, bP_bP, bP_gd, bT_bT, bT_bS, bT_bP, bT_gd, bS_bS, bS_bP, bS_gd, reduceIte] <;> exact OK2_of rfl rfl (Tr_f (h.fails (by decide)))
theorem op_98 {P : hH → hH → Prop} {hc hm : hH} (h : Rm P hc hm) : OK2 (f_Ma_upper 98 hc) (f_Mo_high 98 hm) (Tr P) := by
  unfold f_Ma_upper f_Ma_reckon f_Mo_high
  by_cases q : 2 ≤ rdI hc 22 15
  · obtain ⟨q1, k, q2, k2⟩ := h.two q
    by_cases b : (tpC hc).toInt64 = 0
    · simp +decide only [need_T q, has_T h q, f_Ma_pop_eq q1 h.top256, f_Mo_pop_eq h q1, f_Ma_pop_eq q2 k.top256, f_Mo_pop_eq k q2, true_and, if_pos b, f_Ma_want_0, f_Mo_fail_eq k2.fail, lz, bP_some, bS_some, bT_inl, bT_inr, bJT_inl, bJT_inr, bE_inl, bE_inr, bET_t, bET_inl, bET_inr, cO_t, cO_f, cS_t, cS_f, bE_bS, bE_bP, bE_gd, bET_bT, bET_bS, bET_bP, bET_gd, bJT_bT, bJT_bS, bJT_bP, bJT_gd, bJT_bJT, bP_bS, bP_bP, bP_gd, bT_bT, bT_bS, bT_bP, bT_gd, bS_bS, bS_bP, bS_gd, reduceIte]
      exact OK2_of rfl rfl (Tr_f (k2.fails (by decide)))
    · simp +decide only [need_T q, has_T h q, f_Ma_pop_eq q1 h.top256, f_Mo_pop_eq h q1, f_Ma_pop_eq q2 k.top256, f_Mo_pop_eq k q2, true_and, if_neg b, gd_pos b, f_Ma_want_1, lz, bP_some, bS_some, bT_inl, bT_inr, bJT_inl, bJT_inr, bE_inl, bE_inr, bET_t, bET_inl, bET_inr, cO_t, cO_f, cS_t, cS_f, bE_bS, bE_bP, bE_gd, bET_bT, bET_bS, bET_bP, bET_gd, bJT_bT, bJT_bS, bJT_bP, bJT_gd, bJT_bJT, bP_bS, bP_bP, bP_gd, bT_bT, bT_bS, bT_bP, bT_gd, bS_bS, bS_bP, bS_gd, reduceIte]
      exact E_push k2 _
  · have q' := le_of_not q
    simp +decide only [need_F q', has_F h q', lz, bP_some, bS_some, bT_inl, bT_inr, bJT_inl, bJT_inr, bE_inl, bE_inr, bET_t, bET_inl, bET_inr, cO_t, cO_f, cS_t, cS_f, bE_bS, bE_bP, bE_gd, bET_bT, bET_bS, bET_bP, bET_gd, bJT_bT, bJT_bS, bJT_bP, bJT_gd, bJT_bJT, bP_bS, bP_bP, bP_gd, bT_bT, bT_bS, bT_bP, bT_gd, bS_bS, bS_bP, bS_gd, reduceIte]
    exact OK2_of rfl rfl (Tr_f (h.fails (by decide)))
theorem sh6 (x : Int64) : (x >>> ((Int32.toInt64 (6 : Int32)) &&& 63)) <<< ((Int32.toInt64 (6 : Int32)) &&& 63) = x &&& (-64 : Int64) := by
  apply Int64.toBitVec_inj.mp
  have e1 : ((x >>> ((Int32.toInt64 (6 : Int32)) &&& 63)) <<< ((Int32.toInt64 (6 : Int32)) &&& 63)).toBitVec = (x.toBitVec.sshiftRight 6) <<< 6 := rfl
  have e2 : (x &&& (-64 : Int64)).toBitVec = x.toBitVec &&& (-64#64) := rfl
  rw [e1, e2]
  apply BitVec.eq_of_getLsbD_eq
  intro i hi
  have e3 : ∀ j : Nat, j < 64 → (-64#64).getLsbD j = decide (6 ≤ j) := by decide
  rw [BitVec.getLsbD_and, e3 i hi, BitVec.getLsbD_shiftLeft, BitVec.getLsbD_sshiftRight]
  by_cases w : 6 ≤ i
  · have w1 : ¬ i < 6 := by omega
    have w2 : 6 + (i - 6) = i := by omega
    have w3 : ¬ 64 ≤ i - 6 := by omega
    simp [hi, w, w1, w2, w3]
  · have w1 : i < 6 := by omega
    simp [w, w1]
theorem op_100 {P : hH → hH → Prop} {hc hm : hH} (h : Rm P hc hm) {c : Int32} (hcc : c = 100 ∨ c = 101 ∨ c = 102 ∨ c = 103) : OK2 (f_Ma_upper c hc) (f_Mo_high c hm) (Tr P) := by
  by_cases q : 1 ≤ rdI hc 22 15
  · have k := h.pop q
    rcases hcc with rfl | rfl | rfl | rfl <;> unfold f_Ma_upper f_Ma_reckon f_Mo_high <;> simp +decide only [need_T q, has_T h q, f_Ma_pop_eq q h.top256, f_Mo_pop_eq h q, f_JM_abs_eq, f_Mo_sizeOf_eq, sh6, lz, bP_some, bS_some, bT_inl, bT_inr, bJT_inl, bJT_inr, bE_inl, bE_inr, bET_t, bET_inl, bET_inr, cO_t, cO_f, cS_t, cS_f, bE_bS, bE_bP, bE_gd, bET_bT, bET_bS, bET_bP, bET_gd, bJT_bT, bJT_bS, bJT_bP, bJT_gd, bJT_bJT, bP_bS, bP_bP, bP_gd, bT_bT, bT_bS, bT_bP, bT_gd, bS_bS, bS_bP, bS_gd, reduceIte] <;> exact E_push k _
  · have q' := le_of_not q
    rcases hcc with rfl | rfl | rfl | rfl <;> unfold f_Ma_upper f_Ma_reckon f_Mo_high <;> simp +decide only [need_F q', has_F h q', lz, bP_some, bS_some, bT_inl, bT_inr, bJT_inl, bJT_inr, bE_inl, bE_inr, bET_t, bET_inl, bET_inr, cO_t, cO_f, cS_t, cS_f, bE_bS, bE_bP, bE_gd, bET_bT, bET_bS, bET_bP, bET_gd, bJT_bT, bJT_bS, bJT_bP, bJT_gd, bJT_bJT, bP_bS, bP_bP, bP_gd, bT_bT, bT_bS, bT_bP, bT_gd, bS_bS, bS_bP, bS_gd, reduceIte] <;> exact OK2_of rfl rfl (Tr_f (h.fails (by decide)))
theorem op_104 {P : hH → hH → Prop} {hc hm : hH} (h : Rm P hc hm) {c : Int32} (hcc : c = 104 ∨ c = 105 ∨ c = 106 ∨ c = 107) : OK2 (f_Ma_upper c hc) (f_Mo_high c hm) (Tr P) := by
  by_cases q : 1 ≤ rdI hc 22 15
  · have k := h.pop q
    rcases hcc with rfl | rfl | rfl | rfl <;> unfold f_Ma_upper f_Mo_high <;> simp +decide only [need_T q, has_T h q, f_Ma_pop_eq q h.top256, f_Mo_pop_eq h q, k.roundC (toL_lo _), k.roundM (toL_lo _), lz, bP_some, bS_some, bT_inl, bT_inr, bJT_inl, bJT_inr, bE_inl, bE_inr, bET_t, bET_inl, bET_inr, cO_t, cO_f, cS_t, cS_f, bE_bS, bE_bP, bE_gd, bET_bT, bET_bS, bET_bP, bET_gd, bJT_bT, bJT_bS, bJT_bP, bJT_gd, bJT_bJT, bP_bS, bP_bP, bP_gd, bT_bT, bT_bS, bT_bP, bT_gd, bS_bS, bS_bP, bS_gd, reduceIte] <;> exact E_push k _
  · have q' := le_of_not q
    rcases hcc with rfl | rfl | rfl | rfl <;> unfold f_Ma_upper f_Mo_high <;> simp +decide only [need_F q', has_F h q', lz, bP_some, bS_some, bT_inl, bT_inr, bJT_inl, bJT_inr, bE_inl, bE_inr, bET_t, bET_inl, bET_inr, cO_t, cO_f, cS_t, cS_f, bE_bS, bE_bP, bE_gd, bET_bT, bET_bS, bET_bP, bET_gd, bJT_bT, bJT_bS, bJT_bP, bJT_gd, bJT_bJT, bP_bS, bP_bP, bP_gd, bT_bT, bT_bS, bT_bP, bT_gd, bS_bS, bS_bP, bS_gd, reduceIte] <;> exact OK2_of rfl rfl (Tr_f (h.fails (by decide)))
theorem op_108 {P : hH → hH → Prop} {hc hm : hH} (h : Rm P hc hm) {c : Int32} (hcc : c = 108 ∨ c = 109 ∨ c = 110 ∨ c = 111) : OK2 (f_Ma_upper c hc) (f_Mo_high c hm) (Tr P) := by
  by_cases q : 1 ≤ rdI hc 22 15
  · have k := h.pop q
    have rt := h.r_top
    have t := h.top256
    have e1 : rdI (popC hc) 22 15 < rdI (popC hc) 4 14 := by
      rw [popC_top, popC_o (by decide)]
      grind
    have e2 : pushC (tpC hc) (popC hc) = hc := by
      rw [pushC_popC h.r_high.1]
      exact wrI_id rfl
    have m1 : ∀ x : Int32, x.toInt64.toInt32 = x := fun x => Int32.toInt32_toInt64 x
    rcases hcc with rfl | rfl | rfl | rfl <;> unfold f_Ma_upper f_Mo_high <;> simp +decide only [need_T q, has_T h q, f_Ma_pop_eq q h.top256, f_Ma_push_T k.r_top.1 e1 k.r_stk.2, m1, e2, lz, bP_some, bS_some, bT_inl, bT_inr, bJT_inl, bJT_inr, bE_inl, bE_inr, bET_t, bET_inl, bET_inr, cO_t, cO_f, cS_t, cS_f, bE_bS, bE_bP, bE_gd, bET_bT, bET_bS, bET_bP, bET_gd, bJT_bT, bJT_bS, bJT_bP, bJT_gd, bJT_bJT, bP_bS, bP_bP, bP_gd, bT_bT, bT_bS, bT_bP, bT_gd, bS_bS, bS_bP, bS_gd, reduceIte] <;> exact OK2_of rfl rfl (Tr_m h)
  · have q' := le_of_not q
    rcases hcc with rfl | rfl | rfl | rfl <;> unfold f_Ma_upper f_Mo_high <;> simp +decide only [need_F q', has_F h q', lz, bP_some, bS_some, bT_inl, bT_inr, bJT_inl, bJT_inr, bE_inl, bE_inr, bET_t, bET_inl, bET_inr, cO_t, cO_f, cS_t, cS_f, bE_bS, bE_bP, bE_gd, bET_bT, bET_bS, bET_bP, bET_gd, bJT_bT, bJT_bS, bJT_bP, bJT_gd, bJT_bJT, bP_bS, bP_bP, bP_gd, bT_bT, bT_bS, bT_bP, bT_gd, bS_bS, bS_bP, bS_gd, reduceIte] <;> exact OK2_of rfl rfl (Tr_f (h.fails (by decide)))
theorem op_112 {P : hH → hH → Prop} {hc hm : hH} (h : Rm P hc hm) : OK2 (f_Ma_upper 112 hc) (f_Mo_high 112 hm) (Tr P) := by
  unfold f_Ma_upper f_Ma_last f_Mo_high f_Mo_setCvt
  by_cases q : 2 ≤ rdI hc 22 15
  · obtain ⟨q1, k, q2, k2⟩ := h.two q
    by_cases w : 0 ≤ tpC (popC hc) ∧ tpC (popC hc) < rdI (popC (popC hc)) 23 1
    · simp +decide only [need_T q, has_T h q, f_Ma_pop_eq q1 h.top256, f_Mo_pop_eq h q1, f_Ma_pop_eq q2 k.top256, f_Mo_pop_eq k q2, index_T k2.r_cvtM.1 w, cvtOf_T k2 w, k2.fail, k2.scaledC, k2.scaledM, gd_pos (vp256 k2 w), lz, bP_some, bS_some, bT_inl, bT_inr, bJT_inl, bJT_inr, bE_inl, bE_inr, bET_t, bET_inl, bET_inr, cO_t, cO_f, cS_t, cS_f, bE_bS, bE_bP, bE_gd, bET_bT, bET_bS, bET_bP, bET_gd, bJT_bT, bJT_bS, bJT_bP, bJT_gd, bJT_bJT, bP_bS, bP_bP, bP_gd, bT_bT, bT_bS, bT_bP, bT_gd, bS_bS, bS_bP, bS_gd, reduceIte]
      exact OK2_of rfl rfl (Tr_m (k2.set_cvt _ _))
    · simp +decide only [need_T q, has_T h q, f_Ma_pop_eq q1 h.top256, f_Mo_pop_eq h q1, f_Ma_pop_eq q2 k.top256, f_Mo_pop_eq k q2, index_F k2.r_cvtM.1 w, cvtOf_F k2 w, failM_F, lz, bP_some, bS_some, bT_inl, bT_inr, bJT_inl, bJT_inr, bE_inl, bE_inr, bET_t, bET_inl, bET_inr, cO_t, cO_f, cS_t, cS_f, bE_bS, bE_bP, bE_gd, bET_bT, bET_bS, bET_bP, bET_gd, bJT_bT, bJT_bS, bJT_bP, bJT_gd, bJT_bJT, bP_bS, bP_bP, bP_gd, bT_bT, bT_bS, bT_bP, bT_gd, bS_bS, bS_bP, bS_gd, reduceIte]
      exact OK2_of rfl rfl (Tr_f (k2.fails (by decide)))
  · have q' := le_of_not q
    simp +decide only [need_F q', has_F h q', lz, bP_some, bS_some, bT_inl, bT_inr, bJT_inl, bJT_inr, bE_inl, bE_inr, bET_t, bET_inl, bET_inr, cO_t, cO_f, cS_t, cS_f, bE_bS, bE_bP, bE_gd, bET_bT, bET_bS, bET_bP, bET_gd, bJT_bT, bJT_bS, bJT_bP, bJT_gd, bJT_bJT, bP_bS, bP_bP, bP_gd, bT_bT, bT_bS, bT_bP, bT_gd, bS_bS, bS_bP, bS_gd, reduceIte]
    exact OK2_of rfl rfl (Tr_f (h.fails (by decide)))
theorem and3 (x : Int32) : 0 ≤ x &&& 3 ∧ x &&& 3 ≤ 3 := by
  have e : (x &&& 3).toInt = ((x.toBitVec.toNat &&& 3 : Nat) : Int) := by
    have h1 : (x &&& 3).toBitVec.toNat = x.toBitVec.toNat &&& 3 := by
      rw [Int32.toBitVec_and, BitVec.toNat_and]
      rfl
    have h2 : x.toBitVec.toNat &&& 3 ≤ 3 := Nat.and_le_right
    show (x &&& 3).toBitVec.toInt = _
    rw [BitVec.toInt_eq_toNat_of_lt (by rw [h1]; omega), h1]
  have h2 : x.toBitVec.toNat &&& 3 ≤ 3 := Nat.and_le_right
  have e0 : (0 : Int32).toInt = 0 := rfl
  have e1 : (3 : Int32).toInt = 3 := rfl
  rw [Int32.le_iff_toInt_le, Int32.le_iff_toInt_le, e, e0, e1]
  omega
theorem and1 (x : Int32) : x &&& 1 = 0 ∨ x &&& 1 = 1 := by
  have e : (x &&& 1).toInt = ((x.toBitVec.toNat &&& 1 : Nat) : Int) := by
    have h1 : (x &&& 1).toBitVec.toNat = x.toBitVec.toNat &&& 1 := by
      rw [Int32.toBitVec_and, BitVec.toNat_and]
      rfl
    have h2 : x.toBitVec.toNat &&& 1 ≤ 1 := Nat.and_le_right
    show (x &&& 1).toBitVec.toInt = _
    rw [BitVec.toInt_eq_toNat_of_lt (by rw [h1]; omega), h1]
  have h2 : x.toBitVec.toNat &&& 1 ≤ 1 := Nat.and_le_right
  have e0 : (0 : Int32).toInt = 0 := rfl
  have e1 : (1 : Int32).toInt = 1 := rfl
  by_cases q : x.toBitVec.toNat &&& 1 = 0
  · exact Or.inl (Int32.toInt_inj.mp (by rw [e, e0]; omega))
  · exact Or.inr (Int32.toInt_inj.mp (by rw [e, e1]; omega))
theorem L_ownR {P : hH → hH → Prop} {hc hm : hH} (h : Rm P hc hm) {w : Int32} (hw : w = 118 ∨ w = 119) (n v : Int32) (hv : 0 ≤ v ∧ v ≤ 3) : OK2 (
    lz (A := Int32) (if (3 : Int32) ≤ v then (0 : Int32) else (1 : Int32)) fun p2 =>
    bT (f_Ma_want p2 (11 : Int32) hc) fun _ h1 =>
    lz (A := Int32) (if (if w = 118 then (64 : Int32) else 90) = (64 : Int32) then ((32 : Int32) <<< (v &&& 31)) else (if v = 0 then (22 : Int32) else (if v = (1 : Int32) then (45 : Int32) else (90 : Int32)))) fun p4 =>
    lz (A := Int32) (n &&& (15 : Int32)) fun v8 =>
    lz (A := Int32) (if v8 = 0 then (p4 - (1 : Int32)) else (((v8 - (4 : Int32)) * p4) / (8 : Int32))) fun p9 =>
    bS (f_Ma_rounding p4 ((((n >>> ((4 : Int32) &&& 31)) &&& (3 : Int32)) * p4) / (4 : Int32)) p9 h1) fun _ h2 =>
    some (.inr ((), h2)))
   (if v = (3 : Int32) then (
      bS (f_Mo_fail (11 : Int32) hm) fun _ h4 =>
      some ((), h4)
    ) else (
      lz (A := Int32) (if w = (118 : Int32) then ((32 : Int32) <<< (v &&& 31)) else (if v = 0 then (22 : Int32) else (if v = (1 : Int32) then (45 : Int32) else (90 : Int32)))) fun p4 =>
      lz (A := Int32) (n &&& (15 : Int32)) fun v8 =>
      lz (A := Int32) (if v8 = 0 then (p4 - (1 : Int32)) else (((v8 - (4 : Int32)) * p4) / (8 : Int32))) fun p9 =>
      bS (f_Mo_setRounding w p4 ((p4 * ((n >>> ((4 : Int32) &&& 31)) &&& (3 : Int32))) / (4 : Int32)) p9 hm) fun _ h3 =>
      some ((), h3))) (Tr P) := by
  have fin : ∀ a b c : Int32, 1 ≤ a ∧ a ≤ 128 → OK2 (bS (f_Ma_rounding a (b * a / 4) c hc) fun _ h2 => some (Sum.inr ((), h2))) (bS (f_Mo_setRounding w a (a * b / 4) c hm) fun _ h3 => some ((), h3)) (Tr P) := by
    intro a b c ha
    obtain ⟨x, y, e, e', q⟩ := h.rounding (w := w) (a := a) (b := b * a / 4) (c := c) (by rcases hw with rfl | rfl <;> decide) ha
    rw [Int32.mul_comm a b, e, e']
    exact OK2_of rfl rfl (Tr_m q)
  have hv' : v = 0 ∨ v = 1 ∨ v = 2 ∨ v = 3 := by grind
  rcases hv' with rfl | rfl | rfl | rfl
  · rcases hw with rfl | rfl <;> simp +decide only [f_Ma_want_1, lz, bP_some, bS_some, bT_inl, bT_inr, bJT_inl, bJT_inr, bE_inl, bE_inr, bET_t, bET_inl, bET_inr, cO_t, cO_f, cS_t, cS_f, bE_bS, bE_bP, bE_gd, bET_bT, bET_bS, bET_bP, bET_gd, bJT_bT, bJT_bS, bJT_bP, bJT_gd, bJT_bJT, bP_bS, bP_bP, bP_gd, bT_bT, bT_bS, bT_bP, bT_gd, bS_bS, bS_bP, bS_gd, reduceIte] <;> exact fin _ _ _ (by decide)
  · rcases hw with rfl | rfl <;> simp +decide only [f_Ma_want_1, lz, bP_some, bS_some, bT_inl, bT_inr, bJT_inl, bJT_inr, bE_inl, bE_inr, bET_t, bET_inl, bET_inr, cO_t, cO_f, cS_t, cS_f, bE_bS, bE_bP, bE_gd, bET_bT, bET_bS, bET_bP, bET_gd, bJT_bT, bJT_bS, bJT_bP, bJT_gd, bJT_bJT, bP_bS, bP_bP, bP_gd, bT_bT, bT_bS, bT_bP, bT_gd, bS_bS, bS_bP, bS_gd, reduceIte] <;> exact fin _ _ _ (by decide)
  · rcases hw with rfl | rfl <;> simp +decide only [f_Ma_want_1, lz, bP_some, bS_some, bT_inl, bT_inr, bJT_inl, bJT_inr, bE_inl, bE_inr, bET_t, bET_inl, bET_inr, cO_t, cO_f, cS_t, cS_f, bE_bS, bE_bP, bE_gd, bET_bT, bET_bS, bET_bP, bET_gd, bJT_bT, bJT_bS, bJT_bP, bJT_gd, bJT_bJT, bP_bS, bP_bP, bP_gd, bT_bT, bT_bS, bT_bP, bT_gd, bS_bS, bS_bP, bS_gd, reduceIte] <;> exact fin _ _ _ (by decide)
  · rcases hw with rfl | rfl <;> simp +decide only [f_Ma_want_0, f_Mo_fail_eq h.fail, lz, bP_some, bS_some, bT_inl, bT_inr, bJT_inl, bJT_inr, bE_inl, bE_inr, bET_t, bET_inl, bET_inr, cO_t, cO_f, cS_t, cS_f, bE_bS, bE_bP, bE_gd, bET_bT, bET_bS, bET_bP, bET_gd, bJT_bT, bJT_bS, bJT_bP, bJT_gd, bJT_bJT, bP_bS, bP_bP, bP_gd, bT_bT, bT_bS, bT_bP, bT_gd, bS_bS, bS_bP, bS_gd, reduceIte] <;> exact OK2_of rfl rfl (Tr_f (h.fails (by decide)))
theorem E_M {P : hH → hH → Prop} {o : Option (hH ⊕ (Unit × hH))} {p : Option (Unit × hH)} (h : OK2 o p (Tr P)) : OK2 o (bS p fun _ h1 => some ((), h1)) (Tr P) := by
  obtain ⟨x, y, e, e', r⟩ := h
  rw [e, e']
  exact OK2_of rfl rfl r
theorem op_118 {P : hH → hH → Prop} {hc hm : hH} (h : Rm P hc hm) {c : Int32} (hcc : c = 118 ∨ c = 119) : OK2 (f_Ma_upper c hc) (f_Mo_high c hm) (Tr P) := by
  by_cases q : 1 ≤ rdI hc 22 15
  · have k := h.pop q
    have g := L_ownR k hcc (tpC hc) ((tpC hc >>> ((6 : Int32) &&& 31)) &&& 3) (and3 _)
    rcases hcc with rfl | rfl <;> unfold f_Ma_upper f_Ma_last f_Ma_ownRounding f_Mo_high f_Mo_ownRounding <;> simp +decide only [need_T q, has_T h q, f_Ma_pop_eq q h.top256, f_Mo_pop_eq h q, lz, bP_some, bS_some, bT_inl, bT_inr, bJT_inl, bJT_inr, bE_inl, bE_inr, bET_t, bET_inl, bET_inr, cO_t, cO_f, cS_t, cS_f, bE_bS, bE_bP, bE_gd, bET_bT, bET_bS, bET_bP, bET_gd, bJT_bT, bJT_bS, bJT_bP, bJT_gd, bJT_bJT, bP_bS, bP_bP, bP_gd, bT_bT, bT_bS, bT_bP, bT_gd, bS_bS, bS_bP, bS_gd, reduceIte] <;> simp +decide only [lz, bP_some, bS_some, bT_inl, bT_inr, bJT_inl, bJT_inr, bE_inl, bE_inr, bET_t, bET_inl, bET_inr, cO_t, cO_f, cS_t, cS_f, bE_bS, bE_bP, bE_gd, bET_bT, bET_bS, bET_bP, bET_gd, bJT_bT, bJT_bS, bJT_bP, bJT_gd, bJT_bJT, bP_bS, bP_bP, bP_gd, bT_bT, bT_bS, bT_bP, bT_gd, bS_bS, bS_bP, bS_gd, reduceIte] at g <;> exact E_M g
  · have q' := le_of_not q
    rcases hcc with rfl | rfl <;> unfold f_Ma_upper f_Ma_last f_Mo_high f_Mo_ownRounding <;> simp +decide only [need_F q', has_F h q', lz, bP_some, bS_some, bT_inl, bT_inr, bJT_inl, bJT_inr, bE_inl, bE_inr, bET_t, bET_inl, bET_inr, cO_t, cO_f, cS_t, cS_f, bE_bS, bE_bP, bE_gd, bET_bT, bET_bS, bET_bP, bET_gd, bJT_bT, bJT_bS, bJT_bP, bJT_gd, bJT_bJT, bP_bS, bP_bP, bP_gd, bT_bT, bT_bS, bT_bP, bT_gd, bS_bS, bS_bP, bS_gd, reduceIte] <;> exact OK2_of rfl rfl (Tr_f (h.fails (by decide)))
theorem op_120 {P : hH → hH → Prop} {hc hm : hH} (h : Rm P hc hm) {c : Int32} (hcc : c = 120 ∨ c = 121) : OK2 (f_Ma_upper c hc) (f_Mo_high c hm) (Tr P) := by
  by_cases q : 2 ≤ rdI hc 22 15
  · obtain ⟨q1, k, q2, k2⟩ := h.two q
    by_cases b : tpC hc = 0
    · rcases hcc with rfl | rfl <;> unfold f_Ma_upper f_Ma_last f_Mo_high <;> simp +decide only [need_T q, has_T h q, f_Ma_pop_eq q1 h.top256, f_Mo_pop_eq h q1, f_Ma_pop_eq q2 k.top256, f_Mo_pop_eq k q2, if_pos b, lz, bP_some, bS_some, bT_inl, bT_inr, bJT_inl, bJT_inr, bE_inl, bE_inr, bET_t, bET_inl, bET_inr, cO_t, cO_f, cS_t, cS_f, bE_bS, bE_bP, bE_gd, bET_bT, bET_bS, bET_bP, bET_gd, bJT_bT, bJT_bS, bJT_bP, bJT_gd, bJT_bJT, bP_bS, bP_bP, bP_gd, bT_bT, bT_bS, bT_bP, bT_gd, bS_bS, bS_bP, bS_gd, reduceIte]
      · exact OK2_of rfl rfl (Tr_m k2)
      · exact E_T (hc := hc) (hm := hm) (L_jump k2 _)
    · rcases hcc with rfl | rfl <;> unfold f_Ma_upper f_Ma_last f_Mo_high <;> simp +decide only [need_T q, has_T h q, f_Ma_pop_eq q1 h.top256, f_Mo_pop_eq h q1, f_Ma_pop_eq q2 k.top256, f_Mo_pop_eq k q2, if_neg b, lz, bP_some, bS_some, bT_inl, bT_inr, bJT_inl, bJT_inr, bE_inl, bE_inr, bET_t, bET_inl, bET_inr, cO_t, cO_f, cS_t, cS_f, bE_bS, bE_bP, bE_gd, bET_bT, bET_bS, bET_bP, bET_gd, bJT_bT, bJT_bS, bJT_bP, bJT_gd, bJT_bJT, bP_bS, bP_bP, bP_gd, bT_bT, bT_bS, bT_bP, bT_gd, bS_bS, bS_bP, bS_gd, reduceIte]
      · exact E_T (hc := hc) (hm := hm) (L_jump k2 _)
      · exact OK2_of rfl rfl (Tr_m k2)
  · have q' := le_of_not q
    rcases hcc with rfl | rfl <;> unfold f_Ma_upper f_Ma_last f_Mo_high <;> simp +decide only [need_F q', has_F h q', lz, bP_some, bS_some, bT_inl, bT_inr, bJT_inl, bJT_inr, bE_inl, bE_inr, bET_t, bET_inl, bET_inr, cO_t, cO_f, cS_t, cS_f, bE_bS, bE_bP, bE_gd, bET_bT, bET_bS, bET_bP, bET_gd, bJT_bT, bJT_bS, bJT_bP, bJT_gd, bJT_bJT, bP_bS, bP_bP, bP_gd, bT_bT, bT_bS, bT_bP, bT_gd, bS_bS, bS_bP, bS_gd, reduceIte] <;> exact OK2_of rfl rfl (Tr_f (h.fails (by decide)))
theorem op_122 {P : hH → hH → Prop} {hc hm : hH} (h : Rm P hc hm) : OK2 (f_Ma_upper 122 hc) (f_Mo_high 122 hm) (Tr P) := by
  unfold f_Ma_upper f_Ma_last f_Mo_high
  simp +decide only [lz, bP_some, bS_some, bT_inl, bT_inr, bJT_inl, bJT_inr, bE_inl, bE_inr, bET_t, bET_inl, bET_inr, cO_t, cO_f, cS_t, cS_f, bE_bS, bE_bP, bE_gd, bET_bT, bET_bS, bET_bP, bET_gd, bJT_bT, bJT_bS, bJT_bP, bJT_gd, bJT_bJT, bP_bS, bP_bP, bP_gd, bT_bT, bT_bS, bT_bP, bT_gd, bS_bS, bS_bP, bS_gd, reduceIte]
  exact OK2_of rfl rfl (Tr_m (h.set_rounds (w := 122) (v := 0) rfl))
theorem op_124 {P : hH → hH → Prop} {hc hm : hH} (h : Rm P hc hm) {c : Int32} (hcc : c = 124 ∨ c = 125) : OK2 (f_Ma_upper c hc) (f_Mo_high c hm) (Tr P) := by
  rcases hcc with rfl | rfl <;> unfold f_Ma_upper f_Ma_last f_Mo_high <;> simp +decide only [lz, bP_some, bS_some, bT_inl, bT_inr, bJT_inl, bJT_inr, bE_inl, bE_inr, bET_t, bET_inl, bET_inr, cO_t, cO_f, cS_t, cS_f, bE_bS, bE_bP, bE_gd, bET_bT, bET_bS, bET_bP, bET_gd, bJT_bT, bJT_bS, bJT_bP, bJT_gd, bJT_bJT, bP_bS, bP_bP, bP_gd, bT_bT, bT_bS, bT_bP, bT_gd, bS_bS, bS_bP, bS_gd, reduceIte]
  · obtain ⟨x, y, e, e', q⟩ := h.rounding (w := 124) (a := 64) (b := 0) (c := 63) (by decide) (by decide)
    rw [e, e']
    exact OK2_of rfl rfl (Tr_m q)
  · obtain ⟨x, y, e, e', q⟩ := h.rounding (w := 125) (a := 64) (b := 0) (c := 0) (by decide) (by decide)
    rw [e, e']
    exact OK2_of rfl rfl (Tr_m q)
theorem op_123 {P : hH → hH → Prop} {hc hm : hH} (h : Rm P hc hm) {c : Int32} (hcc : c = 123 ∨ c = 126 ∨ c = 127) : OK2 (f_Ma_upper c hc) (f_Mo_high c hm) (Tr P) := by
  rcases hcc with rfl | rfl | rfl <;> unfold f_Ma_upper f_Ma_last f_Mo_high f_Mo_more <;> simp +decide only [lz, bP_some, bS_some, bT_inl, bT_inr, bJT_inl, bJT_inr, bE_inl, bE_inr, bET_t, bET_inl, bET_inr, cO_t, cO_f, cS_t, cS_f, bE_bS, bE_bP, bE_gd, bET_bT, bET_bS, bET_bP, bET_gd, bJT_bT, bJT_bS, bJT_bP, bJT_gd, bJT_bJT, bP_bS, bP_bP, bP_gd, bT_bT, bT_bS, bT_bP, bT_gd, bS_bS, bS_bP, bS_gd, reduceIte] <;> exact E_T (hc := hc) (hm := hm) (L_unknown h (by decide) (by decide))
theorem op_133 {P : hH → hH → Prop} {hc hm : hH} (h : Rm P hc hm) : OK2 (f_Ma_upper 133 hc) (f_Mo_high 133 hm) (Tr P) := by
  unfold f_Ma_upper f_Ma_others f_Mo_high f_Mo_more
  by_cases q : 1 ≤ rdI hc 22 15
  · simp +decide only [need_T q, has_T h q, f_Ma_pop_eq q h.top256, f_Mo_pop_eq h q, lz, bP_some, bS_some, bT_inl, bT_inr, bJT_inl, bJT_inr, bE_inl, bE_inr, bET_t, bET_inl, bET_inr, cO_t, cO_f, cS_t, cS_f, bE_bS, bE_bP, bE_gd, bET_bT, bET_bS, bET_bP, bET_gd, bJT_bT, bJT_bS, bJT_bP, bJT_gd, bJT_bJT, bP_bS, bP_bP, bP_gd, bT_bT, bT_bS, bT_bP, bT_gd, bS_bS, bS_bP, bS_gd, reduceIte]
    exact OK2_of rfl rfl (Tr_m ((h.pop q).set_scan _))
  · have q' := le_of_not q
    simp +decide only [need_F q', has_F h q', lz, bP_some, bS_some, bT_inl, bT_inr, bJT_inl, bJT_inr, bE_inl, bE_inr, bET_t, bET_inl, bET_inr, cO_t, cO_f, cS_t, cS_f, bE_bS, bE_bP, bE_gd, bET_bT, bET_bS, bET_bP, bET_gd, bJT_bT, bJT_bS, bJT_bP, bJT_gd, bJT_bJT, bP_bS, bP_bP, bP_gd, bT_bT, bT_bS, bT_bP, bT_gd, bS_bS, bS_bP, bS_gd, reduceIte]
    exact OK2_of rfl rfl (Tr_f ((h.fails (by decide)).mw _ rfl (by decide)))
theorem op_141 {P : hH → hH → Prop} {hc hm : hH} (h : Rm P hc hm) : OK2 (f_Ma_upper 141 hc) (f_Mo_high 141 hm) (Tr P) := by
  unfold f_Ma_upper f_Ma_others f_Mo_high f_Mo_more
  by_cases q : 1 ≤ rdI hc 22 15
  · simp +decide only [need_T q, has_T h q, f_Ma_pop_eq q h.top256, f_Mo_pop_eq h q, lz, bP_some, bS_some, bT_inl, bT_inr, bJT_inl, bJT_inr, bE_inl, bE_inr, bET_t, bET_inl, bET_inr, cO_t, cO_f, cS_t, cS_f, bE_bS, bE_bP, bE_gd, bET_bT, bET_bS, bET_bP, bET_gd, bJT_bT, bJT_bS, bJT_bP, bJT_gd, bJT_bJT, bP_bS, bP_bP, bP_gd, bT_bT, bT_bS, bT_bP, bT_gd, bS_bS, bS_bP, bS_gd, reduceIte]
    exact OK2_of rfl rfl (Tr_m ((h.pop q).set_kind _))
  · have q' := le_of_not q
    simp +decide only [need_F q', has_F h q', lz, bP_some, bS_some, bT_inl, bT_inr, bJT_inl, bJT_inr, bE_inl, bE_inr, bET_t, bET_inl, bET_inr, cO_t, cO_f, cS_t, cS_f, bE_bS, bE_bP, bE_gd, bET_bT, bET_bS, bET_bP, bET_gd, bJT_bT, bJT_bS, bJT_bP, bJT_gd, bJT_bJT, bP_bS, bP_bP, bP_gd, bT_bT, bT_bS, bT_bP, bT_gd, bS_bS, bS_bP, bS_gd, reduceIte]
    exact OK2_of rfl rfl (Tr_f ((h.fails (by decide)).mw _ rfl (by decide)))
theorem op_136 {P : hH → hH → Prop} {hc hm : hH} (h : Rm P hc hm) : OK2 (f_Ma_upper 136 hc) (f_Mo_high 136 hm) (Tr P) := by
  unfold f_Ma_upper f_Ma_others f_Mo_high f_Mo_more
  by_cases q : 1 ≤ rdI hc 22 15
  · have k := h.pop q
    have e : (if tpC hc &&& 1 = 1 then (35 : Int64) else 0) = (if tpC hc &&& 1 = 0 then (0 : Int64) else 35) := by
      rcases and1 (tpC hc) with e | e <;> rw [e] <;> rfl
    simp +decide only [need_T q, has_T h q, f_Ma_pop_eq q h.top256, f_Mo_pop_eq h q, e, lz, bP_some, bS_some, bT_inl, bT_inr, bJT_inl, bJT_inr, bE_inl, bE_inr, bET_t, bET_inl, bET_inr, cO_t, cO_f, cS_t, cS_f, bE_bS, bE_bP, bE_gd, bET_bT, bET_bS, bET_bP, bET_gd, bJT_bT, bJT_bS, bJT_bP, bJT_gd, bJT_bJT, bP_bS, bP_bP, bP_gd, bT_bT, bT_bS, bT_bP, bT_gd, bS_bS, bS_bP, bS_gd, reduceIte]
    exact E_push k _
  · have q' := le_of_not q
    simp +decide only [need_F q', has_F h q', lz, bP_some, bS_some, bT_inl, bT_inr, bJT_inl, bJT_inr, bE_inl, bE_inr, bET_t, bET_inl, bET_inr, cO_t, cO_f, cS_t, cS_f, bE_bS, bE_bP, bE_gd, bET_bT, bET_bS, bET_bP, bET_gd, bJT_bT, bJT_bS, bJT_bP, bJT_gd, bJT_bJT, bP_bS, bP_bP, bP_gd, bT_bT, bT_bS, bT_bP, bT_gd, bS_bS, bS_bP, bS_gd, reduceIte]
    exact OK2_of rfl rfl (Tr_f (h.fails (by decide)))
theorem op_138 {P : hH → hH → Prop} {hc hm : hH} (h : Rm P hc hm) : OK2 (f_Ma_upper 138 hc) (f_Mo_high 138 hm) (Tr P) := by
  unfold f_Ma_upper f_Ma_others f_Mo_high f_Mo_more
  by_cases q : 3 ≤ rdI hc 22 15
  · have t := h.top256
    have v1 : vp_in (rdI hc 22 15 - 1) 256 := vp_lt (n := 256) (m := 256) (by grind) (by grind) rfl
    have v2 : vp_in (rdI hc 22 15 - 2) 256 := vp_lt (n := 256) (m := 256) (by grind) (by grind) rfl
    have v3 : vp_in (rdI hc 22 15 - 3) 256 := vp_lt (n := 256) (m := 256) (by grind) (by grind) rfl
    have i1 : (rdI hc 22 15 - 1).toNatClampNeg < (rdI hc 22 15).toNatClampNeg := (xI_lt (by grind) (by grind)).mpr (by grind)
    have x2 := h.a_stk (rdI hc 22 15 - 2).toNatClampNeg ((xI_lt (by grind) (by grind)).mpr (by grind))
    have x3 := h.a_stk (rdI hc 22 15 - 3).toNatClampNeg ((xI_lt (by grind) (by grind)).mpr (by grind))
    have o1 : ∀ (g : hH) (k : Nat) (v : Int32), rdI (wrI g 43 k v) 22 15 = rdI g 22 15 := fun g k v => rdI_o (by decide)
    have o2 : ∀ (g : hH) (k : Nat) (v : Int32), rdI (wrI g 219 k v) 192 56 = rdI g 192 56 := fun g k v => rdI_o (by decide)
    simp +decide only [need_T q, has_T h q, o1, o2, h.s_top, gd_pos v1, gd_pos v3, gd_pos (And.intro v2 v3), gd_pos (And.intro v1 v2), x2, x3, lz, bP_some, bS_some, bT_inl, bT_inr, bJT_inl, bJT_inr, bE_inl, bE_inr, bET_t, bET_inl, bET_inr, cO_t, cO_f, cS_t, cS_f, bE_bS, bE_bP, bE_gd, bET_bT, bET_bS, bET_bP, bET_gd, bJT_bT, bJT_bS, bJT_bP, bJT_gd, bJT_bJT, bP_bS, bP_bP, bP_gd, bT_bT, bT_bS, bT_bP, bT_gd, bS_bS, bS_bP, bS_gd, reduceIte]
    have K1 := h.set_stk (rdI hc 22 15 - 3).toNatClampNeg (rdI hc 43 (rdI hc 22 15 - 2).toNatClampNeg)
    have x1 := K1.a_stk (rdI hc 22 15 - 1).toNatClampNeg (by rw [o1]; exact i1)
    rw [x1]
    exact OK2_of rfl rfl (Tr_m ((K1.set_stk _ _).set_stk _ _))
  · have q' := le_of_not q
    simp +decide only [need_F q', has_F h q', lz, bP_some, bS_some, bT_inl, bT_inr, bJT_inl, bJT_inr, bE_inl, bE_inr, bET_t, bET_inl, bET_inr, cO_t, cO_f, cS_t, cS_f, bE_bS, bE_bP, bE_gd, bET_bT, bET_bS, bET_bP, bET_gd, bJT_bT, bJT_bS, bJT_bP, bJT_gd, bJT_bJT, bP_bS, bP_bP, bP_gd, bT_bT, bT_bS, bT_bP, bT_gd, bS_bS, bS_bP, bS_gd, reduceIte]
    exact OK2_of rfl rfl (Tr_f (h.fails (by decide)))
theorem rw22 {z : Nat} {n : Int32} (hz : isZ z n) {j : Nat} (hj : j < 6) {h : hH} {k i : Nat} {v : Int32} : rdI (wrI h 22 k v) (rf z j) i = rdI h (rf z j) i := by
  have hj' : j = 0 ∨ j = 1 ∨ j = 2 ∨ j = 3 ∨ j = 4 ∨ j = 5 := by omega
  refine rdI_o ?_
  rcases hz with ⟨rfl, _⟩ | ⟨rfl, _⟩ <;> rcases hj' with rfl | rfl | rfl | rfl | rfl | rfl <;> decide
theorem op_134 {P : hH → hH → Prop} {hc hm : hH} (h : Rm P hc hm) {c : Int32} (hcc : c = 134 ∨ c = 135) : OK2 (f_Ma_upper c hc) (f_Mo_high c hm) (Tr P) := by
  by_cases q : 2 ≤ rdI hc 22 15
  · obtain ⟨q1, k, q2, k2⟩ := h.two q
    have z1 := zz_isZ k2.r_zp1
    have z2 := zz_isZ k2.r_zp2
    have m1 : rdI (popM hm) 192 73 = rdI (popC (popC hc)) 55 1 := k.s_zp1.trans (g1_o (by decide))
    have m2 : rdI hm 192 74 = rdI (popC (popC hc)) 55 2 := h.s_zp2.trans (g2_o (by decide))
    have P2 : PT (popC hc) (zz (rdI (popC (popC hc)) 55 2)) (tpC hc) ↔ PT (popC (popC hc)) (zz (rdI (popC (popC hc)) 55 2)) (tpC hc) := PT_pop.symm
    have o214 : ∀ (g : hH) (k i : Nat) (v : Int32), rdI (wrI g 192 k v) 214 i = rdI g 214 i := fun g k i v => rdI_o (by decide)
    have o215 : ∀ (g : hH) (k i : Nat) (v : Int32), rdI (wrI g 192 k v) 215 i = rdI g 215 i := fun g k i v => rdI_o (by decide)
    by_cases p2 : PT (popC (popC hc)) (zz (rdI (popC (popC hc)) 55 2)) (tpC hc)
    · have p2' := P2.mpr p2
      by_cases p1 : PT (popC (popC hc)) (zz (rdI (popC (popC hc)) 55 1)) (tpC (popC hc))
      · obtain ⟨a, b, e1, e2, e3⟩ := L_direct (rdI (popC (popC hc)) (rf (zz (rdI (popC (popC hc)) 55 1)) 0) (tpC (popC hc)).toNatClampNeg - rdI (popC (popC hc)) (rf (zz (rdI (popC (popC hc)) 55 2)) 0) (tpC hc).toNatClampNeg) (rdI (popC (popC hc)) (rf (zz (rdI (popC (popC hc)) 55 1)) 1) (tpC (popC hc)).toNatClampNeg - rdI (popC (popC hc)) (rf (zz (rdI (popC (popC hc)) 55 2)) 1) (tpC hc).toNatClampNeg) (popC (popC hc)) (popM (popM hm))
        rcases hcc with rfl | rfl
        · obtain ⟨a', b', d1, d2, d3⟩ := L_direct (rdI (popC (popC hc)) (rf (zz (rdI (popC (popC hc)) 55 1)) 2) (tpC (popC hc)).toNatClampNeg - rdI (popC (popC hc)) (rf (zz (rdI (popC (popC hc)) 55 2)) 2) (tpC hc).toNatClampNeg) (rdI (popC (popC hc)) (rf (zz (rdI (popC (popC hc)) 55 1)) 3) (tpC (popC hc)).toNatClampNeg - rdI (popC (popC hc)) (rf (zz (rdI (popC (popC hc)) 55 2)) 3) (tpC hc).toNatClampNeg) (wrI (wrI (wrI (wrI (popC (popC hc)) 22 34 a) 22 35 b) 22 32 a) 22 33 b) (wrI (wrI (wrI (wrI (popM (popM hm)) 192 105 a) 192 106 b) 192 67 a) 192 68 b)
          have r1 : ∀ (g : hH) (x y : Int32), rdI (wrI (wrI g 22 34 x) 22 35 y) 22 34 = x := fun g x y => by simp only [rdI_wrI, rdP_wrI, rdL_wrI, Nat.reduceEqDiff, false_and, and_false, true_and, and_true, eq_self, reduceIte, ite_self]
          have r2 : ∀ (g : hH) (x y v : Int32), rdI (wrI (wrI (wrI g 22 34 x) 22 35 y) 22 32 v) 22 35 = y := fun g x y v => by simp only [rdI_wrI, rdP_wrI, rdL_wrI, Nat.reduceEqDiff, false_and, and_false, true_and, and_true, eq_self, reduceIte, ite_self]
          have r3 : ∀ (g : hH) (x y v : Int32), rdI (wrI (wrI (wrI g 22 34 x) 22 35 y) 22 30 v) 22 35 = y := fun g x y v => by simp only [rdI_wrI, rdP_wrI, rdL_wrI, Nat.reduceEqDiff, false_and, and_false, true_and, and_true, eq_self, reduceIte, ite_self]
          have s1 : ∀ (g : hH) (x y : Int32), rdI (wrI (wrI g 192 105 x) 192 106 y) 192 105 = x := fun g x y => by simp only [rdI_wrI, rdP_wrI, rdL_wrI, Nat.reduceEqDiff, false_and, and_false, true_and, and_true, eq_self, reduceIte, ite_self]
          have s2 : ∀ (g : hH) (x y v : Int32), rdI (wrI (wrI (wrI g 192 105 x) 192 106 y) 192 67 v) 192 106 = y := fun g x y v => by simp only [rdI_wrI, rdP_wrI, rdL_wrI, Nat.reduceEqDiff, false_and, and_false, true_and, and_true, eq_self, reduceIte, ite_self]
          have s3 : ∀ (g : hH) (x y v : Int32), rdI (wrI (wrI (wrI g 192 105 x) 192 106 y) 192 65 v) 192 106 = y := fun g x y v => by simp only [rdI_wrI, rdP_wrI, rdL_wrI, Nat.reduceEqDiff, false_and, and_false, true_and, and_true, eq_self, reduceIte, ite_self]
          unfold f_Ma_upper f_Ma_others f_Ma_twoVectors f_Mo_high f_Mo_more
          simp +decide only [need_T q, has_T h q, f_Ma_pop_eq q1 h.top256, f_Mo_pop_eq h q1, f_Ma_pop_eq q2 k.top256, f_Mo_pop_eq k q2, f_Ma_zone_1, f_Ma_zone_2, gd_pos (isA_zz k2.r_zp1), gd_pos (isA_zz k2.r_zp2), f_Ma_point_T (k2.many0 z1) p1, f_Ma_point_T (k2.many0 z2) p2, m1, m2, f_Mo_pointOf_T k z2 p2', f_Mo_pointOf_T k2 z1 p1, gd_pos (And.intro (k2.vpC z1 p1) (k2.vpC z2 p2)), gd_pos (And.intro (k2.vpM z1 p1) (k2.vpM z2 p2)), k2.fail, k2.zox z1 p1, k2.zoy z1 p1, k2.zox z2 p2, k2.zoy z2 p2, e1, e3, r1, r2, r3, s1, s2, s3, rw22 z1 (j := 2) (by decide), rw22 z1 (j := 3) (by decide), rw22 z2 (j := 2) (by decide), rw22 z2 (j := 3) (by decide), o214, o215, k2.zx z1 p1, k2.zy z1 p1, k2.zx z2 p2, k2.zy z2 p2, d1, d3, lz, bP_some, bS_some, bT_inl, bT_inr, bJT_inl, bJT_inr, bE_inl, bE_inr, bET_t, bET_inl, bET_inr, cO_t, cO_f, cS_t, cS_f, bE_bS, bE_bP, bE_gd, bET_bT, bET_bS, bET_bP, bET_gd, bJT_bT, bJT_bS, bJT_bP, bJT_gd, bJT_bJT, bP_bS, bP_bP, bP_gd, bT_bT, bT_bS, bT_bP, bT_gd, bS_bS, bS_bP, bS_gd, reduceIte]
          exact OK2_of rfl rfl (Tr_m (((((((k2.turned a b a b).set_dx a).set_dy b).turned a' b' a' b').set_px a').set_py b')))
        · obtain ⟨a', b', d1, d2, d3⟩ := L_direct (rdI (popC (popC hc)) (rf (zz (rdI (popC (popC hc)) 55 1)) 2) (tpC (popC hc)).toNatClampNeg - rdI (popC (popC hc)) (rf (zz (rdI (popC (popC hc)) 55 2)) 2) (tpC hc).toNatClampNeg) (rdI (popC (popC hc)) (rf (zz (rdI (popC (popC hc)) 55 1)) 3) (tpC (popC hc)).toNatClampNeg - rdI (popC (popC hc)) (rf (zz (rdI (popC (popC hc)) 55 2)) 3) (tpC hc).toNatClampNeg) (wrI (wrI (wrI (wrI (popC (popC hc)) 22 34 (-b)) 22 35 a) 22 32 (-b)) 22 33 a) (wrI (wrI (wrI (wrI (popM (popM hm)) 192 105 a) 192 106 b) 192 67 (-b)) 192 68 a)
          have r1 : ∀ (g : hH) (x y : Int32), rdI (wrI (wrI g 22 34 x) 22 35 y) 22 34 = x := fun g x y => by simp only [rdI_wrI, rdP_wrI, rdL_wrI, Nat.reduceEqDiff, false_and, and_false, true_and, and_true, eq_self, reduceIte, ite_self]
          have r2 : ∀ (g : hH) (x y v : Int32), rdI (wrI (wrI (wrI g 22 34 x) 22 35 y) 22 32 v) 22 35 = y := fun g x y v => by simp only [rdI_wrI, rdP_wrI, rdL_wrI, Nat.reduceEqDiff, false_and, and_false, true_and, and_true, eq_self, reduceIte, ite_self]
          have r3 : ∀ (g : hH) (x y v : Int32), rdI (wrI (wrI (wrI g 22 34 x) 22 35 y) 22 30 v) 22 35 = y := fun g x y v => by simp only [rdI_wrI, rdP_wrI, rdL_wrI, Nat.reduceEqDiff, false_and, and_false, true_and, and_true, eq_self, reduceIte, ite_self]
          have s1 : ∀ (g : hH) (x y : Int32), rdI (wrI (wrI g 192 105 x) 192 106 y) 192 106 = y := fun g x y => by simp only [rdI_wrI, rdP_wrI, rdL_wrI, Nat.reduceEqDiff, false_and, and_false, true_and, and_true, eq_self, reduceIte, ite_self]
          have s2 : ∀ (g : hH) (x y v : Int32), rdI (wrI (wrI (wrI g 192 105 x) 192 106 y) 192 67 v) 192 105 = x := fun g x y v => by simp only [rdI_wrI, rdP_wrI, rdL_wrI, Nat.reduceEqDiff, false_and, and_false, true_and, and_true, eq_self, reduceIte, ite_self]
          have s3 : ∀ (g : hH) (x y v : Int32), rdI (wrI (wrI (wrI g 192 105 x) 192 106 y) 192 65 v) 192 105 = x := fun g x y v => by simp only [rdI_wrI, rdP_wrI, rdL_wrI, Nat.reduceEqDiff, false_and, and_false, true_and, and_true, eq_self, reduceIte, ite_self]
          unfold f_Ma_upper f_Ma_others f_Ma_twoVectors f_Mo_high f_Mo_more
          simp +decide only [need_T q, has_T h q, f_Ma_pop_eq q1 h.top256, f_Mo_pop_eq h q1, f_Ma_pop_eq q2 k.top256, f_Mo_pop_eq k q2, f_Ma_zone_1, f_Ma_zone_2, gd_pos (isA_zz k2.r_zp1), gd_pos (isA_zz k2.r_zp2), f_Ma_point_T (k2.many0 z1) p1, f_Ma_point_T (k2.many0 z2) p2, m1, m2, f_Mo_pointOf_T k z2 p2', f_Mo_pointOf_T k2 z1 p1, gd_pos (And.intro (k2.vpC z1 p1) (k2.vpC z2 p2)), gd_pos (And.intro (k2.vpM z1 p1) (k2.vpM z2 p2)), k2.fail, k2.zox z1 p1, k2.zoy z1 p1, k2.zox z2 p2, k2.zoy z2 p2, e2, e3, r1, r2, r3, s1, s2, s3, rw22 z1 (j := 2) (by decide), rw22 z1 (j := 3) (by decide), rw22 z2 (j := 2) (by decide), rw22 z2 (j := 3) (by decide), o214, o215, k2.zx z1 p1, k2.zy z1 p1, k2.zx z2 p2, k2.zy z2 p2, d2, d3, lz, bP_some, bS_some, bT_inl, bT_inr, bJT_inl, bJT_inr, bE_inl, bE_inr, bET_t, bET_inl, bET_inr, cO_t, cO_f, cS_t, cS_f, bE_bS, bE_bP, bE_gd, bET_bT, bET_bS, bET_bP, bET_gd, bJT_bT, bJT_bS, bJT_bP, bJT_gd, bJT_bJT, bP_bS, bP_bP, bP_gd, bT_bT, bT_bS, bT_bP, bT_gd, bS_bS, bS_bP, bS_gd, reduceIte]
          exact OK2_of rfl rfl (Tr_m (((((((k2.turned (-b) a a b).set_dx (-b)).set_dy a).turned (-b') a' a' b').set_px (-b')).set_py a')))
      · rcases hcc with rfl | rfl <;> unfold f_Ma_upper f_Ma_others f_Ma_twoVectors f_Mo_high f_Mo_more <;> simp +decide only [need_T q, has_T h q, f_Ma_pop_eq q1 h.top256, f_Mo_pop_eq h q1, f_Ma_pop_eq q2 k.top256, f_Mo_pop_eq k q2, f_Ma_zone_1, f_Ma_zone_2, gd_pos (isA_zz k2.r_zp1), gd_pos (isA_zz k2.r_zp2), f_Ma_point_F (k2.many0 z1) p1, m1, m2, f_Mo_pointOf_T k z2 p2', f_Mo_pointOf_F k2 z1 p1, failM_F, lz, bP_some, bS_some, bT_inl, bT_inr, bJT_inl, bJT_inr, bE_inl, bE_inr, bET_t, bET_inl, bET_inr, cO_t, cO_f, cS_t, cS_f, bE_bS, bE_bP, bE_gd, bET_bT, bET_bS, bET_bP, bET_gd, bJT_bT, bJT_bS, bJT_bP, bJT_gd, bJT_bJT, bP_bS, bP_bP, bP_gd, bT_bT, bT_bS, bT_bP, bT_gd, bS_bS, bS_bP, bS_gd, reduceIte] <;> exact OK2_of rfl rfl (Tr_f (k2.fails (by decide)))
    · have p2' := fun w => p2 (P2.mp w)
      obtain ⟨v, ev⟩ := f_Mo_pop_X k (c := 5) q2
      obtain ⟨u, eu⟩ := f_Mo_pointOf_X (hm := failM 5 (popM (popM hm))) (n := rdI (failM 5 (popM hm)) 192 73) (p := v) (by rw [failM_F]; decide)
      by_cases p1 : PT (popC (popC hc)) (zz (rdI (popC (popC hc)) 55 1)) (tpC (popC hc))
      · rcases hcc with rfl | rfl <;> unfold f_Ma_upper f_Ma_others f_Ma_twoVectors f_Mo_high f_Mo_more <;> simp +decide only [need_T q, has_T h q, f_Ma_pop_eq q1 h.top256, f_Mo_pop_eq h q1, f_Ma_pop_eq q2 k.top256, f_Ma_zone_1, f_Ma_zone_2, gd_pos (isA_zz k2.r_zp1), gd_pos (isA_zz k2.r_zp2), f_Ma_point_T (k2.many0 z1) p1, f_Ma_point_F (k2.many0 z2) p2, m2, f_Mo_pointOf_F k z2 p2', ev, eu, failM_F, lz, bP_some, bS_some, bT_inl, bT_inr, bJT_inl, bJT_inr, bE_inl, bE_inr, bET_t, bET_inl, bET_inr, cO_t, cO_f, cS_t, cS_f, bE_bS, bE_bP, bE_gd, bET_bT, bET_bS, bET_bP, bET_gd, bJT_bT, bJT_bS, bJT_bP, bJT_gd, bJT_bJT, bP_bS, bP_bP, bP_gd, bT_bT, bT_bS, bT_bP, bT_gd, bS_bS, bS_bP, bS_gd, reduceIte] <;> exact OK2_of rfl rfl (Tr_f (k2.fails (by decide)))
      · rcases hcc with rfl | rfl <;> unfold f_Ma_upper f_Ma_others f_Ma_twoVectors f_Mo_high f_Mo_more <;> simp +decide only [need_T q, has_T h q, f_Ma_pop_eq q1 h.top256, f_Mo_pop_eq h q1, f_Ma_pop_eq q2 k.top256, f_Ma_zone_1, f_Ma_zone_2, gd_pos (isA_zz k2.r_zp1), gd_pos (isA_zz k2.r_zp2), f_Ma_point_F (k2.many0 z1) p1, m2, f_Mo_pointOf_F k z2 p2', ev, eu, failM_F, lz, bP_some, bS_some, bT_inl, bT_inr, bJT_inl, bJT_inr, bE_inl, bE_inr, bET_t, bET_inl, bET_inr, cO_t, cO_f, cS_t, cS_f, bE_bS, bE_bP, bE_gd, bET_bT, bET_bS, bET_bP, bET_gd, bJT_bT, bJT_bS, bJT_bP, bJT_gd, bJT_bJT, bP_bS, bP_bP, bP_gd, bT_bT, bT_bS, bT_bP, bT_gd, bS_bS, bS_bP, bS_gd, reduceIte] <;> exact OK2_of rfl rfl (Tr_f (k2.fails (by decide)))
  · have q' := le_of_not q
    rcases hcc with rfl | rfl <;> unfold f_Ma_upper f_Ma_others f_Mo_high f_Mo_more <;> simp +decide only [need_F q', has_F h q', lz, bP_some, bS_some, bT_inl, bT_inr, bJT_inl, bJT_inr, bE_inl, bE_inr, bET_t, bET_inl, bET_inr, cO_t, cO_f, cS_t, cS_f, bE_bS, bE_bP, bE_gd, bET_bT, bET_bS, bET_bP, bET_gd, bJT_bT, bJT_bS, bJT_bP, bJT_gd, bJT_bJT, bP_bS, bP_bP, bP_gd, bT_bT, bT_bS, bT_bP, bT_gd, bS_bS, bS_bP, bS_gd, reduceIte] <;> exact OK2_of rfl rfl (Tr_f (h.fails (by decide)))
