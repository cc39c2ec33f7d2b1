/-! LAYER 3j: directions -/
theorem half_eq (x : Int32) : x.toInt64 / 2 = (x / 2).toInt64 := by
  apply Int64.toInt_inj.mp
  rw [Int64.toInt_div, Int32.toInt_toInt64, Int32.toInt_toInt64, Int32.toInt_div]
  have e2 : (2 : Int64).toInt = 2 := rfl
  have e3 : (2 : Int32).toInt = 2 := rfl
  have r := i32_rng x
  have e4 : (x.toInt.tdiv 2).natAbs = x.toInt.natAbs / 2 := Int.natAbs_tdiv x.toInt 2
  rw [e2, e3, i64_bm (by omega) (by omega), i32_bm (by omega) (by omega)]
theorem half_abs (x : Int32) : (x / 2).toInt.natAbs = x.toInt.natAbs / 2 := by
  rw [Int32.toInt_div]
  have e3 : (2 : Int32).toInt = 2 := rfl
  have r := i32_rng x
  have e4 : (x.toInt.tdiv 2).natAbs = x.toInt.natAbs / 2 := Int.natAbs_tdiv x.toInt 2
  rw [e3, i32_bm (by omega) (by omega), e4]
theorem abs32 (x : Int32) : (if 0 ≤ x.toInt64 then x.toInt64 else -x.toInt64).toInt = (x.toInt.natAbs : Int) := by
  have r := i32_rng x
  rw [i64_abs (by rw [Int32.toInt_toInt64]; omega), Int32.toInt_toInt64]
theorem mid_eq {a b : Int32} (ha : 0 ≤ a) (hab : a < b) (hb : b ≤ 16385) : (a + b) >>> ((1 : Int32) &&& 31) = (a + b) / 2 ∧ a ≤ (a + b) / 2 ∧ (a + b) / 2 < b ∧ (1 < b - a → a < (a + b) / 2) := by
  have h1 := Int32.le_iff_toInt_le.mp ha
  have h2 := Int32.lt_iff_toInt_lt.mp hab
  have h3 := Int32.le_iff_toInt_le.mp hb
  have e0 : (0 : Int32).toInt = 0 := rfl
  have e1 : (16385 : Int32).toInt = 16385 := rfl
  have e2 : (2 : Int32).toInt = 2 := rfl
  have e3 : (1 : Int32).toInt = 1 := rfl
  have es : (a + b).toInt = a.toInt + b.toInt := i32_add (by omega) (by omega)
  have ed : ((a + b) / 2).toInt = (a.toInt + b.toInt) / 2 := by
    rw [Int32.toInt_div, e2, es, Int.tdiv_eq_ediv_of_nonneg (by omega), i32_bm (by omega) (by omega)]
  refine ⟨?_, ?_, ?_, ?_⟩
  · apply Int32.toInt_inj.mp
    rw [pk_shr (a + b) _ 1 (by decide), ed, es, Int.shiftRight_eq_div_pow]
    rfl
  · rw [Int32.le_iff_toInt_le, ed]; omega
  · rw [Int32.lt_iff_toInt_lt, ed]; omega
  · intro q
    rw [Int32.lt_iff_toInt_lt, i32_sub (by omega) (by omega)] at q
    rw [Int32.lt_iff_toInt_lt, ed]; omega
theorem L_share (v : Int32) {s : Int64} (hs : 0 < s) : OK2 (f_Ma_share v.toInt64 s) (f_Mo_part v s) (fun a b => a = b) := by
  unfold f_Ma_share f_Mo_part
  simp only [f_JM_abs_eq, f_Mo_sizeOf_eq, bP_some, lz]
  have ew : ∀ t : Int64, 32768 * t = 2 * t * 16384 := by
    intro t
    have : (32768 : Int64) = 2 * 16384 := by decide
    rw [this, Int64.mul_assoc 2 16384 t, Int64.mul_comm 16384 t, ← Int64.mul_assoc]
  rw [ew]
  generalize 2 * (if 0 ≤ v.toInt64 then v.toInt64 else -v.toInt64) * 16384 = w
  refine OK2_bP (OK2_mono (OK2_wh (fun a b => a = b ∧ 0 ≤ a.1 ∧ a.1 < a.2 ∧ a.2 ≤ 16385) (fun a => a.2.toNatClampNeg - a.1.toNatClampNeg) (Φ := fun a b => a = b) ?_ ⟨rfl, by decide, by decide, by decide⟩) ?_)
  · rintro ⟨a, b⟩ t ⟨rfl, h0, h1, h2⟩
    dsimp only at h0 h1 h2 ⊢
    obtain ⟨m1, m2, m3, m4⟩ := mid_eq h0 h1 h2
    by_cases q : b - a ≤ 1
    · rw [if_pos (Or.inr q), if_pos (show b ≤ a + 1 by grind)]
      exact OK2_of rfl rfl rfl
    · have q1 : 1 < b - a := Int32.not_le.mp q
      rw [if_neg (by rintro (z | z); exact Int64.not_le.mpr hs z; exact q z), if_neg (show ¬ b ≤ a + 1 by grind)]
      rw [m1]
      have m5 := m4 q1
      have t1 : ((a + b) / 2).toInt64.toInt32 = (a + b) / 2 := Int32.toInt32_toInt64 _
      have l1 := xI_lt h0 (y := (a + b) / 2) (by grind)
      have l2 := xI_lt (x := (a + b) / 2) (y := b) (by grind) (by grind)
      by_cases z : w * w < (2 * ((a + b) / 2).toInt64 - 1) * (2 * ((a + b) / 2).toInt64 - 1) * s
      · simp only [if_pos z, bP_some, t1]
        refine OK2_of rfl rfl ⟨⟨rfl, h0, m5, by grind⟩, ?_⟩
        have := l1.mpr m5
        have := l2.mpr m3
        show ((a + b) / 2).toNatClampNeg - a.toNatClampNeg < b.toNatClampNeg - a.toNatClampNeg
        omega
      · simp only [if_neg z, bP_some, t1]
        refine OK2_of rfl rfl ⟨⟨rfl, by grind, m3, h2⟩, ?_⟩
        have := l1.mpr m5
        have := l2.mpr m3
        show b.toNatClampNeg - ((a + b) / 2).toNatClampNeg < b.toNatClampNeg - a.toNatClampNeg
        omega
  · rintro a b rfl
    have e : ((0 : Int64) ≤ v.toInt64) ↔ 0 ≤ v := w0
    by_cases z : 0 ≤ v
    · rw [if_pos (e.mpr z), if_pos z]
      exact OK2_of rfl rfl rfl
    · rw [if_neg (fun q => z (e.mp q)), if_neg z]
      exact OK2_of rfl rfl rfl
theorem share_0 : f_Ma_share 0 0 = some 0 := by
  unfold f_Ma_share
  simp only [f_JM_abs_eq, bP_some, lz]
  rw [wh_eq]
  rfl
/-- the direction of a place -/
theorem L_direct (x y : Int32) (hc hm : hH) : ∃ a b, (f_Ma_direct x y 0 hc = some ((), wrI (wrI hc 22 34 a) 22 35 b)) ∧ (f_Ma_direct x y 1 hc = some ((), wrI (wrI hc 22 34 (-b)) 22 35 a)) ∧ (f_Mo_direction x y hm = some ((), wrI (wrI hm 192 105 a) 192 106 b)) := by
  by_cases hz : x = 0 ∧ y = 0
  · obtain ⟨rfl, rfl⟩ := hz
    have e : ∀ t, t = 0 ∨ t = 1 → f_Ma_direct 0 0 t hc = (if t = 0 then some ((), wrI (wrI hc 22 34 16384) 22 35 0) else some ((), wrI (wrI (wrI (wrI hc 22 34 16384) 22 35 0) 22 34 (-0)) 22 35 16384)) := by
      intro t _
      unfold f_Ma_direct
      simp only [lz]
      rw [wh_eq]
      simp +decide only [f_JM_abs_eq, lz, bP_some, bS_some, bT_inl, bT_inr, bJT_inl, bJT_inr, bE_inl, bE_inr, bET_t, bET_inl, bET_inr, cO_t, cO_f, cS_t, cS_f, bE_bS, bE_bP, bE_gd, bET_bT, bET_bS, bET_bP, bET_gd, bJT_bT, bJT_bS, bJT_bP, bJT_gd, bJT_bJT, bP_bS, bP_bP, bP_gd, bT_bT, bT_bS, bT_bP, bT_gd, bS_bS, bS_bP, bS_gd, reduceIte]
      have e0 : (Int32.toInt64 0 * Int32.toInt64 0 + Int32.toInt64 0 * Int32.toInt64 0) = 0 := by decide
      have e1 : Int32.toInt64 0 = 0 := by decide
      rw [e0, e1, share_0]
      simp only [bP_some]
      simp only [rdI_wrI, rdP_wrI, rdL_wrI, Nat.reduceEqDiff, false_and, and_false, true_and, and_true, eq_self, reduceIte, ite_self]
    refine ⟨16384, 0, ?_, ?_, ?_⟩
    · rw [e 0 (Or.inl rfl), if_pos rfl]
    · rw [e 1 (Or.inr rfl), if_neg (by decide)]
      rw [wrI_comm (o := 22) (k := 35) (o' := 22) (k' := 34) (by decide), wrI_wrI, wrI_wrI]
    · unfold f_Mo_direction
      simp +decide only [lz, bP_some, bS_some, bT_inl, bT_inr, bJT_inl, bJT_inr, bE_inl, bE_inr, bET_t, bET_inl, bET_inr, cO_t, cO_f, cS_t, cS_f, bE_bS, bE_bP, bE_gd, bET_bT, bET_bS, bET_bP, bET_gd, bJT_bT, bJT_bS, bJT_bP, bJT_gd, bJT_bJT, bP_bS, bP_bP, bP_gd, bT_bT, bT_bS, bT_bP, bT_gd, bS_bS, bS_bP, bS_gd, reduceIte]
  · have key : OK2 (f_Ma_direct x y 0 hc) (f_Mo_direction x y hm) (fun p q => ∃ a b, p = ((), wrI (wrI hc 22 34 a) 22 35 b) ∧ q = ((), wrI (wrI hm 192 105 a) 192 106 b) ∧ f_Ma_direct x y 1 hc = some ((), wrI (wrI hc 22 34 (-b)) 22 35 a)) := by
      unfold f_Ma_direct f_Mo_direction
      simp only [lz]
      rw [if_neg hz]
      simp only [bE_inl]
      obtain ⟨p, q, e, e', w⟩ := OK2_wh (f := fun p3 : Int64 × Int64 =>
        bP (f_JM_abs p3.1) fun a5 =>
        cO (if (30000 : Int64) < a5 then some true else bP (f_JM_abs p3.2) fun a6 => if a6 ≤ (30000 : Int64) then some false else some true) (some (.inl (p3.1 / (2 : Int64), p3.2 / (2 : Int64)))) (some (.inr (p3.1, p3.2))))
        (g := fun p7 : Int32 × Int32 =>
        bP (f_Mo_sizeOf (Int32.toInt64 p7.1)) fun a9 =>
        cO (if (30000 : Int64) < a9 then some true else bP (f_Mo_sizeOf (Int32.toInt64 p7.2)) fun a10 => if a10 ≤ (30000 : Int64) then some false else some true) (some (.inl (p7.1 / (2 : Int32), p7.2 / (2 : Int32)))) (some (.inr (p7.1, p7.2))))
        (Φ := fun a b => a = (b.1.toInt64, b.2.toInt64) ∧ ¬ (b.1.toInt = 0 ∧ b.2.toInt = 0) ∧ b.1.toInt.natAbs ≤ 30000 ∧ b.2.toInt.natAbs ≤ 30000)
        (fun a b => a = (b.1.toInt64, b.2.toInt64) ∧ ¬ (b.1.toInt = 0 ∧ b.2.toInt = 0)) (fun a => a.1.toInt.natAbs + a.2.toInt.natAbs) (by
          rintro s ⟨a, b⟩ ⟨rfl, hn⟩
          dsimp only at hn ⊢
          simp only [f_JM_abs_eq, f_Mo_sizeOf_eq, bP_some]
          have A := abs32 a
          have B := abs32 b
          generalize (if 0 ≤ a.toInt64 then a.toInt64 else -a.toInt64) = u at A ⊢
          generalize (if 0 ≤ b.toInt64 then b.toInt64 else -b.toInt64) = t at B ⊢
          have e3 : (30000 : Int64).toInt = 30000 := rfl
          have ha := half_abs a
          have hb := half_abs b
          have go : (30000 < a.toInt.natAbs ∨ 30000 < b.toInt.natAbs) → ((((a / 2).toInt64, (b / 2).toInt64) : Int64 × Int64) = ((a / 2).toInt64, (b / 2).toInt64) ∧ ¬ ((a / 2).toInt = 0 ∧ (b / 2).toInt = 0)) ∧ (a / 2).toInt64.toInt.natAbs + (b / 2).toInt64.toInt.natAbs < a.toInt64.toInt.natAbs + b.toInt64.toInt.natAbs := by
            intro q
            refine ⟨⟨rfl, ?_⟩, ?_⟩
            · intro w
              omega
            · simp only [Int32.toInt_toInt64]
              omega
          by_cases q1 : (30000 : Int64) < u
          · rw [if_pos q1]
            simp only [cO_t, half_eq]
            rw [Int64.lt_iff_toInt_lt] at q1
            exact OK2_of rfl rfl (go (by omega))
          · rw [if_neg q1]
            rw [Int64.lt_iff_toInt_lt] at q1
            by_cases q2 : t ≤ 30000
            · rw [if_pos q2]
              simp only [cO_f]
              rw [Int64.le_iff_toInt_le] at q2
              exact OK2_of rfl rfl ⟨rfl, hn, by show a.toInt.natAbs ≤ 30000; omega, by show b.toInt.natAbs ≤ 30000; omega⟩
            · rw [if_neg q2]
              simp only [cO_t, half_eq]
              rw [Int64.le_iff_toInt_le] at q2
              exact OK2_of rfl rfl (go (by omega))) (s := (x.toInt64, y.toInt64)) (t := (x, y)) ⟨rfl, fun w => hz ⟨Int32.toInt_inj.mp w.1, Int32.toInt_inj.mp w.2⟩⟩
      rw [e, e']
      obtain ⟨rfl, w1, w2, w3⟩ := w
      obtain ⟨a, b⟩ := q
      dsimp only at w1 w2 w3
      simp only [bP_some]
      have ea : a.toInt64.toInt = a.toInt := Int32.toInt_toInt64 a
      have eb : b.toInt64.toInt = b.toInt := Int32.toInt_toInt64 b
      have za : (0 : Int64).toInt = 0 := rfl
      have hn : ¬ (a.toInt64 = 0 ∧ b.toInt64 = 0) := fun q => w1 ⟨by rw [← ea, q.1]; rfl, by rw [← eb, q.2]; rfl⟩
      have sq : ∀ t : Int, t.natAbs ≤ 30000 → 0 ≤ t * t ∧ t * t ≤ 900000000 ∧ (t ≠ 0 → 0 < t * t) := by
        intro t ht
        have e1 : t * t = ((t.natAbs * t.natAbs : Nat) : Int) := by rw [Int.natAbs_mul_self]
        have e2 : t.natAbs * t.natAbs ≤ 30000 * 30000 := Nat.mul_le_mul ht ht
        refine ⟨by omega, by omega, fun q => ?_⟩
        have : 0 < t.natAbs * t.natAbs := Nat.mul_pos (by omega) (by omega)
        omega
      have sa := sq a.toInt w2
      have sb := sq b.toInt w3
      have pa : (a.toInt64 * a.toInt64).toInt = a.toInt * a.toInt := by rw [i64_mul (by rw [ea]; omega) (by rw [ea]; omega), ea]
      have pb : (b.toInt64 * b.toInt64).toInt = b.toInt * b.toInt := by rw [i64_mul (by rw [eb]; omega) (by rw [eb]; omega), eb]
      have hs : 0 < a.toInt64 * a.toInt64 + b.toInt64 * b.toInt64 := by
        rw [Int64.lt_iff_toInt_lt, i64_add (by rw [pa, pb]; omega) (by rw [pa, pb]; omega), pa, pb, za]
        by_cases q : a.toInt = 0
        · have := sb.2.2 (fun q2 => w1 ⟨q, q2⟩)
          omega
        · have := sa.2.2 q
          omega
      obtain ⟨r1, r1', e1, e1', rfl⟩ := L_share a hs
      obtain ⟨r2, r2', e2, e2', rfl⟩ := L_share b hs
      rw [if_neg hn, e1, e2, e1', e2']
      simp only [bP_some, reduceIte]
      refine OK2_of rfl rfl ⟨r1, r2, rfl, rfl, ?_⟩
      rw [if_neg (by decide)]
      simp only [rdI_wrI, rdP_wrI, rdL_wrI, Nat.reduceEqDiff, false_and, and_false, true_and, and_true, eq_self, reduceIte, ite_self]
      rw [wrI_comm (o := 22) (k := 35) (o' := 22) (k' := 34) (by decide), wrI_wrI, wrI_wrI]
    obtain ⟨p, q, e, e', a, b, rfl, rfl, e3⟩ := key
    exact ⟨a, b, e, e3, e'⟩
