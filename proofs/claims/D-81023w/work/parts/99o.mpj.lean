/-! LAYER 3AW: the model's joining, whole -/
theorem mpJ_eq0 {x2 x3 : Int32} {h4 : hH} : mpJ x2 x3 h4 = (
  lz (A := Int32) ((102 : Int32) * x3) fun v5 =>
  lz (A := Int32) (v5 + (102 : Int32)) fun v6 =>
  gd (vp_in x3 6) <|
  lz (A := Int32) (rdI h4 236 (Int32.toNatClampNeg x3)) fun v7 =>
  gd (vp_in (x3 + (1 : Int32)) 6) <|
  lz (A := Int32) (rdI h4 236 (Int32.toNatClampNeg (x3 + (1 : Int32)))) fun v9 =>
  cO (
    if (100 : Int32) < (v7 + v9) then (
      some true
    ) else (
      gd (vp_in x3 6 ∧ vp_in (x3 + (1 : Int32)) 6) <|
      if ((rdI h4 237 (Int32.toNatClampNeg x3)) + (rdI h4 237 (Int32.toNatClampNeg (x3 + (1 : Int32))))) ≤ (20 : Int32) then (
        some false
      ) else (
        some true
      )
    )
  ) (
    bS (f_Mo_failOutside (12 : Int32) h4) fun _ h5 =>
    some ((), h5)
  ) (
    gd (vp_in ((4 : Int32) * x2) 32) <|
    lz (A := Int64) (Int32.toInt64 (rdI h4 207 (Int32.toNatClampNeg ((4 : Int32) * x2)))) fun v17 =>
    gd (vp_in (((4 : Int32) * x2) + (1 : Int32)) 32) <|
    lz (A := Int64) (Int32.toInt64 (rdI h4 207 (Int32.toNatClampNeg (((4 : Int32) * x2) + (1 : Int32))))) fun v19 =>
    gd (vp_in (((4 : Int32) * x2) + (2 : Int32)) 32) <|
    lz (A := Int64) (Int32.toInt64 (rdI h4 207 (Int32.toNatClampNeg (((4 : Int32) * x2) + (2 : Int32))))) fun v21 =>
    gd (vp_in (((4 : Int32) * x2) + (3 : Int32)) 32) <|
    lz (A := Int64) (Int32.toInt64 (rdI h4 207 (Int32.toNatClampNeg (((4 : Int32) * x2) + (3 : Int32))))) fun v23 =>
    bP (A := hH) (wh (mL1 v5 v6 v7 v9 v17 v19 v21 v23) ((0 : Int32), h4)) fun p26 =>
    gd (vp_in x2 8) <|
    bE (P := (Int32 × Int32)) (X := (Unit × hH)) (mK2 x2 v5 v7 v9 p26) fun p39 =>
    lz (A := Int32) (v5 + v7) fun v94 =>
    bP (A := hH) (wh (mL2 v5 v7 v9 p39.1 p39.2) (v94, p26)) fun p96 =>
    bP (A := hH) (wh (mL3 x3 v7) ((0 : Int32), p96)) fun p102 =>
    gd (vp_in x3 6) <|
    lz (wrI p102 236 (Int32.toNatClampNeg x3) ((rdI p102 236 (Int32.toNatClampNeg x3)) + v9)) fun h13 =>
    gd (vp_in x3 6 ∧ vp_in (x3 + (1 : Int32)) 6) <|
    lz (wrI h13 237 (Int32.toNatClampNeg x3) ((rdI h13 237 (Int32.toNatClampNeg x3)) + (rdI h13 237 (Int32.toNatClampNeg (x3 + (1 : Int32)))))) fun h14 =>
    gd (vp_in x2 8) <|
    if ((rdI h14 203 (Int32.toNatClampNeg x2)) &&& (512 : Int32)) = 0 then (
      some ((), h14)
    ) else (
      bP (A := hH) (wh (mL4 x3) ((0 : Int32), h14)) fun p111 =>
      some ((), p111)
    )
  )) := rfl
theorem mpJ_eq {hc h : hH} {x j : Int32} (x0 : 0 ≤ x ∧ x ≤ 4) (hj : 0 ≤ j ∧ j < 8) (hu : 16 ≤ rdI hc 4 6) (e1 : rdI h 192 62 = rdI hc 22 4) (e2 : rdI h 192 10 = rdI hc 4 6) (f0 : rdI h 192 59 = 0) (n0 : 0 ≤ rdI h 236 x.toNatClampNeg ∧ rdI h 236 x.toNatClampNeg ≤ 100) (n1 : 0 ≤ rdI h 236 (x.toNatClampNeg + 1) ∧ rdI h 236 (x.toNatClampNeg + 1) ≤ 100) (c0 : 0 ≤ rdI h 237 x.toNatClampNeg ∧ rdI h 237 x.toNatClampNeg ≤ 20) (c1 : 0 ≤ rdI h 237 (x.toNatClampNeg + 1) ∧ rdI h 237 (x.toNatClampNeg + 1) ≤ 20) (ha : rdI h 203 j.toNatClampNeg &&& 2 = 0 → 0 ≤ rdI h 205 j.toNatClampNeg ∧ 0 ≤ rdI h 206 j.toNatClampNeg) : mpJ j x h = if 100 < rdI h 236 x.toNatClampNeg + rdI h 236 (x.toNatClampNeg + 1) ∨ 20 < rdI h 237 x.toNatClampNeg + rdI h 237 (x.toNatClampNeg + 1) then some ((), foM h 12) else if rdI h 203 j.toNatClampNeg &&& 2 = 0 ∧ (rdI h 236 x.toNatClampNeg ≤ rdI h 205 j.toNatClampNeg ∨ rdI h 236 (x.toNatClampNeg + 1) ≤ rdI h 206 j.toNatClampNeg) then some ((), foM (mJX h x.toNatClampNeg j.toNatClampNeg) 5) else some ((), mJF hc h x.toNatClampNeg j.toNatClampNeg) := by
  have v8 : vp_in j 8 := vp_lt (n := 8) (m := 8) hj.1 hj.2 rfl
  have vx : vp_in x 6 := vp_lt (n := 6) (m := 6) x0.1 (by grind) rfl
  have vx1 : vp_in (x + 1) 6 := vp_lt (n := 6) (m := 6) (by grind) (by grind) rfl
  have ex : (x + 1).toNatClampNeg = x.toNatClampNeg + 1 := xI_succ (m := 12) x0.1 (by grind) (by decide)
  obtain ⟨⟨i0, i1, i2, i3⟩, v0, v1, v2, v3⟩ := xI_4 hj.1 hj.2
  rw [mpJ_eq0, lz_eq, lz_eq, gd_pos vx, lz_eq, gd_pos vx1, lz_eq, gd_pos ⟨vx, vx1⟩, ex]
  by_cases w1 : 100 < rdI h 236 x.toNatClampNeg + rdI h 236 (x.toNatClampNeg + 1)
  · rw [if_pos w1, if_pos (Or.inl w1), cO_t, fo_eq f0]
    rfl
  rw [if_neg w1]
  by_cases w2 : 20 < rdI h 237 x.toNatClampNeg + rdI h 237 (x.toNatClampNeg + 1)
  · rw [if_neg (Int32.not_le.mpr w2), if_pos (Or.inr w2), cO_t, fo_eq f0]
    rfl
  have w3 : ¬ (100 < rdI h 236 x.toNatClampNeg + rdI h 236 (x.toNatClampNeg + 1) ∨ 20 < rdI h 237 x.toNatClampNeg + rdI h 237 (x.toNatClampNeg + 1)) := fun w => w.elim w1 w2
  have hs := Int32.not_lt.mp w1
  have hs2 := Int32.not_lt.mp w2
  rw [if_pos hs2, if_neg w3, cO_f, gd_pos v0, lz_eq, gd_pos v1, lz_eq, gd_pos v2, lz_eq, gd_pos v3, lz_eq, i0, i1, i2, i3, mj1_eq x0 n0 n1 hs, bP_some, gd_pos v8]
  have eX : mj1 h x.toNatClampNeg (rdI h 236 x.toNatClampNeg).toNatClampNeg (rdI h 207 (4 * j.toNatClampNeg)) (rdI h 207 (4 * j.toNatClampNeg + 1)) (rdI h 207 (4 * j.toNatClampNeg + 2)) (rdI h 207 (4 * j.toNatClampNeg + 3)) (rdI h 236 (x.toNatClampNeg + 1)).toNatClampNeg = mJX h x.toNatClampNeg j.toNatClampNeg := rfl
  rw [eX, mK2_eq x0 hj hu e1 e2 f0 n0 n1 hs ha]
  by_cases q : rdI h 203 j.toNatClampNeg &&& 2 = 0 ∧ (rdI h 236 x.toNatClampNeg ≤ rdI h 205 j.toNatClampNeg ∨ rdI h 236 (x.toNatClampNeg + 1) ≤ rdI h 206 j.toNatClampNeg)
  · rw [if_pos q, if_pos q, bE_inr]
  rw [if_neg q, if_neg q, bE_inl, lz_eq, mj2_eq x0 n0 n1 hs, bP_some]
  have eY : mj2 (mJX h x.toNatClampNeg j.toNatClampNeg) x.toNatClampNeg (rdI h 236 x.toNatClampNeg).toNatClampNeg (mJD hc h x.toNatClampNeg j.toNatClampNeg).1 (mJD hc h x.toNatClampNeg j.toNatClampNeg).2 (rdI h 236 (x.toNatClampNeg + 1)).toNatClampNeg = mJY hc h x.toNatClampNeg j.toNatClampNeg := rfl
  rw [eY]
  rw [mj3_eq x0 (mJY_o (by decide) (by decide) (by decide)) (mJY_o (by decide) (by decide) (by decide)) c0 c1 hs2, bP_some]
  have eW : mj3 (mJY hc h x.toNatClampNeg j.toNatClampNeg) x.toNatClampNeg (rdI h 237 x.toNatClampNeg).toNatClampNeg (rdI h 236 x.toNatClampNeg) (rdI h 237 (x.toNatClampNeg + 1)).toNatClampNeg = mJW hc h x.toNatClampNeg j.toNatClampNeg := rfl
  rw [eW, gd_pos vx, lz_eq, gd_pos ⟨vx, vx1⟩, lz_eq, gd_pos v8, mj4_eq x0, bP_some]
  generalize hJ : j.toNatClampNeg = J
  generalize hD : x.toNatClampNeg = d
  have W6 : ∀ k, rdI (mJW hc h d J) 236 k = rdI h 236 k := fun k => mJW_o (by decide) (by decide) (by decide) (by decide)
  have W7 : ∀ k, rdI (mJW hc h d J) 237 k = rdI h 237 k := fun k => mJW_o (by decide) (by decide) (by decide) (by decide)
  have W3 : ∀ k, rdI (mJW hc h d J) 203 k = rdI h 203 k := fun k => mJW_o (by decide) (by decide) (by decide) (by decide)
  rw [W6, rdI_o (show (237 : Nat) ≠ 236 by decide), rdI_o (show (237 : Nat) ≠ 236 by decide), W7, W7, rdI_o (show (203 : Nat) ≠ 237 by decide), rdI_o (show (203 : Nat) ≠ 236 by decide), W3]
  unfold mJF mJU
  by_cases f : rdI h 203 J &&& 512 = 0
  · rw [if_pos f, if_pos f]
  · rw [if_neg f, if_neg f]
