/-! LAYER 3P: Machine.begin -/
noncomputable def cvV (n : Int32) (h : hH) (k : Nat) : Int32 := (ov ((s2N h ((rdI h 4 25).toNatClampNeg + 2 * k)).toInt64 * n.toInt64 * 64) (rdI h 4 6).toInt64).toInt32
theorem xI_two {p i : Int32} (h0 : 0 ≤ p) (h1 : p ≤ 12000) (i0 : 0 ≤ i) (i1 : i ≤ 12000) : (p + 2 * i).toNatClampNeg = p.toNatClampNeg + 2 * i.toNatClampNeg := by
  have i2 : (2 : Int32).toInt = 2 := rfl
  have z0 : (0 : Int32).toInt = 0 := rfl
  have z1 : (12000 : Int32).toInt = 12000 := rfl
  have a := Int32.le_iff_toInt_le.mp h0
  have b := Int32.le_iff_toInt_le.mp h1
  have c := Int32.le_iff_toInt_le.mp i0
  have d := Int32.le_iff_toInt_le.mp i1
  have e : (2 * i).toInt = 2 * i.toInt := by rw [i32_mul (by rw [i2]; omega) (by rw [i2]; omega), i2]
  have f : (p + 2 * i).toInt = p.toInt + 2 * i.toInt := by rw [i32_add (by rw [e]; omega) (by rw [e]; omega), e]
  show (p + 2 * i).toInt.toNat = p.toInt.toNat + 2 * i.toInt.toNat
  omega
theorem cvloop {X h : hH} {n N : Int32} (e1 : rdI X 23 1 = N) (e2 : rdI X 4 25 = rdI h 4 25) (e3 : ∀ p, rdI X 6 p = rdI h 6 p) (e4 : rdI X 22 4 = n) (e5 : rdI X 4 6 = rdI h 4 6) (hu : 16 ≤ rdI h 4 6) (hN : 0 ≤ N ∧ N ≤ 256) (hc : 0 ≤ rdI h 4 25) (hc2 : rdI h 4 25 ≤ 12000) (hc3 : rdI h 4 25 + 2 * N ≤ 12000) : wh (A := (Int32 × hH)) (B := hH) (fun p7 =>
        if (rdI p7.2 23 1) ≤ p7.1 then (
          some (.inr p7.2)
        ) else (
          bP (f_By_s2 5 ((rdI p7.2 4 25) + ((2 : Int32) * p7.1)) p7.2) fun a9 =>
          bP (f_Ma_scaled (Int32.toInt64 a9) p7.2) fun a10 =>
          gd (vp_in p7.1 256) <|
          some (.inl (p7.1 + (1 : Int32), wrI p7.2 24 (Int32.toNatClampNeg p7.1) a10))
        )
    ) ((0 : Int32), X) = some (flI X 24 N.toNatClampNeg (cvV n h)) := by
  have r : ∀ i o k, o ≠ 24 → rdI (flI X 24 i (cvV n h)) o k = rdI X o k := fun i o k ho => by rw [rdI_flI, if_neg (fun q => ho q.1)]
  refine wh_fill (n := N) ⟨hN.1, by grind⟩ (fun i => flI X 24 i (cvV n h)) flI_0 ?_ ?_
  · dsimp only
    rw [r _ _ _ (by decide), e1, if_pos (Int32.le_refl _)]
  · intro i i0 i1
    have v : vp_in i 256 := vp_lt (n := 256) (m := 256) i0 (by grind) rfl
    have es : ∀ p, s2N (flI X 24 i.toNatClampNeg (cvV n h)) p = s2N h p := by
      intro p
      unfold s2N
      rw [r _ _ _ (by decide), r _ _ _ (by decide), e3, e3]
    have ne : ¬ (rdI h 4 6).toInt64 = 0 := toL_ne (by grind)
    dsimp only
    rw [r _ _ _ (by decide), e1, if_neg (Int32.not_le.mpr i1), r _ _ _ (by decide), e2, By_s2_eq (by grind) (by grind) (by grind), es, xI_two hc hc2 i0 (by grind)]
    unfold f_Ma_scaled
    simp only [bP_some]
    rw [r _ _ _ (by decide), r _ _ _ (by decide), e4, e5, f_HH_over_eq ne]
    simp only [bP_some, gd_pos v]
    exact congrArg (fun g => some (Sum.inl (i + 1, g))) (flI_s' (v := cvV n h) rfl)
def seClr (z : Nat) (h : hH) : hH := wrI (wrI (wrI (wrI (wrI (wrI (wrI (wrI (wrI h z 0 68) z 1 0) z 2 0) z 3 64) z 4 1) z 5 9) z 6 3) z 7 0) z 8 0
theorem Se_clear_eq {z : Nat} {h : hH} : f_Se_clear z h = some ((), seClr z h) := rfl
noncomputable def begC (n : Int32) (h : hH) : hH := wrP (wrI (seClr 33 (zclr 26 (wrI (flI (wrI (wrI (flI (flI (wrI (wrI (wrI h 22 4 n) 22 5 0) 22 24 0) 49 64 (fun _ => -1)) 25 64 (fun _ => 0)) 23 3 (rdI h 4 11)) 23 1 (rdI h 4 26)) 24 (rdI h 4 26).toNatClampNeg (cvV n h)) 26 6 (rdI h 4 10)) (rdI h 4 10).toNatClampNeg)) 34 6 0) 22 3 0
theorem Ma_begin_eq {n : Int32} {h : hH} (hu : 16 ≤ rdI h 4 6) (hN : 0 ≤ rdI h 4 26 ∧ rdI h 4 26 ≤ 256) (hc : 0 ≤ rdI h 4 25) (hc2 : rdI h 4 25 ≤ 12000) (hc3 : rdI h 4 25 + 2 * rdI h 4 26 ≤ 12000) (ht : 0 ≤ rdI h 4 10 ∧ rdI h 4 10 ≤ 64) : f_Ma_begin n h = some ((), begC n h) := by
  unfold f_Ma_begin
  simp only [lz]
  rw [S64]
  simp only [bP_some, rdI_wrI, rdI_flI, Nat.reduceEqDiff, false_and, reduceIte]
  rw [cvloop (n := n) (h := h) (N := rdI h 4 26) (by simp only [rdI_wrI, rdI_flI, Nat.reduceEqDiff, false_and, and_self, reduceIte]) (by simp only [rdI_wrI, rdI_flI, Nat.reduceEqDiff, false_and, reduceIte]) (fun p => by simp only [rdI_wrI, rdI_flI, Nat.reduceEqDiff, false_and, reduceIte]) (by simp only [rdI_wrI, rdI_flI, Nat.reduceEqDiff, false_and, and_false, and_self, reduceIte]) (by simp only [rdI_wrI, rdI_flI, Nat.reduceEqDiff, false_and, reduceIte]) hu hN hc hc2 hc3]
  simp only [bP_some]
  have e10 : rdI (flI (wrI (wrI (flI (flI (wrI (wrI (wrI h 22 4 n) 22 5 0) 22 24 0) 49 64 (fun _ => -1)) 25 64 (fun _ => 0)) 23 3 (rdI h 4 11)) 23 1 (rdI h 4 26)) 24 (rdI h 4 26).toNatClampNeg (cvV n h)) 4 10 = rdI h 4 10 := by simp only [rdI_wrI, rdI_flI, Nat.reduceEqDiff, false_and, reduceIte]
  rw [e10, Zo_clear_eq (Or.inl ⟨rfl, rfl⟩) ht.1 (fun i i0 i1 => vp_lt (n := 64) (m := 64) i0 (by grind) rfl) (by grind)]
  simp only [bS_some, Se_clear_eq]
  rfl
