/-! LAYER 3AK: an outline made out of a simple glyph, on both sides -/
def ctC (d : Nat) (h : hH) : Int32 := if rdI h (77 + 17 * d) 2 = 0 then 0 else rdI h (77 + 17 * d) 0
def ctM (h : hH) : Int32 := if rdI h 192 29 = 0 then 0 else rdI h 192 28
def onV (f : Int32) : Int32 := if f &&& 1 = 0 then 0 else 1
theorem onV_1 (f : Int32) : onV f &&& 1 = onV f := by unfold onV; split <;> decide
theorem onV_c (f : Int32) : onV f = 0 ∨ onV f = 1 := by unfold onV; split; exact Or.inl rfl; exact Or.inr rfl
def smp0 (d : Nat) (h : hH) : hH := wrI (wrI h (70 + 17 * d) 3 (rdI h (77 + 17 * d) 2)) (70 + 17 * d) 5 (ctC d h)
noncomputable def smp1 (d : Nat) (h : hH) (k : Nat) : hH := mt3 (smp0 d h) (71 + 17 * d) (72 + 17 * d) (73 + 17 * d) 0 k (fun i => scV (rdI h (79 + 17 * d) i).toInt64 h) (fun i => scV (rdI h (80 + 17 * d) i).toInt64 h) (fun i => onV (rdI h (81 + 17 * d) i))
noncomputable def smpC (d : Nat) (h : hH) : hH := mtI (smp1 d h (rdI h (77 + 17 * d) 2).toNatClampNeg) (74 + 17 * d) 0 (ctC d h).toNatClampNeg (fun i => rdI h (78 + 17 * d) i)
theorem smp0_o {d : Nat} {h : hH} {o k : Nat} (ho : o ≠ 70 + 17 * d) : rdI (smp0 d h) o k = rdI h o k := by
  unfold smp0
  rw [rdI_o ho, rdI_o ho]
theorem smp1_o {d : Nat} {h : hH} {o k n : Nat} (ho : o < 70 + 17 * d ∨ 73 + 17 * d < o) : rdI (smp1 d h n) o k = rdI h o k := by
  unfold smp1
  rw [mt3_o (by omega) (by omega) (by omega), smp0_o (by omega)]
theorem smp1_3 {d : Nat} {h : hH} {n : Nat} : rdI (smp1 d h n) (70 + 17 * d) 3 = rdI h (77 + 17 * d) 2 := by
  unfold smp1
  rw [mt3_o (by omega) (by omega) (by omega)]
  unfold smp0
  rw [rdI_wrI, if_neg (by omega), rdI_wrI, if_pos ⟨rfl, rfl⟩]
theorem smp1_5 {d : Nat} {h : hH} {n : Nat} : rdI (smp1 d h n) (70 + 17 * d) 5 = ctC d h := by
  unfold smp1
  rw [mt3_o (by omega) (by omega) (by omega)]
  unfold smp0
  rw [rdI_wrI, if_pos ⟨rfl, rfl⟩]
noncomputable def smL1 (z o : Nat) (p3 : Int32 × hH) : Option ((Int32 × hH) ⊕ hH) :=
  if (rdI p3.2 o 3) ≤ p3.1 then (
    some (.inr p3.2)
  ) else (
    gd (vp_in p3.1 100) <|
    bP (f_Ma_scaled (Int32.toInt64 (rdI p3.2 (rf z 4) (Int32.toNatClampNeg p3.1))) p3.2) fun a6 =>
    gd (vp_in p3.1 100) <|
    lz (wrI p3.2 (rf o 0) (Int32.toNatClampNeg p3.1) a6) fun h3 =>
    gd (vp_in p3.1 100) <|
    bP (f_Ma_scaled (Int32.toInt64 (rdI h3 (rf z 5) (Int32.toNatClampNeg p3.1))) h3) fun a9 =>
    gd (vp_in p3.1 100) <|
    lz (wrI h3 (rf o 1) (Int32.toNatClampNeg p3.1) a9) fun h4 =>
    gd (vp_in p3.1 100) <|
    lz (A := Int32) (if ((rdI h4 (rf z 6) (Int32.toNatClampNeg p3.1)) &&& (1 : Int32)) = 0 then (0 : Int32) else (1 : Int32)) fun p12 =>
    gd (vp_in p3.1 100) <|
    lz (wrI h4 (rf o 2) (Int32.toNatClampNeg p3.1) (p12 &&& 1)) fun h5 =>
    lz (A := Int32) (p3.1 + (1 : Int32)) fun v15 =>
    some (.inl (v15, h5))
  )
noncomputable def smL2 (z o : Nat) (p17 : Int32 × hH) : Option ((Int32 × hH) ⊕ hH) :=
  if (rdI p17.2 o 5) ≤ p17.1 then (
    some (.inr p17.2)
  ) else (
    gd (vp_in p17.1 12 ∧ vp_in p17.1 20) <|
    lz (wrI p17.2 (rf o 4) (Int32.toNatClampNeg p17.1) (rdI p17.2 (rf z 3) (Int32.toNatClampNeg p17.1))) fun h6 =>
    lz (A := Int32) (p17.1 + (1 : Int32)) fun v20 =>
    some (.inl (v20, h6))
  )
theorem Mk_simple_eq0 {z o : Nat} {h : hH} : f_Mk_simple z o h = lz (wrI h o 3 (rdI h z 2)) fun h1 => lz (A := Int32) (if (rdI h1 z 2) = 0 then (0 : Int32) else (rdI h1 z 0)) fun p1 => lz (wrI h1 o 5 p1) fun h2 => bP (wh (smL1 z o) ((0 : Int32), h2)) fun p4 => bP (wh (smL2 z o) ((0 : Int32), p4)) fun p18 => some ((), p18) := rfl
theorem Mk_simple_eq {d : Nat} {h : hH} (hd : d < 6) (hu : 16 ≤ rdI h 4 6) (hn : 0 ≤ rdI h (77 + 17 * d) 2 ∧ rdI h (77 + 17 * d) 2 ≤ 100) (hc : 0 ≤ rdI h (77 + 17 * d) 0 ∧ rdI h (77 + 17 * d) 0 ≤ 12) : f_Mk_simple (77 + 17 * d) (70 + 17 * d) h = some ((), smpC d h) := by
  obtain ⟨_, ⟨r0, r1, r2, r4, _, _⟩, hz, _, _, _⟩ := od_rf hd
  obtain ⟨⟨z3, z4, z5, z6, _⟩, _, _, _, _, _, _⟩ := gl_rf hz
  have hc' : 0 ≤ ctC d h ∧ ctC d h ≤ 12 := by
    unfold ctC
    split
    · decide
    · exact hc
  rw [Mk_simple_eq0, lz_eq, rdI_o (by omega), rdI_o (by omega), lz_eq, lz_eq]
  have e0 : wrI (wrI h (70 + 17 * d) 3 (rdI h (77 + 17 * d) 2)) (70 + 17 * d) 5 (if rdI h (77 + 17 * d) 2 = 0 then 0 else rdI h (77 + 17 * d) 0) = smp0 d h := rfl
  rw [e0]
  have w1 : wh (smL1 (77 + 17 * d) (70 + 17 * d)) ((0 : Int32), smp0 d h) = some (smp1 d h (rdI h (77 + 17 * d) 2).toNatClampNeg) := by
    refine wh_fill (n := rdI h (77 + 17 * d) 2) ⟨hn.1, by grind⟩ (smp1 d h) mt3_0 ?_ ?_
    · unfold smL1
      dsimp only
      rw [smp1_3, if_pos (Int32.le_refl _)]
    · intro i i0 i1
      have v : vp_in i 100 := vp_lt (n := 100) (m := 100) i0 (by grind) rfl
      unfold smL1
      dsimp only
      rw [smp1_3, if_neg (Int32.not_le.mpr i1), gd_pos v, z4, z5, z6, r0, r1, r2]
      generalize hS : smp1 d h i.toNatClampNeg = S
      have So : ∀ o k, o < 70 + 17 * d ∨ 73 + 17 * d < o → rdI S o k = rdI h o k := fun o k ho => by rw [← hS]; exact smp1_o ho
      rw [sc_C (by rw [So 4 6 (by omega)]; exact hu), bP_some, gd_pos v, lz_eq, gd_pos v, scV_loc (So 22 4 (by omega)) (So 4 6 (by omega)), So _ _ (by omega)]
      generalize hA : wrI S (71 + 17 * d) i.toNatClampNeg (scV (rdI h (77 + 17 * d + 2) i.toNatClampNeg).toInt64 h) = A
      have Ao : ∀ o k, o < 70 + 17 * d ∨ 73 + 17 * d < o → rdI A o k = rdI h o k := fun o k ho => by rw [← hA, rdI_o (by omega)]; exact So o k ho
      rw [sc_C (by rw [Ao 4 6 (by omega)]; exact hu), bP_some, gd_pos v, lz_eq, gd_pos v, scV_loc (Ao 22 4 (by omega)) (Ao 4 6 (by omega)), Ao _ _ (by omega)]
      generalize hB : wrI A (72 + 17 * d) i.toNatClampNeg (scV (rdI h (77 + 17 * d + 3) i.toNatClampNeg).toInt64 h) = B
      have Bo : rdI B (77 + 17 * d + 4) i.toNatClampNeg = rdI h (77 + 17 * d + 4) i.toNatClampNeg := by rw [← hB, rdI_o (by omega)]; exact Ao _ _ (by omega)
      rw [Bo, lz_eq, gd_pos v, lz_eq, lz_eq]
      have eo : (if rdI h (77 + 17 * d + 4) i.toNatClampNeg &&& 1 = 0 then (0 : Int32) else 1) = onV (rdI h (77 + 17 * d + 4) i.toNatClampNeg) := rfl
      rw [eo, onV_1, ← hB, ← hA, ← hS]
      unfold smp1
      rw [mt3_s (show scV (rdI h (77 + 17 * d + 2) i.toNatClampNeg).toInt64 h = scV (rdI h (79 + 17 * d) i.toNatClampNeg).toInt64 h by rw [show 77 + 17 * d + 2 = 79 + 17 * d by omega]) (show scV (rdI h (77 + 17 * d + 3) i.toNatClampNeg).toInt64 h = scV (rdI h (80 + 17 * d) i.toNatClampNeg).toInt64 h by rw [show 77 + 17 * d + 3 = 80 + 17 * d by omega]) (show onV (rdI h (77 + 17 * d + 4) i.toNatClampNeg) = onV (rdI h (81 + 17 * d) i.toNatClampNeg) by rw [show 77 + 17 * d + 4 = 81 + 17 * d by omega]) (by omega) (by omega) (by omega) (by omega)]
  rw [w1, bP_some]
  generalize hX : smp1 d h (rdI h (77 + 17 * d) 2).toNatClampNeg = X
  have X5 : rdI X (70 + 17 * d) 5 = ctC d h := by rw [← hX]; exact smp1_5
  have Xz : ∀ i, rdI X (78 + 17 * d) i = rdI h (78 + 17 * d) i := fun i => by rw [← hX]; exact smp1_o (by omega)
  have w2 : wh (smL2 (77 + 17 * d) (70 + 17 * d)) ((0 : Int32), X) = some (mtI X (74 + 17 * d) 0 (ctC d h).toNatClampNeg (fun i => rdI h (78 + 17 * d) i)) := by
    refine wh_fill (n := ctC d h) ⟨hc'.1, by grind⟩ (fun k => mtI X (74 + 17 * d) 0 k (fun i => rdI h (78 + 17 * d) i)) mtI_0 ?_ ?_
    · unfold smL2
      dsimp only
      rw [rdI_mo (by omega), X5, if_pos (Int32.le_refl _)]
    · intro i i0 i1
      have v : vp_in i 12 ∧ vp_in i 20 := ⟨vp_lt (n := 12) (m := 12) i0 (by grind) rfl, vp_lt (n := 20) (m := 20) i0 (by grind) rfl⟩
      unfold smL2
      dsimp only
      rw [rdI_mo (by omega), X5, if_neg (Int32.not_le.mpr i1), gd_pos v, r4, z3, rdI_mo (by omega), show 77 + 17 * d + 1 = 78 + 17 * d by omega, Xz, lz_eq, lz_eq, mtI_s rfl (by omega)]
  rw [w2, bP_some, ← hX]
  rfl
