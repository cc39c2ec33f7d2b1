/-! LAYER 3AL: the model's outline of a simple glyph -/
noncomputable def moL1 (x2 : Int32) (p20 : Int32 × hH) : Option ((Int32 × hH) ⊕ hH) :=
  gd (vp_in x2 6) <|
  if (rdI p20.2 237 (Int32.toNatClampNeg x2)) ≤ p20.1 then (
    some (.inr p20.2)
  ) else (
    gd (vp_in p20.1 12 ∧ vp_in (((20 : Int32) * x2) + p20.1) 120) <|
    lz (wrI p20.2 241 (Int32.toNatClampNeg (((20 : Int32) * x2) + p20.1)) (rdI p20.2 199 (Int32.toNatClampNeg p20.1))) fun h11 =>
    lz (A := Int32) (p20.1 + (1 : Int32)) fun v24 =>
    some (.inl (v24, h11))
  )
noncomputable def moL2 (v2 : Int32) (p26 : Int32 × hH) : Option ((Int32 × hH) ⊕ hH) :=
  if (rdI p26.2 192 29) ≤ p26.1 then (
    some (.inr p26.2)
  ) else (
    gd (vp_in p26.1 100) <|
    bP (f_Mo_scaled (Int32.toInt64 (rdI p26.2 200 (Int32.toNatClampNeg p26.1))) p26.2) fun a28 =>
    gd (vp_in (v2 + p26.1) 612) <|
    lz (wrI p26.2 238 (Int32.toNatClampNeg (v2 + p26.1)) a28) fun h12 =>
    gd (vp_in p26.1 100) <|
    bP (f_Mo_scaled (Int32.toInt64 (rdI h12 201 (Int32.toNatClampNeg p26.1))) h12) fun a31 =>
    gd (vp_in (v2 + p26.1) 612) <|
    lz (wrI h12 239 (Int32.toNatClampNeg (v2 + p26.1)) a31) fun h13 =>
    gd (vp_in p26.1 100) <|
    lz (A := Int32) (if ((rdI h13 202 (Int32.toNatClampNeg p26.1)) &&& (1 : Int32)) = 0 then (0 : Int32) else (1 : Int32)) fun p34 =>
    gd (vp_in (v2 + p26.1) 612) <|
    lz (wrI h13 240 (Int32.toNatClampNeg (v2 + p26.1)) (p34 &&& 1)) fun h14 =>
    lz (A := Int32) (p26.1 + (1 : Int32)) fun v37 =>
    some (.inl (v37, h14))
  )
noncomputable def smlM (x2 v2 : Int32) (h8 : hH) : Option hH :=
  gd (vp_in x2 6) <|
  lz (wrI h8 236 (Int32.toNatClampNeg x2) (rdI h8 192 29)) fun h9 =>
  lz (A := Int32) (if (rdI h9 192 29) = 0 then (0 : Int32) else (rdI h9 192 28)) fun p17 =>
  gd (vp_in x2 6) <|
  lz (wrI h9 237 (Int32.toNatClampNeg x2) p17) fun h10 =>
  bP (A := hH) (wh (moL1 x2) ((0 : Int32), h10)) fun p21 =>
  wh (moL2 v2) ((0 : Int32), p21)
def smq0 (d : Nat) (h : hH) : hH := wrI (wrI h 236 d (rdI h 192 29)) 237 d (ctM h)
def smq1 (d : Nat) (h : hH) (k : Nat) : hH := mtI (smq0 d h) 241 (20 * d) k (fun i => rdI h 199 i)
noncomputable def smq2 (hc : hH) (d : Nat) (h X : hH) (k : Nat) : hH := mt3 X 238 239 240 (102 * d) k (fun i => scV (rdI h 200 i).toInt64 hc) (fun i => scV (rdI h 201 i).toInt64 hc) (fun i => onV (rdI h 202 i))
noncomputable def smpM (hc : hH) (d : Nat) (h : hH) : hH := smq2 hc d h (smq1 d h (ctM h).toNatClampNeg) (rdI h 192 29).toNatClampNeg
theorem smq1_o {d n o k : Nat} {h : hH} (h1 : o ≠ 236) (h2 : o ≠ 237) (h3 : o ≠ 241) : rdI (smq1 d h n) o k = rdI h o k := by
  unfold smq1 smq0
  rw [rdI_mo h3, rdI_o h2, rdI_o h1]
theorem smlM_eq {hc h : hH} {x : Int32} (x0 : 0 ≤ x ∧ x ≤ 5) (hu : 16 ≤ rdI hc 4 6) (e1 : rdI h 192 62 = rdI hc 22 4) (e2 : rdI h 192 10 = rdI hc 4 6) (hn : 0 ≤ rdI h 192 29 ∧ rdI h 192 29 ≤ 100) (hk : 0 ≤ rdI h 192 28 ∧ rdI h 192 28 ≤ 12) : smlM x (102 * x) h = some (smpM hc x.toNatClampNeg h) := by
  have v6 : vp_in x 6 := vp_lt (n := 6) (m := 6) x0.1 (by grind) rfl
  have hc' : 0 ≤ ctM h ∧ ctM h ≤ 12 := by
    unfold ctM
    split
    · decide
    · exact hk
  unfold smlM
  rw [gd_pos v6, lz_eq, rdI_o (by decide), rdI_o (by decide), lz_eq, gd_pos v6, lz_eq]
  generalize hd : x.toNatClampNeg = d
  have e0 : wrI (wrI h 236 d (rdI h 192 29)) 237 d (if rdI h 192 29 = 0 then 0 else rdI h 192 28) = smq0 d h := rfl
  rw [e0]
  have w1 : wh (moL1 x) ((0 : Int32), smq0 d h) = some (smq1 d h (ctM h).toNatClampNeg) := by
    refine wh_fill (n := ctM h) ⟨hc'.1, by grind⟩ (smq1 d h) mtI_0 ?_ ?_
    · unfold moL1
      dsimp only
      rw [gd_pos v6, hd]
      have : rdI (smq1 d h (ctM h).toNatClampNeg) 237 d = ctM h := by
        unfold smq1 smq0
        rw [rdI_mo (by decide), rdI_wrI, if_pos ⟨rfl, rfl⟩]
      rw [this, if_pos (Int32.le_refl _)]
    · intro i i0 i1
      obtain ⟨k1, k2, k3⟩ := xI_k (c := 20) (C := 20) (i := i) (by decide) x0.1 x0.2 i0 (by grind)
      have v : vp_in i 12 ∧ vp_in (20 * x + i) 120 := ⟨vp_lt (n := 12) (m := 12) i0 (by grind) rfl, vp_lt (n := 120) (m := 120) k2 (by
        have hx : x = 0 ∨ x = 1 ∨ x = 2 ∨ x = 3 ∨ x = 4 ∨ x = 5 := by grind
        rcases hx with rfl | rfl | rfl | rfl | rfl | rfl <;> grind) rfl⟩
      unfold moL1
      dsimp only
      rw [gd_pos v6, hd]
      have : rdI (smq1 d h i.toNatClampNeg) 237 d = ctM h := by
        unfold smq1 smq0
        rw [rdI_mo (by decide), rdI_wrI, if_pos ⟨rfl, rfl⟩]
      rw [this, if_neg (Int32.not_le.mpr i1), gd_pos v, smq1_o (by decide) (by decide) (by decide), lz_eq, lz_eq, k1, hd]
      unfold smq1
      rw [mtI_s rfl rfl]
  rw [w1, bP_some]
  unfold smpM
  generalize hX : smq1 d h (ctM h).toNatClampNeg = X
  have Xo : ∀ o k, o ≠ 236 → o ≠ 237 → o ≠ 241 → rdI X o k = rdI h o k := fun o k a b c => by rw [← hX]; exact smq1_o a b c
  have Yo : ∀ n o k, o ≠ 236 → o ≠ 237 → o ≠ 241 → o ≠ 238 → o ≠ 239 → o ≠ 240 → rdI (smq2 hc d h X n) o k = rdI h o k := fun n o k a b c e f g => by
    unfold smq2
    rw [mt3_o e f g]
    exact Xo o k a b c
  refine wh_fill (n := rdI h 192 29) ⟨hn.1, by grind⟩ (smq2 hc d h X) mt3_0 ?_ ?_
  · unfold moL2
    dsimp only
    rw [Yo _ _ _ (by decide) (by decide) (by decide) (by decide) (by decide) (by decide), if_pos (Int32.le_refl _)]
  · intro i i0 i1
    obtain ⟨k1, k2, k3⟩ := xI_k (c := 102) (C := 102) (i := i) (by decide) x0.1 x0.2 i0 (by grind)
    have v : vp_in i 100 := vp_lt (n := 100) (m := 100) i0 (by grind) rfl
    have v' : vp_in (102 * x + i) 612 := vp_lt (n := 612) (m := 612) k2 (by grind) rfl
    unfold moL2
    dsimp only
    generalize hS : smq2 hc d h X i.toNatClampNeg = S
    have So : ∀ o k, o ≠ 236 → o ≠ 237 → o ≠ 241 → o ≠ 238 → o ≠ 239 → o ≠ 240 → rdI S o k = rdI h o k := fun o k a b c e f g => by rw [← hS]; exact Yo _ o k a b c e f g
    have S1 : ∀ k, rdI S 192 k = rdI h 192 k := fun k => So 192 k (by decide) (by decide) (by decide) (by decide) (by decide) (by decide)
    rw [S1, if_neg (Int32.not_le.mpr i1), gd_pos v, sc_M hu ((S1 62).trans e1) ((S1 10).trans e2), bP_some, gd_pos v', lz_eq, gd_pos v, So 200 _ (by decide) (by decide) (by decide) (by decide) (by decide) (by decide), k1, hd]
    generalize hA : wrI S 238 (102 * d + i.toNatClampNeg) (scV (rdI h 200 i.toNatClampNeg).toInt64 hc) = A
    have A1 : ∀ k, rdI A 192 k = rdI h 192 k := fun k => by rw [← hA, rdI_o (by decide)]; exact S1 k
    have A2 : ∀ k, rdI A 201 k = rdI h 201 k := fun k => by rw [← hA, rdI_o (by decide)]; exact So 201 k (by decide) (by decide) (by decide) (by decide) (by decide) (by decide)
    rw [sc_M hu ((A1 62).trans e1) ((A1 10).trans e2), bP_some, gd_pos v', lz_eq, gd_pos v, A2]
    generalize hB : wrI A 239 (102 * d + i.toNatClampNeg) (scV (rdI h 201 i.toNatClampNeg).toInt64 hc) = B
    have B2 : ∀ k, rdI B 202 k = rdI h 202 k := fun k => by rw [← hB, rdI_o (by decide), ← hA, rdI_o (by decide)]; exact So 202 k (by decide) (by decide) (by decide) (by decide) (by decide) (by decide)
    rw [B2, lz_eq, gd_pos v', lz_eq, lz_eq]
    have eo : (if rdI h 202 i.toNatClampNeg &&& 1 = 0 then (0 : Int32) else 1) = onV (rdI h 202 i.toNatClampNeg) := rfl
    rw [eo, onV_1, ← hB, ← hA, ← hS]
    unfold smq2
    rw [mt3_s rfl rfl rfl rfl (by decide) (by decide) (by decide)]
