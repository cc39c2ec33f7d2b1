/-! LAYER 3AQ: the whole joining, on the component's side -/
def wnt (h : hH) (e : Int32) : hH := wrI (wrI h 22 12 (-1)) 22 13 e
theorem want_F {h : hH} {e : Int32} : f_Mk_want 0 e h = some (.inl (wnt h e)) := rfl
theorem want_T {h : hH} {e : Int32} : f_Mk_want 1 e h = some (.inr ((), h)) := rfl
noncomputable def jfl (d : Nat) (h : hH) (J : Nat) : Int32 := rdI h (82 + 17 * d) J
noncomputable def jrd (f v : Int32) : Int32 := if f &&& 4 = 0 then v else snV v
noncomputable def jD (d : Nat) (h : hH) (J : Nat) : Int32 × Int32 := if jfl d h J &&& 2 = 0 then (rdI h (71 + 17 * d) (rdI h (84 + 17 * d) J).toNatClampNeg - jx d h J (rdI h (85 + 17 * d) J).toNatClampNeg, rdI h (72 + 17 * d) (rdI h (84 + 17 * d) J).toNatClampNeg - jy d h J (rdI h (85 + 17 * d) J).toNatClampNeg) else (jrd (jfl d h J) (scV (rdI h (84 + 17 * d) J).toInt64 h), jrd (jfl d h J) (scV (rdI h (85 + 17 * d) J).toInt64 h))
noncomputable def jX (d : Nat) (h : hH) (J : Nat) : hH := jn1 d h J (rdI h (87 + 17 * d) 3).toNatClampNeg
noncomputable def jY (d : Nat) (h : hH) (J : Nat) : hH := jn3 d (jX d h J) (jD d h J).1 (jD d h J).2 (rdI h (87 + 17 * d) 3).toNatClampNeg
noncomputable def jW (d : Nat) (h : hH) (J : Nat) : hH := jn4 d (jY d h J) (rdI h (87 + 17 * d) 5).toNatClampNeg
noncomputable def jU (d : Nat) (h : hH) (J : Nat) : hH := wrI (wrI (jW d h J) (70 + 17 * d) 3 (rdI h (70 + 17 * d) 3 + rdI h (87 + 17 * d) 3)) (70 + 17 * d) 5 (rdI h (70 + 17 * d) 5 + rdI h (87 + 17 * d) 5)
noncomputable def jnF (d : Nat) (h : hH) (J : Nat) : hH := if jfl d h J &&& 512 = 0 then jU d h J else cpP d (jU d h J)
theorem jX_o {d J o k : Nat} {h : hH} (h1 : o ≠ 88 + 17 * d) (h2 : o ≠ 89 + 17 * d) : rdI (jX d h J) o k = rdI h o k := mt2_o h1 h2
theorem jY_o {d J o k : Nat} {h : hH} (h1 : o < 71 + 17 * d ∨ (73 + 17 * d < o ∧ o < 88 + 17 * d) ∨ 89 + 17 * d < o) : rdI (jY d h J) o k = rdI h o k := by
  unfold jY jn3
  rw [mt3_o (by omega) (by omega) (by omega)]
  exact jX_o (by omega) (by omega)
theorem jW_o {d J o k : Nat} {h : hH} (h1 : o < 71 + 17 * d ∨ (74 + 17 * d < o ∧ o < 88 + 17 * d) ∨ 89 + 17 * d < o) : rdI (jW d h J) o k = rdI h o k := by
  unfold jW jn4
  rw [rdI_mo (by omega)]
  exact jY_o (by omega)
noncomputable def jK2 (z o o' : Nat) (x2 v4 : Int32) (p8 : hH) : Option (hH ⊕ (Int32 × Int32 × hH)) :=
  if (v4 &&& (2 : Int32)) = 0 then (
    gd (vp_in x2 8) <|
    lz (A := Int32) (rdI p8 (rf z 12) (Int32.toNatClampNeg x2)) fun v22 =>
    gd (vp_in x2 8) <|
    lz (A := Int32) (rdI p8 (rf z 13) (Int32.toNatClampNeg x2)) fun v24 =>
    lz (A := Int32) (if (rdI p8 o 3) ≤ v22 then (0 : Int32) else (if (rdI p8 o' 3) ≤ v24 then (0 : Int32) else (1 : Int32))) fun p26 =>
    bT (f_Mk_want p26 (5 : Int32) p8) fun _ h4 =>
    gd (vp_in v22 100 ∧ vp_in v24 100) <|
    lz (A := Int32) ((rdI h4 (rf o 0) (Int32.toNatClampNeg v22)) - (rdI h4 (rf o' 0) (Int32.toNatClampNeg v24))) fun v29 =>
    gd (vp_in v22 100 ∧ vp_in v24 100) <|
    lz (A := Int32) ((rdI h4 (rf o 1) (Int32.toNatClampNeg v22)) - (rdI h4 (rf o' 1) (Int32.toNatClampNeg v24))) fun v31 =>
    some (.inr (v29, v31, h4))
  ) else (
    gd (vp_in x2 8) <|
    bP (f_Ma_scaled (Int32.toInt64 (rdI p8 (rf z 12) (Int32.toNatClampNeg x2))) p8) fun a34 =>
    gd (vp_in x2 8) <|
    bP (f_Ma_scaled (Int32.toInt64 (rdI p8 (rf z 13) (Int32.toNatClampNeg x2))) p8) fun a36 =>
    bJT (P := Int32) (
      if (v4 &&& (4 : Int32)) = 0 then (
        some (.inr a34)
      ) else (
        bP (f_HH_snapped a34) fun a38 =>
        some (.inr a38)
      )
    ) fun p37 =>
    bJT (P := Int32) (
      if (v4 &&& (4 : Int32)) = 0 then (
        some (.inr a36)
      ) else (
        bP (f_HH_snapped a36) fun a41 =>
        some (.inr a41)
      )
    ) fun p40 =>
    some (.inr (p37, p40, p8))
  )
theorem Mk_join_eq0 {z o o' : Nat} {x2 : Int32} {h : hH} : f_Mk_join z x2 o o' h = lz (A := Int32) (if (100 : Int32) < ((rdI h o 3) + (rdI h o' 3)) then (0 : Int32) else (if (20 : Int32) < ((rdI h o 5) + (rdI h o' 5)) then (0 : Int32) else (1 : Int32))) fun p1 =>
  bT (f_Mk_want p1 (12 : Int32) h) fun _ h1 =>
  gd (vp_in x2 8) <|
  lz (A := Int32) (rdI h1 (rf z 10) (Int32.toNatClampNeg x2)) fun v4 =>
  lz (A := Int32) ((4 : Int32) * x2) fun v6 =>
  bJT (P := hH) (whT (jL1 z o' v6) ((0 : Int32), h1)) fun p8 =>
  bJT (P := (Int32 × Int32 × hH)) (jK2 z o o' x2 v4 p8) fun p21 =>
  bJT (P := hH) (whT (jL3 o o' p21.1 p21.2.1) ((0 : Int32), p21.2.2)) fun p45 =>
  bJT (P := hH) (whT (jL4 o o') ((0 : Int32), p45)) fun p52 =>
  lz (wrI p52 o 3 ((rdI p52 o 3) + (rdI p52 o' 3))) fun h9 =>
  lz (wrI h9 o 5 ((rdI h9 o 5) + (rdI h9 o' 5))) fun h10 =>
  if (v4 &&& (512 : Int32)) = 0 then (
    some (.inr ((), h10))
  ) else (
    bS (f_Ou_copyPhantoms o o' h10) fun _ h11 =>
    some (.inr ((), h11))
  ) := rfl
theorem jK2_eq {d : Nat} {h : hH} {j : Int32} (hd : d < 5) (hj : 0 ≤ j ∧ j < 8) (hu : 16 ≤ rdI h 4 6) (n0 : 0 ≤ rdI h (70 + 17 * d) 3 ∧ rdI h (70 + 17 * d) 3 ≤ 100) (n1 : 0 ≤ rdI h (87 + 17 * d) 3 ∧ rdI h (87 + 17 * d) 3 ≤ 100) (ha : jfl d h j.toNatClampNeg &&& 2 = 0 → 0 ≤ rdI h (84 + 17 * d) j.toNatClampNeg ∧ 0 ≤ rdI h (85 + 17 * d) j.toNatClampNeg) : jK2 (77 + 17 * d) (70 + 17 * d) (87 + 17 * d) j (jfl d h j.toNatClampNeg) (jX d h j.toNatClampNeg) = if jfl d h j.toNatClampNeg &&& 2 = 0 ∧ (rdI h (70 + 17 * d) 3 ≤ rdI h (84 + 17 * d) j.toNatClampNeg ∨ rdI h (87 + 17 * d) 3 ≤ rdI h (85 + 17 * d) j.toNatClampNeg) then some (.inl (wnt (jX d h j.toNatClampNeg) 5)) else some (.inr ((jD d h j.toNatClampNeg).1, (jD d h j.toNatClampNeg).2, jX d h j.toNatClampNeg)) := by
  obtain ⟨_, ⟨r0, r1, _, _, _, _⟩, hz, _, _, _⟩ := od_rf (show d < 6 by omega)
  obtain ⟨_, ⟨s0, s1, _, _, _, _⟩, _, _, _, _⟩ := od_rf (show d + 1 < 6 by omega)
  obtain ⟨k0, k1, k2, _⟩ := od_k (d := d)
  rw [k0, k1] at s0
  rw [k0, k2] at s1
  obtain ⟨_, ⟨_, z12, z13, _⟩, _, _, _, _, _⟩ := gl_rf hz
  have v8 : vp_in j 8 := vp_lt (n := 8) (m := 8) hj.1 hj.2 rfl
  generalize hJ : j.toNatClampNeg = J at ha ⊢
  generalize hX : jX d h J = X
  have Xo : ∀ o k, o ≠ 88 + 17 * d → o ≠ 89 + 17 * d → rdI X o k = rdI h o k := fun o k a b => by rw [← hX]; exact jX_o a b
  have Xx : ∀ i, i < (rdI h (87 + 17 * d) 3).toNatClampNeg → rdI X (88 + 17 * d) i = jx d h J i ∧ rdI X (89 + 17 * d) i = jy d h J i := fun i hi => by
    rw [← hX]
    have := mt2_i (h := h) (o := 88 + 17 * d) (p := 89 + 17 * d) (b := 0) (u := jx d h J) (v := jy d h J) hi (by omega)
    rw [Nat.zero_add] at this
    exact this
  unfold jK2
  rw [z12, z13, show 77 + 17 * d + 7 = 84 + 17 * d by omega, show 77 + 17 * d + 8 = 85 + 17 * d by omega, hJ, Xo (84 + 17 * d) _ (by omega) (by omega), Xo (85 + 17 * d) _ (by omega) (by omega), Xo (70 + 17 * d) _ (by omega) (by omega), Xo (87 + 17 * d) _ (by omega) (by omega)]
  unfold jD
  by_cases q : jfl d h J &&& 2 = 0
  · obtain ⟨a0, b0⟩ := ha q
    rw [if_pos q, if_pos q, gd_pos v8, lz_eq, gd_pos v8, lz_eq, lz_eq]
    by_cases w1 : rdI h (70 + 17 * d) 3 ≤ rdI h (84 + 17 * d) J
    · rw [if_pos w1, if_pos ⟨q, Or.inl w1⟩, want_F]
      rfl
    · rw [if_neg w1]
      by_cases w2 : rdI h (87 + 17 * d) 3 ≤ rdI h (85 + 17 * d) J
      · rw [if_pos w2, if_pos ⟨q, Or.inr w2⟩, want_F]
        rfl
      · rw [if_neg w2, if_neg (fun w => w.2.elim w1 w2), want_T, bT_inr]
        have v : vp_in (rdI h (84 + 17 * d) J) 100 ∧ vp_in (rdI h (85 + 17 * d) J) 100 := ⟨vp_lt (n := 100) (m := 100) a0 (by grind) rfl, vp_lt (n := 100) (m := 100) b0 (by grind) rfl⟩
        have lt := (xI_lt b0 n1.1).mpr (Int32.not_le.mp w2)
        obtain ⟨x1, x2⟩ := Xx _ lt
        rw [gd_pos v, lz_eq, gd_pos v, lz_eq, r0, r1, s0, s1, x1, x2, Xo (71 + 17 * d) _ (by omega) (by omega), Xo (72 + 17 * d) _ (by omega) (by omega)]
  · rw [if_neg q, if_neg q, if_neg (fun w => q w.1), gd_pos v8, sc_C (by rw [Xo 4 6 (by omega) (by omega)]; exact hu), bP_some, gd_pos v8, sc_C (by rw [Xo 4 6 (by omega) (by omega)]; exact hu), bP_some, scV_loc (Xo 22 4 (by omega) (by omega)) (Xo 4 6 (by omega) (by omega)), scV_loc (Xo 22 4 (by omega) (by omega)) (Xo 4 6 (by omega) (by omega)), sn_C, sn_C, bP_some, bP_some]
    unfold jrd
    by_cases w : jfl d h J &&& 4 = 0
    · rw [if_pos w, if_pos w, if_pos w, if_pos w]
      rfl
    · rw [if_neg w, if_neg w, if_neg w, if_neg w]
      rfl
