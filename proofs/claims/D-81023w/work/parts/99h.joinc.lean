/-! LAYER 3AP: the rest of the joining, on the component's side -/
noncomputable def jL3 (o o' : Nat) (dx dy : Int32) (p44 : Int32 × hH) : Option (hH ⊕ ((Int32 × hH) ⊕ hH)) :=
  if (rdI p44.2 o' 3) ≤ p44.1 then (
    some (.inr (.inr p44.2))
  ) else (
    gd (vp_in p44.1 100 ∧ vp_in ((rdI p44.2 o 3) + p44.1) 100) <|
    lz (wrI p44.2 (rf o 0) (Int32.toNatClampNeg ((rdI p44.2 o 3) + p44.1)) ((rdI p44.2 (rf o' 0) (Int32.toNatClampNeg p44.1)) + dx)) fun h5 =>
    gd (vp_in p44.1 100 ∧ vp_in ((rdI h5 o 3) + p44.1) 100) <|
    lz (wrI h5 (rf o 1) (Int32.toNatClampNeg ((rdI h5 o 3) + p44.1)) ((rdI h5 (rf o' 1) (Int32.toNatClampNeg p44.1)) + dy)) fun h6 =>
    gd (vp_in p44.1 100 ∧ vp_in ((rdI h6 o 3) + p44.1) 100) <|
    lz (wrI h6 (rf o 2) (Int32.toNatClampNeg ((rdI h6 o 3) + p44.1)) ((rdI h6 (rf o' 2) (Int32.toNatClampNeg p44.1)) &&& 1)) fun h7 =>
    lz (A := Int32) (p44.1 + (1 : Int32)) fun v49 =>
    some (.inr (.inl (v49, h7)))
  )
noncomputable def jL4 (o o' : Nat) (p51 : Int32 × hH) : Option (hH ⊕ ((Int32 × hH) ⊕ hH)) :=
  if (rdI p51.2 o' 5) ≤ p51.1 then (
    some (.inr (.inr p51.2))
  ) else (
    gd (vp_in p51.1 20 ∧ vp_in ((rdI p51.2 o 5) + p51.1) 20) <|
    lz (wrI p51.2 (rf o 4) (Int32.toNatClampNeg ((rdI p51.2 o 5) + p51.1)) ((rdI p51.2 o 3) + (rdI p51.2 (rf o' 4) (Int32.toNatClampNeg p51.1)))) fun h8 =>
    lz (A := Int32) (p51.1 + (1 : Int32)) fun v54 =>
    some (.inr (.inl (v54, h8)))
  )
def jn3 (d : Nat) (h : hH) (dx dy : Int32) (k : Nat) : hH := mt3 h (71 + 17 * d) (72 + 17 * d) (73 + 17 * d) (rdI h (70 + 17 * d) 3).toNatClampNeg k (fun i => rdI h (88 + 17 * d) i + dx) (fun i => rdI h (89 + 17 * d) i + dy) (fun i => rdI h (90 + 17 * d) i &&& 1)
def jn4 (d : Nat) (h : hH) (k : Nat) : hH := mtI h (74 + 17 * d) (rdI h (70 + 17 * d) 5).toNatClampNeg k (fun i => rdI h (70 + 17 * d) 3 + rdI h (91 + 17 * d) i)
theorem jn3_eq {d : Nat} {h : hH} {dx dy : Int32} (hd : d < 5) (hn : 0 ≤ rdI h (70 + 17 * d) 3) (hn' : 0 ≤ rdI h (87 + 17 * d) 3) (h1 : rdI h (70 + 17 * d) 3 ≤ 100) (h1' : rdI h (87 + 17 * d) 3 ≤ 100) (hs : rdI h (70 + 17 * d) 3 + rdI h (87 + 17 * d) 3 ≤ 100) : whT (jL3 (70 + 17 * d) (87 + 17 * d) dx dy) ((0 : Int32), h) = some (.inr (jn3 d h dx dy (rdI h (87 + 17 * d) 3).toNatClampNeg)) := by
  obtain ⟨_, ⟨r0, r1, r2, r4, _, _⟩, _, _, _, _⟩ := od_rf (show d < 6 by omega)
  obtain ⟨_, ⟨s0, s1, s2, s4, _, _⟩, _, _, _, _⟩ := od_rf (show d + 1 < 6 by omega)
  obtain ⟨k0, k1, k2, k3, k4, _⟩ := od_k (d := d)
  rw [k0, k1] at s0
  rw [k0, k2] at s1
  rw [k0, k3] at s2
  refine whT_fill (n := rdI h (87 + 17 * d) 3) ⟨hn', by grind⟩ (jn3 d h dx dy) mt3_0 ?_ ?_
  · unfold jL3
    dsimp only
    unfold jn3
    rw [mt3_o (by omega) (by omega) (by omega), if_pos (Int32.le_refl _)]
  · intro i q0 q1
    have v : vp_in i 100 ∧ vp_in (rdI h (70 + 17 * d) 3 + i) 100 := ⟨vp_lt (n := 100) (m := 100) q0 (by grind) rfl, vp_lt (n := 100) (m := 100) (by grind) (by grind) rfl⟩
    have ei : (rdI h (70 + 17 * d) 3 + i).toNatClampNeg = (rdI h (70 + 17 * d) 3).toNatClampNeg + i.toNatClampNeg := xI_add (m := 1000) hn (by grind) q0 (by grind) (by decide)
    unfold jL3
    dsimp only
    generalize hS : jn3 d h dx dy i.toNatClampNeg = S
    have So : ∀ o k, o < 71 + 17 * d ∨ 73 + 17 * d < o → rdI S o k = rdI h o k := fun o k a => by rw [← hS]; exact mt3_o (by omega) (by omega) (by omega)
    rw [So (87 + 17 * d) 3 (by omega), So (70 + 17 * d) 3 (by omega), if_neg (Int32.not_le.mpr q1), gd_pos v, r0, r1, r2, s0, s1, s2, So (88 + 17 * d) _ (by omega), lz_eq]
    generalize hA : wrI S (71 + 17 * d) (rdI h (70 + 17 * d) 3 + i).toNatClampNeg (rdI h (88 + 17 * d) i.toNatClampNeg + dx) = A
    have Ao : ∀ o k, o < 71 + 17 * d ∨ 73 + 17 * d < o → rdI A o k = rdI h o k := fun o k a => by rw [← hA, rdI_o (by omega)]; exact So o k a
    rw [Ao (70 + 17 * d) 3 (by omega), gd_pos v, Ao (89 + 17 * d) _ (by omega), lz_eq]
    generalize hB : wrI A (72 + 17 * d) (rdI h (70 + 17 * d) 3 + i).toNatClampNeg (rdI h (89 + 17 * d) i.toNatClampNeg + dy) = B
    have Bo : ∀ o k, o < 71 + 17 * d ∨ 73 + 17 * d < o → rdI B o k = rdI h o k := fun o k a => by rw [← hB, rdI_o (by omega)]; exact Ao o k a
    rw [Bo (70 + 17 * d) 3 (by omega), gd_pos v, Bo (90 + 17 * d) _ (by omega), lz_eq, lz_eq, ← hB, ← hA, ← hS, ei]
    refine congrArg (fun H : hH => (some (.inr (.inl (i + 1, H))) : Option (hH ⊕ ((Int32 × hH) ⊕ hH)))) ?_
    exact mt3_s rfl rfl rfl rfl (by omega) (by omega) (by omega)
theorem jn4_eq {d : Nat} {h : hH} (hd : d < 5) (hn : 0 ≤ rdI h (70 + 17 * d) 5) (hn' : 0 ≤ rdI h (87 + 17 * d) 5) (h1 : rdI h (70 + 17 * d) 5 ≤ 20) (h1' : rdI h (87 + 17 * d) 5 ≤ 20) (hs : rdI h (70 + 17 * d) 5 + rdI h (87 + 17 * d) 5 ≤ 20) : whT (jL4 (70 + 17 * d) (87 + 17 * d)) ((0 : Int32), h) = some (.inr (jn4 d h (rdI h (87 + 17 * d) 5).toNatClampNeg)) := by
  obtain ⟨_, ⟨_, _, _, r4, _, _⟩, _, _, _, _⟩ := od_rf (show d < 6 by omega)
  obtain ⟨_, ⟨_, _, _, s4, _, _⟩, _, _, _, _⟩ := od_rf (show d + 1 < 6 by omega)
  obtain ⟨k0, k1, k2, k3, k4, _⟩ := od_k (d := d)
  rw [k0, k4] at s4
  refine whT_fill (n := rdI h (87 + 17 * d) 5) ⟨hn', by grind⟩ (jn4 d h) mtI_0 ?_ ?_
  · unfold jL4
    dsimp only
    unfold jn4
    rw [rdI_mo (by omega), if_pos (Int32.le_refl _)]
  · intro i q0 q1
    have v : vp_in i 20 ∧ vp_in (rdI h (70 + 17 * d) 5 + i) 20 := ⟨vp_lt (n := 20) (m := 20) q0 (by grind) rfl, vp_lt (n := 20) (m := 20) (by grind) (by grind) rfl⟩
    have ei : (rdI h (70 + 17 * d) 5 + i).toNatClampNeg = (rdI h (70 + 17 * d) 5).toNatClampNeg + i.toNatClampNeg := xI_add (m := 1000) hn (by grind) q0 (by grind) (by decide)
    unfold jL4
    dsimp only
    generalize hS : jn4 d h i.toNatClampNeg = S
    have So : ∀ o k, o ≠ 74 + 17 * d → rdI S o k = rdI h o k := fun o k a => by rw [← hS]; exact rdI_mo a
    rw [So (87 + 17 * d) 5 (by omega), So (70 + 17 * d) 5 (by omega), if_neg (Int32.not_le.mpr q1), gd_pos v, r4, s4, So (91 + 17 * d) _ (by omega), So (70 + 17 * d) 3 (by omega), lz_eq, lz_eq, ← hS, ei]
    refine congrArg (fun H : hH => (some (.inr (.inl (i + 1, H))) : Option (hH ⊕ ((Int32 × hH) ⊕ hH)))) ?_
    exact mtI_s rfl rfl
def cpP (d : Nat) (h : hH) : hH := mt2 h (75 + 17 * d) (76 + 17 * d) 0 2 (fun i => rdI h (92 + 17 * d) i) (fun i => rdI h (93 + 17 * d) i)
theorem Ou_cp_eq {d : Nat} {h : hH} (hd : d < 5) : f_Ou_copyPhantoms (70 + 17 * d) (87 + 17 * d) h = some ((), cpP d h) := by
  obtain ⟨_, ⟨_, _, _, _, r6, r7⟩, _, _, _, _⟩ := od_rf (show d < 6 by omega)
  obtain ⟨_, ⟨_, _, _, _, s6, s7⟩, _, _, _, _⟩ := od_rf (show d + 1 < 6 by omega)
  obtain ⟨k0, _, _, _, _, k5, k6⟩ := od_k (d := d)
  rw [k0, k5] at s6
  rw [k0, k6] at s7
  unfold f_Ou_copyPhantoms
  rw [r6, r7, s6, s7, wh_fill (n := 2) (by decide) (r := cpP d h) (fun k => mt2 h (75 + 17 * d) (76 + 17 * d) 0 k (fun i => rdI h (92 + 17 * d) i) (fun i => rdI h (93 + 17 * d) i)) mt2_0]
  · rfl
  · dsimp only
    rw [if_pos (Int32.le_refl _)]
    rfl
  · intro i q0 q1
    have v : vp_in i 2 := vp_lt (n := 2) (m := 2) q0 q1 rfl
    dsimp only
    rw [if_neg (Int32.not_le.mpr q1), gd_pos v, lz_eq, gd_pos v, mt2_o (by omega) (by omega), rdI_o (by omega), mt2_o (by omega) (by omega), lz_eq, lz_eq]
    refine congrArg (fun H : hH => (some (.inl (i + 1, H)) : Option ((Int32 × hH) ⊕ hH))) ?_
    exact mt2_s rfl rfl (by omega) (by omega)
