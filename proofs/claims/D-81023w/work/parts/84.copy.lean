/-! LAYER 3T: copies of stores (printed by gen/mk84.py) -/
def zcp60 (h0 h : hH) (n : Nat) : hH := (flI (flI (flI (flI (flI (flI h 61 n (fun k => rdI h0 27 k)) 62 n (fun k => rdI h0 28 k)) 63 n (fun k => rdI h0 29 k)) 64 n (fun k => rdI h0 30 k)) 65 n (fun k => rdI h0 31 k &&& 1)) 66 n (fun k => rdI h0 32 k &&& 1))
theorem Zo_copy60 {h : hH} (h0 : 0 ≤ rdI h 26 6 ∧ rdI h 26 6 ≤ 64) : f_Zo_copy 60 26 h = some ((), zcp60 h (wrI h 60 6 (rdI h 26 6)) (rdI h 26 6).toNatClampNeg) := by
  unfold f_Zo_copy
  simp only [lz]
  have z0 : zcp60 h (wrI h 60 6 (rdI h 26 6)) 0 = wrI h 60 6 (rdI h 26 6) := by unfold zcp60; rw [flI_0, flI_0, flI_0, flI_0, flI_0, flI_0]
  have zm : ∀ i, rdI (zcp60 h (wrI h 60 6 (rdI h 26 6)) i) 60 6 = rdI h 26 6 := by
    intro i
    unfold zcp60
    simp only [rdI_wrI, rdI_flI, Nat.reduceEqDiff, false_and, and_false, true_and, and_true, eq_self, reduceIte]
  rw [wh_fill (n := rdI h 26 6) ⟨h0.1, by grind⟩ (r := zcp60 h (wrI h 60 6 (rdI h 26 6)) (rdI h 26 6).toNatClampNeg) (fun i => zcp60 h (wrI h 60 6 (rdI h 26 6)) i) z0]
  · rfl
  · dsimp only
    rw [zm, if_pos (Int32.le_refl _)]
  · intro i i0 i1
    have v : vp_in i 64 := vp_lt (n := 64) (m := 64) i0 (by grind) rfl
    have ez : zr 60 = 64 ∧ zr 26 = 64 := ⟨rfl, rfl⟩
    dsimp only
    rw [zm, if_neg (Int32.not_le.mpr i1), ez.1, ez.2]
    simp only [gd_pos (And.intro v v), show rf 60 0 = 61 from rfl, show rf 60 1 = 62 from rfl, show rf 60 2 = 63 from rfl, show rf 60 3 = 64 from rfl, show rf 60 4 = 65 from rfl, show rf 60 5 = 66 from rfl, show rf 26 0 = 27 from rfl, show rf 26 1 = 28 from rfl, show rf 26 2 = 29 from rfl, show rf 26 3 = 30 from rfl, show rf 26 4 = 31 from rfl, show rf 26 5 = 32 from rfl]
    unfold zcp60
    simp only [rdI_wrI, rdI_flI, Nat.reduceEqDiff, false_and, and_false, true_and, and_true, eq_self, reduceIte]
    rw [flI_c (by decide), flI_c (by decide), flI_c (by decide), flI_c (by decide), flI_c (by decide), flI_s' rfl]
    rw [flI_c (by decide), flI_c (by decide), flI_c (by decide), flI_c (by decide), flI_s' rfl]
    rw [flI_c (by decide), flI_c (by decide), flI_c (by decide), flI_s' rfl]
    rw [flI_c (by decide), flI_c (by decide), flI_s' rfl]
    rw [flI_c (by decide), flI_s' rfl, flI_s' rfl]
def secp67 (h : hH) : hH := (wrI (wrI (wrI (wrI (wrI (wrI (wrI (wrI (wrI h 67 0 (rdI h 33 0)) 67 1 (rdI h 33 1)) 67 2 (rdI h 33 2)) 67 3 (rdI h 33 3)) 67 4 (rdI h 33 4)) 67 5 (rdI h 33 5)) 67 6 (rdI h 33 6)) 67 7 (rdI h 33 7)) 67 8 (rdI h 33 8))
theorem Se_copy67 {h : hH} (hf : rdI h 33 4 = 0 ∨ rdI h 33 4 = 1) : f_Se_copy 67 33 h = some ((), secp67 h) := by
  unfold f_Se_copy secp67
  simp only [lz, rdI_wrI, rdI_flI, Nat.reduceEqDiff, false_and, and_false, true_and, and_true, eq_self, reduceIte, gd_pos hf]
def stcp57 (h : hH) : hH := secp67 (zcp60 h (wrI (flI (flI (wrI (wrI h 57 1 (rdI h 23 1)) 57 3 (rdI h 23 3)) 58 (rdI h 23 1).toNatClampNeg (fun k => rdI h 24 k)) 59 (rdI h 23 3).toNatClampNeg (fun k => rdI h 25 k)) 60 6 (rdI h 26 6)) (rdI h 26 6).toNatClampNeg)
theorem St_copy57 {h : hH} (hN : 0 ≤ rdI h 23 1 ∧ rdI h 23 1 ≤ 256) (hM : 0 ≤ rdI h 23 3 ∧ rdI h 23 3 ≤ 64) (hT : 0 ≤ rdI h 26 6 ∧ rdI h 26 6 ≤ 64) (hf : rdI h 33 4 = 0 ∨ rdI h 33 4 = 1) : f_St_copy 57 23 h = some ((), stcp57 h) := by
  unfold f_St_copy
  simp only [lz, show rf 57 0 = 58 from rfl, show rf 23 0 = 24 from rfl, show rf 57 2 = 59 from rfl, show rf 23 2 = 25 from rfl, show rf 57 4 = 60 from rfl, show rf 23 4 = 26 from rfl, show rf 57 5 = 67 from rfl, show rf 23 5 = 33 from rfl]
  have e3 : rdI (wrI h 57 1 (rdI h 23 1)) 23 3 = rdI h 23 3 := by simp only [rdI_wrI, rdI_flI, Nat.reduceEqDiff, false_and, and_false, true_and, and_true, eq_self, reduceIte]
  rw [e3]
  generalize hA : wrI (wrI h 57 1 (rdI h 23 1)) 57 3 (rdI h 23 3) = A
  have rA : ∀ o k, o ≠ 57 → rdI A o k = rdI h o k := fun o k ho => by rw [← hA, rdI_o ho, rdI_o ho]
  have a1 : rdI A 57 1 = rdI h 23 1 := by rw [← hA]; simp only [rdI_wrI, rdI_flI, Nat.reduceEqDiff, false_and, and_false, true_and, and_true, eq_self, reduceIte]
  have a3 : rdI A 57 3 = rdI h 23 3 := by rw [← hA]; simp only [rdI_wrI, rdI_flI, Nat.reduceEqDiff, false_and, and_false, true_and, and_true, eq_self, reduceIte]
  have l1 : ∀ i, rdI (flI A 58 i (fun k => rdI h 24 k)) 57 1 = rdI h 23 1 := fun i => by rw [rdI_flI, if_neg (by omega)]; exact a1
  rw [wh_fill (n := rdI h 23 1) ⟨hN.1, by grind⟩ (r := flI A 58 (rdI h 23 1).toNatClampNeg (fun k => rdI h 24 k)) (fun i => flI A 58 i (fun k => rdI h 24 k)) flI_0 (by dsimp only; rw [l1, if_pos (Int32.le_refl _)]) (by
    intro i i0 i1
    have v : vp_in i 256 := vp_lt (n := 256) (m := 256) i0 (by grind) rfl
    dsimp only
    rw [l1, if_neg (Int32.not_le.mpr i1), gd_pos v, rdI_flI, if_neg (by omega), rA _ _ (by decide), flI_s' rfl])]
  simp only [bP_some]
  generalize hB : flI A 58 (rdI h 23 1).toNatClampNeg (fun k => rdI h 24 k) = B
  have rB : ∀ o k, o ≠ 57 → o ≠ 58 → rdI B o k = rdI h o k := fun o k ho h2 => by rw [← hB, rdI_flI, if_neg (fun q => h2 q.1)]; exact rA o k ho
  have b3 : rdI B 57 3 = rdI h 23 3 := by rw [← hB, rdI_flI, if_neg (by omega)]; exact a3
  have l3 : ∀ i, rdI (flI B 59 i (fun k => rdI h 25 k)) 57 3 = rdI h 23 3 := fun i => by rw [rdI_flI, if_neg (by omega)]; exact b3
  rw [wh_fill (n := rdI h 23 3) ⟨hM.1, by grind⟩ (r := flI B 59 (rdI h 23 3).toNatClampNeg (fun k => rdI h 25 k)) (fun i => flI B 59 i (fun k => rdI h 25 k)) flI_0 (by dsimp only; rw [l3, if_pos (Int32.le_refl _)]) (by
    intro i i0 i1
    have v : vp_in i 64 := vp_lt (n := 64) (m := 64) i0 (by grind) rfl
    dsimp only
    rw [l3, if_neg (Int32.not_le.mpr i1), gd_pos v, rdI_flI, if_neg (by omega), rB _ _ (by decide) (by decide), flI_s' rfl])]
  simp only [bP_some]
  generalize hC : flI B 59 (rdI h 23 3).toNatClampNeg (fun k => rdI h 25 k) = C
  have rC : ∀ o k, o ≠ 57 → o ≠ 58 → o ≠ 59 → rdI C o k = rdI h o k := fun o k ho h2 h3 => by rw [← hC, rdI_flI, if_neg (fun q => h3 q.1)]; exact rB o k ho h2
  have cz : rdI C 26 6 = rdI h 26 6 := rC _ _ (by decide) (by decide) (by decide)
  have zc : ∀ G n, zcp60 C G n = zcp60 h G n := by
    intro G n
    unfold zcp60
    simp only [(fun k => rC 27 k (by decide) (by decide) (by decide)), (fun k => rC 28 k (by decide) (by decide) (by decide)), (fun k => rC 29 k (by decide) (by decide) (by decide)), (fun k => rC 30 k (by decide) (by decide) (by decide)), (fun k => rC 31 k (by decide) (by decide) (by decide)), (fun k => rC 32 k (by decide) (by decide) (by decide))]
  rw [Zo_copy60 (by rw [cz]; exact hT)]
  simp only [bS_some]
  rw [cz, zc, Se_copy67]
  · simp only [bS_some]
    rw [← hC, ← hB, ← hA]
    rfl
  · unfold zcp60
    simp only [rdI_wrI, rdI_flI, Nat.reduceEqDiff, false_and, and_false, true_and, and_true, eq_self, reduceIte]
    rw [rC _ _ (by decide) (by decide) (by decide)]
    exact hf
def zcp26 (h0 h : hH) (n : Nat) : hH := (flI (flI (flI (flI (flI (flI h 27 n (fun k => rdI h0 61 k)) 28 n (fun k => rdI h0 62 k)) 29 n (fun k => rdI h0 63 k)) 30 n (fun k => rdI h0 64 k)) 31 n (fun k => rdI h0 65 k &&& 1)) 32 n (fun k => rdI h0 66 k &&& 1))
theorem Zo_copy26 {h : hH} (h0 : 0 ≤ rdI h 60 6 ∧ rdI h 60 6 ≤ 64) : f_Zo_copy 26 60 h = some ((), zcp26 h (wrI h 26 6 (rdI h 60 6)) (rdI h 60 6).toNatClampNeg) := by
  unfold f_Zo_copy
  simp only [lz]
  have z0 : zcp26 h (wrI h 26 6 (rdI h 60 6)) 0 = wrI h 26 6 (rdI h 60 6) := by unfold zcp26; rw [flI_0, flI_0, flI_0, flI_0, flI_0, flI_0]
  have zm : ∀ i, rdI (zcp26 h (wrI h 26 6 (rdI h 60 6)) i) 26 6 = rdI h 60 6 := by
    intro i
    unfold zcp26
    simp only [rdI_wrI, rdI_flI, Nat.reduceEqDiff, false_and, and_false, true_and, and_true, eq_self, reduceIte]
  rw [wh_fill (n := rdI h 60 6) ⟨h0.1, by grind⟩ (r := zcp26 h (wrI h 26 6 (rdI h 60 6)) (rdI h 60 6).toNatClampNeg) (fun i => zcp26 h (wrI h 26 6 (rdI h 60 6)) i) z0]
  · rfl
  · dsimp only
    rw [zm, if_pos (Int32.le_refl _)]
  · intro i i0 i1
    have v : vp_in i 64 := vp_lt (n := 64) (m := 64) i0 (by grind) rfl
    have ez : zr 26 = 64 ∧ zr 60 = 64 := ⟨rfl, rfl⟩
    dsimp only
    rw [zm, if_neg (Int32.not_le.mpr i1), ez.1, ez.2]
    simp only [gd_pos (And.intro v v), show rf 26 0 = 27 from rfl, show rf 26 1 = 28 from rfl, show rf 26 2 = 29 from rfl, show rf 26 3 = 30 from rfl, show rf 26 4 = 31 from rfl, show rf 26 5 = 32 from rfl, show rf 60 0 = 61 from rfl, show rf 60 1 = 62 from rfl, show rf 60 2 = 63 from rfl, show rf 60 3 = 64 from rfl, show rf 60 4 = 65 from rfl, show rf 60 5 = 66 from rfl]
    unfold zcp26
    simp only [rdI_wrI, rdI_flI, Nat.reduceEqDiff, false_and, and_false, true_and, and_true, eq_self, reduceIte]
    rw [flI_c (by decide), flI_c (by decide), flI_c (by decide), flI_c (by decide), flI_c (by decide), flI_s' rfl]
    rw [flI_c (by decide), flI_c (by decide), flI_c (by decide), flI_c (by decide), flI_s' rfl]
    rw [flI_c (by decide), flI_c (by decide), flI_c (by decide), flI_s' rfl]
    rw [flI_c (by decide), flI_c (by decide), flI_s' rfl]
    rw [flI_c (by decide), flI_s' rfl, flI_s' rfl]
def secp33 (h : hH) : hH := (wrI (wrI (wrI (wrI (wrI (wrI (wrI (wrI (wrI h 33 0 (rdI h 67 0)) 33 1 (rdI h 67 1)) 33 2 (rdI h 67 2)) 33 3 (rdI h 67 3)) 33 4 (rdI h 67 4)) 33 5 (rdI h 67 5)) 33 6 (rdI h 67 6)) 33 7 (rdI h 67 7)) 33 8 (rdI h 67 8))
theorem Se_copy33 {h : hH} (hf : rdI h 67 4 = 0 ∨ rdI h 67 4 = 1) : f_Se_copy 33 67 h = some ((), secp33 h) := by
  unfold f_Se_copy secp33
  simp only [lz, rdI_wrI, rdI_flI, Nat.reduceEqDiff, false_and, and_false, true_and, and_true, eq_self, reduceIte, gd_pos hf]
def stcp23 (h : hH) : hH := secp33 (zcp26 h (wrI (flI (flI (wrI (wrI h 23 1 (rdI h 57 1)) 23 3 (rdI h 57 3)) 24 (rdI h 57 1).toNatClampNeg (fun k => rdI h 58 k)) 25 (rdI h 57 3).toNatClampNeg (fun k => rdI h 59 k)) 26 6 (rdI h 60 6)) (rdI h 60 6).toNatClampNeg)
theorem St_copy23 {h : hH} (hN : 0 ≤ rdI h 57 1 ∧ rdI h 57 1 ≤ 256) (hM : 0 ≤ rdI h 57 3 ∧ rdI h 57 3 ≤ 64) (hT : 0 ≤ rdI h 60 6 ∧ rdI h 60 6 ≤ 64) (hf : rdI h 67 4 = 0 ∨ rdI h 67 4 = 1) : f_St_copy 23 57 h = some ((), stcp23 h) := by
  unfold f_St_copy
  simp only [lz, show rf 23 0 = 24 from rfl, show rf 57 0 = 58 from rfl, show rf 23 2 = 25 from rfl, show rf 57 2 = 59 from rfl, show rf 23 4 = 26 from rfl, show rf 57 4 = 60 from rfl, show rf 23 5 = 33 from rfl, show rf 57 5 = 67 from rfl]
  have e3 : rdI (wrI h 23 1 (rdI h 57 1)) 57 3 = rdI h 57 3 := by simp only [rdI_wrI, rdI_flI, Nat.reduceEqDiff, false_and, and_false, true_and, and_true, eq_self, reduceIte]
  rw [e3]
  generalize hA : wrI (wrI h 23 1 (rdI h 57 1)) 23 3 (rdI h 57 3) = A
  have rA : ∀ o k, o ≠ 23 → rdI A o k = rdI h o k := fun o k ho => by rw [← hA, rdI_o ho, rdI_o ho]
  have a1 : rdI A 23 1 = rdI h 57 1 := by rw [← hA]; simp only [rdI_wrI, rdI_flI, Nat.reduceEqDiff, false_and, and_false, true_and, and_true, eq_self, reduceIte]
  have a3 : rdI A 23 3 = rdI h 57 3 := by rw [← hA]; simp only [rdI_wrI, rdI_flI, Nat.reduceEqDiff, false_and, and_false, true_and, and_true, eq_self, reduceIte]
  have l1 : ∀ i, rdI (flI A 24 i (fun k => rdI h 58 k)) 23 1 = rdI h 57 1 := fun i => by rw [rdI_flI, if_neg (by omega)]; exact a1
  rw [wh_fill (n := rdI h 57 1) ⟨hN.1, by grind⟩ (r := flI A 24 (rdI h 57 1).toNatClampNeg (fun k => rdI h 58 k)) (fun i => flI A 24 i (fun k => rdI h 58 k)) flI_0 (by dsimp only; rw [l1, if_pos (Int32.le_refl _)]) (by
    intro i i0 i1
    have v : vp_in i 256 := vp_lt (n := 256) (m := 256) i0 (by grind) rfl
    dsimp only
    rw [l1, if_neg (Int32.not_le.mpr i1), gd_pos v, rdI_flI, if_neg (by omega), rA _ _ (by decide), flI_s' rfl])]
  simp only [bP_some]
  generalize hB : flI A 24 (rdI h 57 1).toNatClampNeg (fun k => rdI h 58 k) = B
  have rB : ∀ o k, o ≠ 23 → o ≠ 24 → rdI B o k = rdI h o k := fun o k ho h2 => by rw [← hB, rdI_flI, if_neg (fun q => h2 q.1)]; exact rA o k ho
  have b3 : rdI B 23 3 = rdI h 57 3 := by rw [← hB, rdI_flI, if_neg (by omega)]; exact a3
  have l3 : ∀ i, rdI (flI B 25 i (fun k => rdI h 59 k)) 23 3 = rdI h 57 3 := fun i => by rw [rdI_flI, if_neg (by omega)]; exact b3
  rw [wh_fill (n := rdI h 57 3) ⟨hM.1, by grind⟩ (r := flI B 25 (rdI h 57 3).toNatClampNeg (fun k => rdI h 59 k)) (fun i => flI B 25 i (fun k => rdI h 59 k)) flI_0 (by dsimp only; rw [l3, if_pos (Int32.le_refl _)]) (by
    intro i i0 i1
    have v : vp_in i 64 := vp_lt (n := 64) (m := 64) i0 (by grind) rfl
    dsimp only
    rw [l3, if_neg (Int32.not_le.mpr i1), gd_pos v, rdI_flI, if_neg (by omega), rB _ _ (by decide) (by decide), flI_s' rfl])]
  simp only [bP_some]
  generalize hC : flI B 25 (rdI h 57 3).toNatClampNeg (fun k => rdI h 59 k) = C
  have rC : ∀ o k, o ≠ 23 → o ≠ 24 → o ≠ 25 → rdI C o k = rdI h o k := fun o k ho h2 h3 => by rw [← hC, rdI_flI, if_neg (fun q => h3 q.1)]; exact rB o k ho h2
  have cz : rdI C 60 6 = rdI h 60 6 := rC _ _ (by decide) (by decide) (by decide)
  have zc : ∀ G n, zcp26 C G n = zcp26 h G n := by
    intro G n
    unfold zcp26
    simp only [(fun k => rC 61 k (by decide) (by decide) (by decide)), (fun k => rC 62 k (by decide) (by decide) (by decide)), (fun k => rC 63 k (by decide) (by decide) (by decide)), (fun k => rC 64 k (by decide) (by decide) (by decide)), (fun k => rC 65 k (by decide) (by decide) (by decide)), (fun k => rC 66 k (by decide) (by decide) (by decide))]
  rw [Zo_copy26 (by rw [cz]; exact hT)]
  simp only [bS_some]
  rw [cz, zc, Se_copy33]
  · simp only [bS_some]
    rw [← hC, ← hB, ← hA]
    rfl
  · unfold zcp26
    simp only [rdI_wrI, rdI_flI, Nat.reduceEqDiff, false_and, and_false, true_and, and_true, eq_self, reduceIte]
    rw [rC _ _ (by decide) (by decide) (by decide)]
    exact hf
