/-! LAYER 4B: numbers and matrices of parts, on both sides -/
theorem s1_all : ∀ j : Nat, j < 64 → Int8.toInt32 (Int32.toInt8 (Int32.ofInt ((j : Int) - 128) &&& 255)) = Int32.ofInt ((j : Int) - 128) ∧ Int8.toInt32 (Int32.toInt8 (Int32.ofInt ((j : Int) - 64) &&& 255)) = Int32.ofInt ((j : Int) - 64) ∧ Int8.toInt32 (Int32.toInt8 (Int32.ofInt (j : Int) &&& 255)) = Int32.ofInt (j : Int) ∧ Int8.toInt32 (Int32.toInt8 (Int32.ofInt ((j : Int) + 64) &&& 255)) = Int32.ofInt ((j : Int) + 64) := by decide
theorem s1_eq {x : Int32} (h : -128 ≤ x ∧ x ≤ 127) : Int8.toInt32 (Int32.toInt8 (x &&& 255)) = x := by
  have a := Int32.le_iff_toInt_le.mp h.1
  have b := Int32.le_iff_toInt_le.mp h.2
  have z1 : (-128 : Int32).toInt = -128 := rfl
  have z2 : (127 : Int32).toInt = 127 := rfl
  rw [z1] at a
  rw [z2] at b
  have e : x = Int32.ofInt x.toInt := (Int32.ofInt_toInt x).symm
  rcases (show x.toInt < -64 ∨ (-64 ≤ x.toInt ∧ x.toInt < 0) ∨ (0 ≤ x.toInt ∧ x.toInt < 64) ∨ 64 ≤ x.toInt by omega) with w | w | w | w
  · have k := (s1_all (x.toInt + 128).toNat (by omega)).1
    have i : (((x.toInt + 128).toNat : Nat) : Int) - 128 = x.toInt := by omega
    rw [i, ← e] at k
    exact k
  · have k := (s1_all (x.toInt + 64).toNat (by omega)).2.1
    have i : (((x.toInt + 64).toNat : Nat) : Int) - 64 = x.toInt := by omega
    rw [i, ← e] at k
    exact k
  · have k := (s1_all x.toInt.toNat (by omega)).2.2.1
    have i : ((x.toInt.toNat : Nat) : Int) = x.toInt := by omega
    rw [i, ← e] at k
    exact k
  · have k := (s1_all (x.toInt - 64).toNat (by omega)).2.2.2
    have i : (((x.toInt - 64).toNat : Nat) : Int) + 64 = x.toInt := by omega
    rw [i, ← e] at k
    exact k
/-- the font's bytes are bytes -/
def BR (h : hH) : Prop := ∀ i, i < (rdI h 5 1).toNatClampNeg → -128 ≤ rdI h 6 i ∧ rdI h 6 i ≤ 127
def nV (w s : Int32) (h : hH) (p : Nat) : Int32 := if w = 0 then (if s = 0 then u1N h p else rdI h 6 p) else (if s = 0 then u2N h p else s2N h p)
theorem nV_fr {z : Nat} {w s : Int32} {hc g : hH} (hz : 10 < z) (f : FrG z hc g) (p : Nat) : nV w s g p = nV w s hc p := by
  unfold nV
  rw [u1N_fr hz f, u2N_fr hz f, s2N_fr hz f, f.1 6 p (by omega)]
theorem nC {z : Nat} {w s p W : Int32} {h : hH} (hP : rdP h z 15 = 5) (e16 : rdI h z 16 = p) (hp : 0 ≤ p) (hW : W = if w = 0 then 1 else 2) (hp2 : p + W ≤ 12000) (hp3 : p < 12000) : (
    if w = 0 then (
      if s = 0 then (
        gd (isA 1 (rdP h z 15)) <|
        bP (f_By_u1 (rdP h z 15) (rdI h z 16) h) fun a10 =>
        some a10
      ) else (
        gd (isA 1 (rdP h z 15)) <|
        bP (f_By_s1 (rdP h z 15) (rdI h z 16) h) fun a12 =>
        some a12
      )
    ) else (
      if s = 0 then (
        gd (isA 1 (rdP h z 15)) <|
        bP (f_By_u2 (rdP h z 15) (rdI h z 16) h) fun a15 =>
        some a15
      ) else (
        gd (isA 1 (rdP h z 15)) <|
        bP (f_By_s2 (rdP h z 15) (rdI h z 16) h) fun a17 =>
        some a17
      )
    )) = some (nV w s h p.toNatClampNeg) := by
  have vs : f_By_s1 5 p h = some (rdI h 6 p.toNatClampNeg) := by
    unfold f_By_s1
    rw [gd_pos (vp_lt (n := 12000) (m := 12000) hp hp3 rfl)]
    rfl
  unfold nV
  rw [hP, e16, gd_pos isA1, gd_pos isA1, gd_pos isA1, gd_pos isA1, vs, By_u1_N hp hp3]
  by_cases a : w = 0
  · simp only [if_pos a, bP_some]
    by_cases b : s = 0
    · simp only [if_pos b]
    · simp only [if_neg b]
  · rw [if_neg a] at hW
    subst hW
    simp only [if_neg a]
    rw [By_u2_eq hp (by grind) hp3, By_s2_eq hp (by grind) hp3]
    by_cases b : s = 0
    · simp only [if_pos b, bP_some]
    · simp only [if_neg b, bP_some]
theorem nM {w s p W : Int32} {hc hm : hH} (hb : BY hc hm) (br : BR hc) (hp : 0 ≤ p) (hW : W = if w = 0 then 1 else 2) (hp2 : p + W ≤ rdI hc 5 1) (hp3 : p < rdI hc 5 1) : (
    if w = 0 then (
      if s = 0 then (
        bP (f_Mo_u1 p hm) fun a22 =>
        some a22
      ) else (
        bP (f_Mo_s1 p hm) fun a23 =>
        some a23
      )
    ) else (
      if s = 0 then (
        bP (f_Mo_u2 p hm) fun a25 =>
        some a25
      ) else (
        bP (f_Mo_s2 p hm) fun a26 =>
        some a26
      )
    )) = some (nV w s hc p.toNatClampNeg) := by
  have b3 := hb.2.2.1
  have vs : f_Mo_s1 p hm = some (rdI hc 6 p.toNatClampNeg) := by
    unfold f_Mo_s1
    rw [Mo_u1_N hb hp hp3]
    simp only [bP_some]
    unfold u1N
    rw [s1_eq (br _ ((xI_lt hp hb.2.1).mpr hp3))]
  unfold nV
  rw [vs, Mo_u1_N hb hp hp3]
  by_cases a : w = 0
  · simp only [if_pos a, bP_some]
    by_cases b : s = 0
    · simp only [if_pos b]
    · simp only [if_neg b]
  · rw [if_neg a] at hW
    subst hW
    simp only [if_neg a]
    rw [Mo_u2_eq hb hp (by grind) hp3, Mo_s2_eq hb hp (by grind) hp3]
    by_cases b : s = 0
    · simp only [if_pos b, bP_some]
    · simp only [if_neg b, bP_some]
def bit (f b : Int32) : Int32 := if f &&& b = 0 then 0 else 1
/-- numbers of a part, of the component -/
theorem C_num {z : Nat} {g : hH} {p en k fl W : Int32} (hz : isGl z) (hP : rdP g z 15 = 5) (e16 : rdI g z 16 = p) (e17 : rdI g z 17 = en) (e9 : rdI g z 9 = k) (hk : 0 ≤ k ∧ k < 8) (hp : 0 ≤ p ∧ p ≤ en) (hen : en ≤ 12000) (hW : W = if bit fl 1 = 0 then 1 else 2) : f_Gl_readNumbers z fl g = if p + 2 * W ≤ en then some (1, wrI (wrI (wrI (wrI g (z + 7) k.toNatClampNeg (nV (bit fl 1) (bit fl 2) g p.toNatClampNeg)) z 16 (p + W)) (z + 8) k.toNatClampNeg (nV (bit fl 1) (bit fl 2) g (p + W).toNatClampNeg)) z 16 (p + W + W)) else some (0, g) := by
  obtain ⟨_, ⟨_, r12, r13, _⟩, _, z10, z180, _, _⟩ := gl_rf hz
  have vk : vp_in k 8 := vp_lt (n := 8) (m := 8) hk.1 hk.2 rfl
  have W1 : W = 1 ∨ W = 2 := by rw [hW]; split; exact Or.inl rfl; exact Or.inr rfl
  have eW : (if bit fl 1 = 0 then (2 : Int32) else 4) = 2 * W := by
    rw [hW]
    split <;> decide
  have fg : FrG z g (wrI (wrI g (z + 7) k.toNatClampNeg (nV (bit fl 1) (bit fl 2) g p.toNatClampNeg)) z 16 (p + W)) := FrG_w (FrG_w FrG_rfl (by omega)) (by omega)
  unfold f_Gl_readNumbers
  simp only [lz]
  change bP (f_Gl_has z (if bit fl 1 = 0 then (2 : Int32) else 4) g) _ = _
  rw [eW, has_eq e16 e17]
  simp only [bP_some]
  by_cases q : p + 2 * W ≤ en
  · have q' : ¬ en - p < 2 * W := by rcases W1 with rfl | rfl <;> grind
    rw [if_pos q, if_neg q']
    simp only [show ¬ ((1 : Int32) = 0) by decide, reduceIte]
    change bP (if bit fl 1 = 0 then (if bit fl 2 = 0 then _ else _) else (if bit fl 2 = 0 then _ else _)) _ = _
    rw [nC (w := bit fl 1) (s := bit fl 2) hP e16 hp.1 hW (by rcases W1 with rfl | rfl <;> grind) (by rcases W1 with rfl | rfl <;> grind)]
    simp only [bP_some, e9, gd_pos vk, r12, r13]
    have c16 : rdI (wrI g (z + 7) k.toNatClampNeg (nV (bit fl 1) (bit fl 2) g p.toNatClampNeg)) z 16 = p := by rw [rdI_o (by omega)]; exact e16
    rw [c16]
    change bP (if bit fl 1 = 0 then (if bit fl 2 = 0 then _ else _) else (if bit fl 2 = 0 then _ else _)) _ = _
    have eW2 : (if fl &&& 1 = 0 then (0 : Int32) else 1) = bit fl 1 := rfl
    rw [eW2, ← hW]
    rw [nC (w := bit fl 1) (s := bit fl 2) (p := p + W) (W := W) (h := wrI (wrI g (z + 7) k.toNatClampNeg (nV (bit fl 1) (bit fl 2) g p.toNatClampNeg)) z 16 (p + W)) hP (by rw [rdI_wrI, if_pos ⟨rfl, rfl⟩]) (by rcases W1 with rfl | rfl <;> grind) hW (by rcases W1 with rfl | rfl <;> grind) (by rcases W1 with rfl | rfl <;> grind)]
    have c9 : rdI (wrI (wrI g (z + 7) k.toNatClampNeg (nV (bit fl 1) (bit fl 2) g p.toNatClampNeg)) z 16 (p + W)) z 9 = k := by
      rw [rdI_wrI, if_neg (by omega), rdI_o (by omega)]; exact e9
    simp only [bP_some]
    rw [c9, gd_pos vk, nV_fr z10 fg]
    have d16 : ∀ x, rdI (wrI (wrI (wrI g (z + 7) k.toNatClampNeg (nV (bit fl 1) (bit fl 2) g p.toNatClampNeg)) z 16 (p + W)) (z + 8) k.toNatClampNeg x) z 16 = p + W := fun x => by
      rw [rdI_o (by omega), rdI_wrI, if_pos ⟨rfl, rfl⟩]
    rw [d16]
  · have q' : en - p < 2 * W := by rcases W1 with rfl | rfl <;> grind
    rw [if_neg q, if_pos q']
    simp only [reduceIte]
