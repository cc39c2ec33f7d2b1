/-! LAYER 3X: glyphs that are read: bytes, frames, ends of contours -/
def isGl (z : Nat) : Prop := z = 11 ∨ z = 77 ∨ z = 94 ∨ z = 111 ∨ z = 128 ∨ z = 145 ∨ z = 162 ∨ z = 172
theorem gl_rf {z : Nat} (h : isGl z) : (rf z 3 = z + 1 ∧ rf z 4 = z + 2 ∧ rf z 5 = z + 3 ∧ rf z 6 = z + 4 ∧ rf z 10 = z + 5) ∧ (rf z 11 = z + 6 ∧ rf z 12 = z + 7 ∧ rf z 13 = z + 8 ∧ rf z 14 = z + 9) ∧ isA 3 z ∧ 10 < z ∧ z < 180 ∧ ln (z + 2) = 100 ∧ ln (z + 3) = 100 := by
  rcases h with rfl | rfl | rfl | rfl | rfl | rfl | rfl | rfl <;> exact ⟨⟨rfl, rfl, rfl, rfl, rfl⟩, ⟨rfl, rfl, rfl, rfl⟩, ⟨rfl, le_b rfl⟩, by decide, by decide, rfl, rfl⟩
theorem isA1 : isA 1 5 := ⟨rfl, le_b rfl⟩
def u1N (h : hH) (p : Nat) : Int32 := rdI h 6 p &&& 255
def u2N (h : hH) (p : Nat) : Int32 := (u1N h p <<< ((8 : Int32) &&& 31)) ||| u1N h (p + 1)
theorem By_u2_eq {p : Int32} {h : hH} (h0 : 0 ≤ p) (h1 : p + 1 < 12000) (h2 : p < 12000) : f_By_u2 5 p h = some (u2N h p.toNatClampNeg) := by
  unfold f_By_u2 u2N u1N
  have e : (p + 1).toNatClampNeg = p.toNatClampNeg + 1 := xI_succ (m := 12000) h0 (by grind) (by decide)
  rw [By_u1_eq h0 h2, By_u1_eq (by grind) h1, e]
  rfl
theorem Mo_u2_eq {hc hm : hH} (hb : BY hc hm) {p : Int32} (h0 : 0 ≤ p) (h1 : p + 1 < rdI hc 5 1) (h2 : p < rdI hc 5 1) : f_Mo_u2 p hm = some (u2N hc p.toNatClampNeg) := by
  unfold f_Mo_u2 u2N u1N
  have b3 := hb.2.2.1
  have e : (p + 1).toNatClampNeg = p.toNatClampNeg + 1 := xI_succ (m := 12000) h0 (by grind) (by decide)
  rw [u1_T hb h0 h2, u1_T hb (by grind) h1, e]
  rfl
theorem u1N_r (h : hH) (p : Nat) : 0 ≤ u1N h p ∧ u1N h p ≤ 255 := and255 _
theorem or_r {a b : Int32} (ha : 0 ≤ a ∧ a ≤ 255) (hb : 0 ≤ b ∧ b ≤ 255) : 0 ≤ (a <<< ((8 : Int32) &&& 31)) ||| b ∧ (a <<< ((8 : Int32) &&& 31)) ||| b ≤ 65535 := by
  have z0 : (0 : Int32).toInt = 0 := rfl
  have z255 : (255 : Int32).toInt = 255 := rfl
  have z65 : (65535 : Int32).toInt = 65535 := rfl
  have a0 := Int32.le_iff_toInt_le.mp ha.1
  have a1 := Int32.le_iff_toInt_le.mp ha.2
  have b0 := Int32.le_iff_toInt_le.mp hb.1
  have b1 := Int32.le_iff_toInt_le.mp hb.2
  have na : a.toBitVec.toNat ≤ 255 := by
    have e : a.toBitVec.toInt = (a.toBitVec.toNat : Int) := by
      have w : a.toBitVec.toInt = a.toInt := rfl
      rw [BitVec.toInt_eq_toNat_cond] at w ⊢
      split
      · rfl
      · rename_i q
        rw [if_neg q] at w
        have := a.toBitVec.isLt
        omega
    have : a.toInt = a.toBitVec.toInt := rfl
    omega
  have nb : b.toBitVec.toNat ≤ 255 := by
    have e : b.toBitVec.toInt = (b.toBitVec.toNat : Int) := by
      have w : b.toBitVec.toInt = b.toInt := rfl
      rw [BitVec.toInt_eq_toNat_cond] at w ⊢
      split
      · rfl
      · rename_i q
        rw [if_neg q] at w
        have := b.toBitVec.isLt
        omega
    have : b.toInt = b.toBitVec.toInt := rfl
    omega
  have e1 : ((a <<< ((8 : Int32) &&& 31)) ||| b).toBitVec = (a.toBitVec <<< 8) ||| b.toBitVec := rfl
  have e2 : ((a.toBitVec <<< 8) ||| b.toBitVec).toNat < 2 ^ 16 := by
    rw [BitVec.toNat_or]
    refine Nat.or_lt_two_pow ?_ (by omega)
    rw [BitVec.toNat_shiftLeft, Nat.shiftLeft_eq]
    omega
  have e3 : ((a <<< ((8 : Int32) &&& 31)) ||| b).toInt = ((((a.toBitVec <<< 8) ||| b.toBitVec).toNat : Nat) : Int) := by
    show ((a <<< ((8 : Int32) &&& 31)) ||| b).toBitVec.toInt = _
    rw [e1, BitVec.toInt_eq_toNat_of_lt (by omega)]
  rw [Int32.le_iff_toInt_le, Int32.le_iff_toInt_le, e3, z0, z65]
  omega
theorem u2N_r (h : hH) (p : Nat) : 0 ≤ u2N h p ∧ u2N h p ≤ 65535 := or_r (u1N_r h p) (u1N_r h (p + 1))
/-- what reading a glyph leaves -/
def FrG (z : Nat) (h g : hH) : Prop := (∀ o k, o < z ∨ z + 9 < o → rdI g o k = rdI h o k) ∧ (∀ o k, rdP g o k = rdP h o k) ∧ (∀ o k, rdL g o k = rdL h o k)
def FrN (h g : hH) : Prop := (∀ o k, ¬ (199 ≤ o ∧ o ≤ 207) → ¬ (o = 192 ∧ 26 ≤ k ∧ k ≤ 32) → rdI g o k = rdI h o k) ∧ (∀ o k, rdP g o k = rdP h o k) ∧ (∀ o k, rdL g o k = rdL h o k)
theorem FrG_rfl {z : Nat} {h : hH} : FrG z h h := ⟨fun _ _ _ => rfl, fun _ _ => rfl, fun _ _ => rfl⟩
theorem FrN_rfl {h : hH} : FrN h h := ⟨fun _ _ _ _ => rfl, fun _ _ => rfl, fun _ _ => rfl⟩
theorem FrG_w {z o k : Nat} {v : Int32} {h g : hH} (f : FrG z h g) (ho : z ≤ o ∧ o ≤ z + 9) : FrG z h (wrI g o k v) := ⟨fun o' k' ho' => (rdI_o (by omega)).trans (f.1 o' k' ho'), f.2.1, f.2.2⟩
theorem FrN_w {o k : Nat} {v : Int32} {h g : hH} (f : FrN h g) (ho : (199 ≤ o ∧ o ≤ 207) ∨ (o = 192 ∧ 26 ≤ k ∧ k ≤ 32)) : FrN h (wrI g o k v) := by
  refine ⟨fun o' k' h1 h2 => ?_, f.2.1, f.2.2⟩
  rw [rdI_wrI, if_neg (by omega)]
  exact f.1 o' k' h1 h2
theorem FrG_t {z : Nat} {h g g' : hH} (f : FrG z h g) (f' : FrG z g g') : FrG z h g' := ⟨fun o k ho => (f'.1 o k ho).trans (f.1 o k ho), fun o k => (f'.2.1 o k).trans (f.2.1 o k), fun o k => (f'.2.2 o k).trans (f.2.2 o k)⟩
theorem FrN_t {h g g' : hH} (f : FrN h g) (f' : FrN g g') : FrN h g' := ⟨fun o k h1 h2 => (f'.1 o k h1 h2).trans (f.1 o k h1 h2), fun o k => (f'.2.1 o k).trans (f.2.1 o k), fun o k => (f'.2.2 o k).trans (f.2.2 o k)⟩
theorem BY_fr {z : Nat} {hc hm g m : hH} (hz : 10 < z) (f : FrG z hc g) (f' : FrN hm m) (h : BY hc hm) : BY g m := by
  have e5 : rdI g 5 1 = rdI hc 5 1 := f.1 _ _ (by omega)
  have e6 : ∀ i, rdI g 6 i = rdI hc 6 i := fun i => f.1 _ _ (by omega)
  have e3 : rdI m 192 3 = rdI hm 192 3 := f'.1 _ _ (by omega) (by omega)
  have e4 : ∀ i, rdI m 194 i = rdI hm 194 i := fun i => f'.1 _ _ (by omega) (by omega)
  simp only [BY, e5, e6, e3, e4] at h ⊢
  exact h
theorem u2N_fr {z : Nat} {hc g : hH} (hz : 10 < z) (f : FrG z hc g) (p : Nat) : u2N g p = u2N hc p := by
  unfold u2N u1N
  rw [f.1 _ _ (by omega), f.1 _ _ (by omega)]
/-- the loop of ends, on both sides -/
noncomputable def endC (z : Nat) (p2 : Int32 × Int32 × hH) : Option ((Int32 × Int32 × hH) ⊕ ((Int32 × hH) ⊕ (Int32 × hH))) :=
  if (rdI p2.2.2 z 0) ≤ p2.2.1 then (
    some (.inr (.inl (p2.1, p2.2.2)))
  ) else (
    gd (isA 1 (rdP p2.2.2 z 15)) <|
    bP (f_By_u2 (rdP p2.2.2 z 15) (rdI p2.2.2 z 16) p2.2.2) fun a5 =>
    gd (vp_in p2.2.1 12) <|
    lz (wrI p2.2.2 (rf z 3) (Int32.toNatClampNeg p2.2.1) a5) fun h1 =>
    lz (wrI h1 z 16 ((rdI h1 z 16) + (2 : Int32))) fun h2 =>
    gd (vp_in p2.2.1 12) <|
    if (rdI h2 (rf z 3) (Int32.toNatClampNeg p2.2.1)) ≤ p2.1 then (
      some (.inr (.inr ((0 : Int32), h2)))
    ) else (
      gd (vp_in p2.2.1 12) <|
      if (rdI h2 (rf z 3) (Int32.toNatClampNeg p2.2.1)) < (100 : Int32) then (
        gd (vp_in p2.2.1 12) <|
        lz (A := Int32) (rdI h2 (rf z 3) (Int32.toNatClampNeg p2.2.1)) fun v9 =>
        lz (A := Int32) (p2.2.1 + (1 : Int32)) fun v11 =>
        some (.inl (v9, v11, h2))
      ) else (
        some (.inr (.inr ((0 : Int32), h2)))
      )
    )
  )
noncomputable def endM (p2 : Int32 × Int32 × Int32 × hH) : Option ((Int32 × Int32 × Int32 × hH) ⊕ ((Int32 × Int32 × hH) ⊕ (Int32 × hH))) :=
  if (rdI p2.2.2.2 192 28) ≤ p2.2.2.1 then (
    some (.inr (.inl (p2.1, p2.2.1, p2.2.2.2)))
  ) else (
    bP (f_Mo_u2 p2.1 p2.2.2.2) fun a4 =>
    if a4 ≤ p2.2.1 then (
      some (.inr (.inr ((0 : Int32), p2.2.2.2)))
    ) else (
      if a4 < (100 : Int32) then (
        gd (vp_in p2.2.2.1 12) <|
        lz (wrI p2.2.2.2 199 (Int32.toNatClampNeg p2.2.2.1) a4) fun h1 =>
        lz (A := Int32) (p2.1 + (2 : Int32)) fun v6 =>
        lz (A := Int32) (p2.2.2.1 + (1 : Int32)) fun v7 =>
        some (.inl (v6, a4, v7, h1))
      ) else (
        some (.inr (.inr ((0 : Int32), p2.2.2.2)))
      )
    )
  )
/-- ends that were read: they grow -/
def EE2 (e : Nat → Int32) (k : Nat) (b : Int32) : Prop := (∀ i, i < k → 0 ≤ e i ∧ e i ≤ b) ∧ (∀ i, i + 1 < k → e i < e (i + 1)) ∧ (k = 0 → b = -1) ∧ (0 < k → e (k - 1) = b) ∧ -1 ≤ b ∧ b < 100
theorem EE2_s {e e' : Nat → Int32} {k : Nat} {b v : Int32} (h : EE2 e k b) (hv : b < v) (hv2 : v < 100) (he : ∀ i, i < k → e' i = e i) (hk : e' k = v) : EE2 e' (k + 1) v := by
  obtain ⟨h1, h2, h3, h4, h5, h6⟩ := h
  refine ⟨?_, ?_, fun q => absurd q (by omega), fun _ => hk, by grind, hv2⟩
  · intro i hi
    by_cases q : i = k
    · rw [q, hk]; constructor <;> grind
    · have := h1 i (by omega)
      rw [he i (by omega)]
      constructor <;> grind
  · intro i hi
    by_cases q : i + 1 = k
    · have h4' := h4 (by omega)
      have ei : i = k - 1 := by omega
      rw [q, hk, he i (by omega), ei, h4']
      exact hv
    · rw [he i (by omega), he (i + 1) (by omega)]
      exact h2 i (by omega)
