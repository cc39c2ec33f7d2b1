/-! LAYER 3l: bytes of programs; passing over codes -/
theorem and255 (x : Int32) : 0 ≤ x &&& 255 ∧ x &&& 255 ≤ 255 := by
  have e : (x &&& 255).toInt = ((x.toBitVec.toNat &&& 255 : Nat) : Int) := by
    have h1 : (x &&& 255).toBitVec.toNat = x.toBitVec.toNat &&& 255 := by
      rw [Int32.toBitVec_and, BitVec.toNat_and]
      rfl
    have h2 : x.toBitVec.toNat &&& 255 ≤ 255 := Nat.and_le_right
    show (x &&& 255).toBitVec.toInt = _
    rw [BitVec.toInt_eq_toNat_of_lt (by rw [h1]; omega), h1]
  have h2 : x.toBitVec.toNat &&& 255 ≤ 255 := Nat.and_le_right
  have e0 : (0 : Int32).toInt = 0 := rfl
  have e1 : (255 : Int32).toInt = 255 := rfl
  rw [Int32.le_iff_toInt_le, Int32.le_iff_toInt_le, e, e0, e1]
  omega
def szC (h : hH) : Int32 := rdI h 42 (rdI h 22 7).toNatClampNeg
def bgC (h : hH) : Int32 := rdI h 41 (rdI h 22 7).toNatClampNeg
def cbV (k : Int32) (h : hH) : Int32 := rdI h 6 (bgC h + k).toNatClampNeg &&& 255
/-- what the reading of codes looks at -/
def PB (hc hm : hH) : Prop := PO hc hm (rdI hc 22 7) ∧ BY hc hm ∧ rdI hm 192 92 = rdI hc 22 7
theorem PB.po {hc hm : hH} (h : PB hc hm) : PO hc hm (rdI hc 22 7) := h.1
theorem PB.bys {hc hm : hH} (h : PB hc hm) : BY hc hm := h.2.1
theorem PB.s_prog {hc hm : hH} (h : PB hc hm) : rdI hm 192 92 = rdI hc 22 7 := h.2.2
theorem Rm.pb {P : hH → hH → Prop} {hc hm : hH} (h : Rm P hc hm) : PB hc hm := ⟨h.po, h.bys, h.s_prog⟩
theorem PB.szB {hc hm : hH} (h : PB hc hm) : 0 ≤ szC hc ∧ szC hc ≤ 12000 := ⟨h.po.2.2.2.2.1, h.po.2.2.2.2.2.2.1⟩
theorem byteAt_T {hc hm : hH} (h : PB hc hm) {k : Int32} (h0 : 0 ≤ k) (h1 : k < szC hc) : f_Ma_byteAt k hc = some (.inr (cbV k hc, hc)) := by
  obtain ⟨p1, p2, p3, p4, p5, p6, p7, p8⟩ := h.po
  obtain ⟨b1, b2, b3, b4⟩ := h.bys
  unfold szC at h1
  unfold f_Ma_byteAt
  simp only [gd_pos (PO_vp h.po), lz]
  rw [if_neg (Int32.not_le.mpr h1), f_Ma_want_1]
  simp only [bT_inr, gd_pos (PO_vp h.po)]
  unfold f_By_u1
  rw [gd_pos (vp_lt (n := 12000) (m := 12000) (by grind) (by grind) rfl)]
  rfl
theorem byteAt_F {hc hm : hH} (h : PB hc hm) {k : Int32} (h1 : szC hc ≤ k) : f_Ma_byteAt k hc = some (.inl (failC 4 hc)) := by
  unfold szC at h1
  unfold f_Ma_byteAt
  simp only [gd_pos (PO_vp h.po), lz]
  rw [if_pos h1, f_Ma_want_0]
  rfl
theorem codeByte_T {hc hm : hH} (h : PB hc hm) {k : Int32} (h0 : 0 ≤ k) (h1 : k < szC hc) : f_Mo_codeByte k hm = some (cbV k hc) := by
  have po := h.po
  obtain ⟨p1, p2, p3, p4, p5, p6, p7, p8⟩ := h.po
  obtain ⟨b1, b2, b3, b4⟩ := h.bys
  unfold szC at h1
  unfold f_Mo_codeByte f_Mo_u1 cbV bgC
  rw [h.s_prog, gd_pos (PO_vp po), p2, b1]
  have g0 : 0 ≤ rdI hc 41 (rdI hc 22 7).toNatClampNeg + k := by grind
  have g1 : rdI hc 41 (rdI hc 22 7).toNatClampNeg + k < rdI hc 5 1 := by grind
  rw [if_neg (Int32.not_lt.mpr g0), if_neg (Int32.not_le.mpr g1), gd_pos (vp_lt (n := 12000) (m := 12000) g0 (by grind) rfl), b4 _ ((xI_lt g0 b2).mpr g1)]
  rfl
/-- the length of a code -/
theorem L_len {hc hm : hH} (h : PB hc hm) {k : Int32} (h0 : 0 ≤ k) (h1 : k < szC hc) : ∃ n, f_Mo_codeLength k hm = some n ∧ 1 ≤ n ∧ n ≤ 600 ∧ ((k + n ≤ szC hc ∧ f_Ma_lengthAt k hc = some (.inr (n, hc))) ∨ (szC hc < k + n ∧ f_Ma_lengthAt k hc = some (.inl (failC 4 hc)))) := by
  have hb := h.szB
  have hp := PO_vp h.po
  have c0 := and255 (rdI hc 6 (bgC hc + k).toNatClampNeg)
  change 0 ≤ cbV k hc ∧ cbV k hc ≤ 255 at c0
  have fin : ∀ n : Int32, 1 ≤ n → n ≤ 600 → (gd (vp_in (rdI hc 22 7) 3) <| lz (A := Int32) (if (rdI hc 42 (Int32.toNatClampNeg (rdI hc 22 7))) < (k + n) then (0 : Int32) else (1 : Int32)) fun p15 => bT (f_Ma_want p15 (4 : Int32) hc) fun _ h4 => some (Sum.inr (n, h4))) = (if k + n ≤ szC hc then some (.inr (n, hc)) else some (.inl (failC 4 hc))) := by
    intro n n1 n2
    rw [gd_pos hp]
    simp only [lz]
    change bT (f_Ma_want (if szC hc < k + n then 0 else 1) 4 hc) _ = _
    by_cases q : k + n ≤ szC hc
    · rw [if_pos q, if_neg (Int32.not_lt.mpr q), f_Ma_want_1]; rfl
    · rw [if_neg q, if_pos (Int32.not_le.mp q), f_Ma_want_0]; rfl
  have fin2 : ∀ n : Int32, 1 ≤ n → n ≤ 600 → f_Mo_codeLength k hm = some n → f_Ma_lengthAt k hc = (if k + n ≤ szC hc then some (.inr (n, hc)) else some (.inl (failC 4 hc))) → ∃ n, f_Mo_codeLength k hm = some n ∧ 1 ≤ n ∧ n ≤ 600 ∧ ((k + n ≤ szC hc ∧ f_Ma_lengthAt k hc = some (.inr (n, hc))) ∨ (szC hc < k + n ∧ f_Ma_lengthAt k hc = some (.inl (failC 4 hc)))) := by
    intro n n1 n2 e e'
    refine ⟨n, e, n1, n2, ?_⟩
    by_cases q : k + n ≤ szC hc
    · rw [if_pos q] at e'; exact Or.inl ⟨q, e'⟩
    · rw [if_neg q] at e'; exact Or.inr ⟨Int32.not_le.mp q, e'⟩
  have sz : rdI hm 221 (rdI hc 22 7).toNatClampNeg = szC hc := h.po.2.2.1
  by_cases q64 : cbV k hc = 64 ∨ cbV k hc = 65
  · by_cases q1 : szC hc ≤ k + 1
    · refine ⟨2, ?_, by decide, by decide, Or.inr ⟨by grind, ?_⟩⟩
      · unfold f_Mo_codeLength
        rw [codeByte_T h h0 h1]
        simp only [bP_some, h.s_prog, sz, gd_pos hp]
        rw [if_pos q1]
        simp only [bP_some]
        rw [if_pos q64, if_pos q1]
      · unfold f_Ma_lengthAt
        rw [byteAt_T h h0 h1]
        simp only [bT_inr]
        rcases q64 with q | q
        · rw [if_pos q, byteAt_F h q1]; rfl
        · rw [if_neg (by rw [q]; decide), if_pos q, byteAt_F h q1]; rfl
    · have q2 : k + 1 < szC hc := Int32.not_le.mp q1
      have c1 := and255 (rdI hc 6 (bgC hc + (k + 1)).toNatClampNeg)
      change 0 ≤ cbV (k + 1) hc ∧ cbV (k + 1) hc ≤ 255 at c1
      rcases q64 with q | q
      · refine fin2 (2 + cbV (k + 1) hc) (by grind) (by grind) ?_ ?_
        · unfold f_Mo_codeLength
          rw [codeByte_T h h0 h1, codeByte_T h (k := k + 1) (by grind) q2]
          simp only [bP_some, h.s_prog, sz, gd_pos hp]
          rw [if_neg q1]
          simp only [bP_some]
          rw [if_pos (Or.inl q), if_neg q1]
          simp only [lz, if_pos q]
        · unfold f_Ma_lengthAt
          rw [byteAt_T h h0 h1]
          simp only [bT_inr]
          rw [if_pos q, byteAt_T h (k := k + 1) (by grind) q2]
          simp only [bT_inr, bJT_inr]
          exact fin _ (by grind) (by grind)
      · refine fin2 (2 + 2 * cbV (k + 1) hc) (by grind) (by grind) ?_ ?_
        · unfold f_Mo_codeLength
          rw [codeByte_T h h0 h1, codeByte_T h (k := k + 1) (by grind) q2]
          simp only [bP_some, h.s_prog, sz, gd_pos hp]
          rw [if_neg q1]
          simp only [bP_some]
          rw [if_pos (Or.inr q), if_neg q1]
          simp only [lz]
          rw [if_neg (by rw [q]; decide)]
        · unfold f_Ma_lengthAt
          rw [byteAt_T h h0 h1]
          simp only [bT_inr]
          rw [if_neg (by rw [q]; decide), if_pos q, byteAt_T h (k := k + 1) (by grind) q2]
          simp only [bT_inr, bJT_inr]
          exact fin _ (by grind) (by grind)
  · have q64' : ¬ cbV k hc = 64 := fun q => q64 (Or.inl q)
    have q65' : ¬ cbV k hc = 65 := fun q => q64 (Or.inr q)
    have em : f_Mo_codeLength k hm = (if (cbV k hc < 176 ∨ 183 < cbV k hc) then (if cbV k hc < 184 then some 1 else if 191 < cbV k hc then some 1 else some (1 + 2 * (cbV k hc - 183))) else some (cbV k hc - 174)) := by
      unfold f_Mo_codeLength
      rw [codeByte_T h h0 h1]
      simp only [bP_some, h.s_prog, sz, gd_pos hp]
      by_cases q1 : szC hc ≤ k + 1
      · rw [if_pos q1]
        simp only [bP_some]
        rw [if_neg q64]
      · rw [if_neg q1, codeByte_T h (k := k + 1) (by grind) (Int32.not_le.mp q1)]
        simp only [bP_some]
        rw [if_neg q64]
    have ec : ∀ n : Int32, 1 ≤ n → n ≤ 600 → (if (cbV k hc < 176 ∨ 184 ≤ cbV k hc) then (if cbV k hc < 184 then some (Sum.inr ((1 : Int32), hc)) else if 192 ≤ cbV k hc then some (.inr ((1 : Int32), hc)) else some (.inr ((1 : Int32) + 2 * (cbV k hc - 183), hc))) else some (.inr (cbV k hc - 174, hc))) = (some (.inr (n, hc)) : Option (hH ⊕ (Int32 × hH))) → f_Ma_lengthAt k hc = (if k + n ≤ szC hc then some (.inr (n, hc)) else some (.inl (failC 4 hc))) := by
      intro n n1 n2 e
      unfold f_Ma_lengthAt
      rw [byteAt_T h h0 h1]
      simp only [bT_inr]
      rw [if_neg q64', if_neg q65', e]
      simp only [bJT_inr]
      exact fin n n1 n2
    by_cases a1 : cbV k hc < 176
    · refine fin2 1 (by decide) (by decide) ?_ (ec 1 (by decide) (by decide) ?_)
      · rw [em, if_pos (Or.inl a1), if_pos (by grind)]
      · rw [if_pos (Or.inl a1), if_pos (by grind)]
    · by_cases a2 : cbV k hc < 184
      · refine fin2 (cbV k hc - 174) (by grind) (by grind) ?_ (ec _ (by grind) (by grind) ?_)
        · rw [em, if_neg (by grind)]
        · rw [if_neg (by grind)]
      · by_cases a3 : cbV k hc < 192
        · refine fin2 (1 + 2 * (cbV k hc - 183)) (by grind) (by grind) ?_ (ec _ (by grind) (by grind) ?_)
          · rw [em, if_pos (by grind), if_neg a2, if_neg (by grind)]
          · rw [if_pos (by grind), if_neg a2, if_neg (by grind)]
        · refine fin2 1 (by decide) (by decide) ?_ (ec 1 (by decide) (by decide) ?_)
          · rw [em, if_pos (by grind), if_neg a2, if_pos (by grind)]
          · rw [if_pos (by grind), if_neg a2, if_pos (by grind)]
