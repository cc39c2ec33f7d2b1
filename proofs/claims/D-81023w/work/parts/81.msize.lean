/-! LAYER 3Q: the model's start of a size -/
theorem tableOf_loc {h g : hH} {t : Int32} (e5 : rdI g 192 5 = rdI h 192 5) (e : ∀ k, rdI g 195 k = rdI h 195 k) : f_Mo_tableOf t g = f_Mo_tableOf t h := by
  unfold f_Mo_tableOf
  simp only [e5, e]
theorem beginOf_loc {h g : hH} {t : Int32} (e5 : rdI g 192 5 = rdI h 192 5) (e : ∀ k, rdI g 195 k = rdI h 195 k) (l : ∀ k, rdL g 197 k = rdL h 197 k) : f_Mo_beginOf t g = f_Mo_beginOf t h := by
  unfold f_Mo_beginOf
  simp only [tableOf_loc e5 e, l]
theorem lengthOf_loc {h g : hH} {t : Int32} (e5 : rdI g 192 5 = rdI h 192 5) (e : ∀ k, rdI g 195 k = rdI h 195 k) (l : ∀ k, rdL g 198 k = rdL h 198 k) : f_Mo_lengthOf t g = f_Mo_lengthOf t h := by
  unfold f_Mo_lengthOf
  simp only [tableOf_loc e5 e, l]
def fil7 (h : hH) (n : Nat) : hH := flI (flI (flI (flI (flI (flI (flI h 222 n (fun _ => -1)) 211 n (fun _ => 0)) 212 n (fun _ => 0)) 213 n (fun _ => 0)) 214 n (fun _ => 0)) 215 n (fun _ => 0)) 216 n (fun _ => 0)
theorem Msz1 {h : hH} : wh (A := (Int32 × hH)) (B := hH) (fun p2 =>
        if (64 : Int32) ≤ p2.1 then (
          some (.inr p2.2)
        ) else (
          gd (vp_in p2.1 64) <|
          gd (vp_in p2.1 64) <|
          bS (f_Mo_put p2.1 (0 : Int64) (0 : Int64) (wrI (wrI p2.2 222 (Int32.toNatClampNeg p2.1) (-1 : Int32)) 211 (Int32.toNatClampNeg p2.1) (0 : Int32))) fun _ h11 =>
          gd (vp_in p2.1 204) <|
          some (.inl (p2.1 + (1 : Int32), wrI h11 216 (Int32.toNatClampNeg p2.1) (0 : Int32)))
        )
    ) ((0 : Int32), h) = some (fil7 h 64) := by
  have z0 : fil7 h 0 = h := by unfold fil7; rw [flI_0, flI_0, flI_0, flI_0, flI_0, flI_0, flI_0]
  refine wh_fill (n := 64) (by decide) (fun i => fil7 h i) z0 ?_ ?_
  · dsimp only
    rw [if_pos (by decide)]
    rfl
  · intro i i0 i1
    have v : vp_in i 64 := vp_lt (n := 64) (m := 64) i0 i1 rfl
    have v2 : vp_in i 204 := vp_lt (n := 204) (m := 204) i0 (by grind) rfl
    have zz : Int64.toInt32 0 = 0 := by decide
    dsimp only
    rw [if_neg (Int32.not_le.mpr i1), gd_pos v, gd_pos v, f_Mo_put_eq v2]
    simp only [bS_some, gd_pos v2, zz]
    unfold putM fil7
    rw [flI_c (by decide), flI_c (by decide), flI_c (by decide), flI_c (by decide), flI_c (by decide), flI_c (by decide), flI_s' rfl]
    rw [flI_c (by decide), flI_c (by decide), flI_c (by decide), flI_c (by decide), flI_c (by decide), flI_s' rfl]
    rw [flI_c (by decide), flI_c (by decide), flI_c (by decide), flI_c (by decide), flI_s' rfl]
    rw [flI_c (by decide), flI_c (by decide), flI_c (by decide), flI_s' rfl]
    rw [flI_c (by decide), flI_c (by decide), flI_s' rfl]
    rw [flI_c (by decide), flI_s' rfl, flI_s' rfl]
noncomputable def cvM (n : Int32) (hc : hH) (k : Nat) : Int32 := if k < (rdI hc 4 26).toNatClampNeg then cvV n hc k else 0
theorem Msz2 {hc X : hH} {n : Int32} (hb : BY hc X) (e25 : rdI X 192 25 = rdI hc 4 26) (hN : 0 ≤ rdI hc 4 26 ∧ rdI hc 4 26 ≤ 256) (bo : f_Mo_beginOf 1668707360 X = some (rdI hc 4 25)) (e62 : rdI X 192 62 = n) (e10 : rdI X 192 10 = rdI hc 4 6) (hu : 16 ≤ rdI hc 4 6) (c0 : 0 ≤ rdI hc 4 25) (c1 : rdI hc 4 25 ≤ 12000) (c2 : rdI hc 4 25 + 2 * rdI hc 4 26 ≤ rdI hc 5 1) : wh (A := (Int32 × hH)) (B := hH) (fun p9 =>
        if (256 : Int32) ≤ p9.1 then (
          some (.inr p9.2)
        ) else (
          gd (vp_in p9.1 256) <|
          bP (A := Int32) (
            if (rdI (wrI p9.2 224 (Int32.toNatClampNeg p9.1) (-1 : Int32)) 192 25) ≤ p9.1 then (
              some (0 : Int32)
            ) else (
              bP (f_Mo_beginOf (1668707360 : Int32) (wrI p9.2 224 (Int32.toNatClampNeg p9.1) (-1 : Int32))) fun a13 =>
              bP (f_Mo_s2 (a13 + ((2 : Int32) * p9.1)) (wrI p9.2 224 (Int32.toNatClampNeg p9.1) (-1 : Int32))) fun a14 =>
              bP (f_Mo_scaled (Int32.toInt64 a14) (wrI p9.2 224 (Int32.toNatClampNeg p9.1) (-1 : Int32))) fun a15 =>
              some a15
            )
          ) fun p12 =>
          gd (vp_in p9.1 256) <|
          some (.inl (p9.1 + (1 : Int32), wrI (wrI p9.2 224 (Int32.toNatClampNeg p9.1) (-1 : Int32)) 210 (Int32.toNatClampNeg p9.1) p12))
        )
    ) ((0 : Int32), X) = some (flI (flI X 224 256 (fun _ => -1)) 210 256 (cvM n hc)) := by
  have b3 := hb.2.2.1
  refine wh_fill (n := 256) (by decide) (fun i => flI (flI X 224 i (fun _ => -1)) 210 i (cvM n hc)) (by rw [flI_0, flI_0]) ?_ ?_
  · dsimp only
    rw [if_pos (by decide)]
    rfl
  · intro i i0 i1
    have v : vp_in i 256 := vp_lt (n := 256) (m := 256) i0 i1 rfl
    have r : ∀ j o k, o ≠ 210 → o ≠ 224 → rdI (wrI (flI (flI X 224 j (fun _ => -1)) 210 j (cvM n hc)) 224 j (-1)) o k = rdI X o k := fun j o k h1 h2 => by
      rw [rdI_o h2, rdI_flI, if_neg (fun q => h1 q.1), rdI_flI, if_neg (fun q => h2 q.1)]
    have bo' : f_Mo_beginOf 1668707360 (wrI (flI (flI X 224 i.toNatClampNeg (fun _ => -1)) 210 i.toNatClampNeg (cvM n hc)) 224 i.toNatClampNeg (-1)) = some (rdI hc 4 25) := by
      rw [← bo]
      exact beginOf_loc (r _ _ _ (by decide) (by decide)) (fun k => r _ _ _ (by decide) (by decide)) (fun k => rfl)
    have hb' : BY hc (wrI (flI (flI X 224 i.toNatClampNeg (fun _ => -1)) 210 i.toNatClampNeg (cvM n hc)) 224 i.toNatClampNeg (-1)) := by
      refine ⟨(r _ _ _ (by decide) (by decide)).trans hb.1, hb.2.1, hb.2.2.1, fun k hk => (r _ _ _ (by decide) (by decide)).trans (hb.2.2.2 k hk)⟩
    have es : wrI (wrI (flI (flI X 224 i.toNatClampNeg (fun _ => -1)) 210 i.toNatClampNeg (cvM n hc)) 224 i.toNatClampNeg (-1)) 210 i.toNatClampNeg (cvM n hc i.toNatClampNeg) = flI (flI X 224 (i.toNatClampNeg + 1) (fun _ => -1)) 210 (i.toNatClampNeg + 1) (cvM n hc) := by
      rw [flI_c (by decide), flI_s' (v := fun _ => -1) rfl, flI_s]
    have ne : ¬ (rdI hc 4 6).toInt64 = 0 := toL_ne (by grind)
    dsimp only
    rw [if_neg (Int32.not_le.mpr i1), gd_pos v, r _ 192 25 (by decide) (by decide), e25]
    by_cases q : rdI hc 4 26 ≤ i
    · have ec : cvM n hc i.toNatClampNeg = 0 := by
        unfold cvM
        rw [if_neg]
        intro w
        have := (xI_lt i0 hN.1).mp w
        grind
      rw [ec] at es
      rw [if_pos q]
      simp only [bP_some, gd_pos v]
      rw [es]
    · have lt := Int32.not_le.mp q
      have ec : cvM n hc i.toNatClampNeg = cvV n hc i.toNatClampNeg := by
        unfold cvM
        rw [if_pos ((xI_lt i0 hN.1).mpr lt)]
      rw [ec] at es
      rw [if_neg q, bo']
      simp only [bP_some]
      rw [Mo_s2_eq hb' (by grind) (by grind) (by grind), xI_two c0 c1 i0 (by grind)]
      unfold f_Mo_scaled
      simp only [bP_some]
      rw [r _ 192 62 (by decide) (by decide), r _ 192 10 (by decide) (by decide), e62, e10, f_Mo_over_eq ne (toL_small _)]
      simp only [bP_some, gd_pos v]
      exact congrArg (fun g => some (Sum.inl (i + 1, g))) es
def setM (h : hH) : hH := wrI (wrI (wrI (wrI (wrI (wrI (wrI (wrI (wrI h 192 80 68) 192 81 0) 192 82 0) 192 83 64) 192 84 1) 192 85 9) 192 86 3) 192 87 0) 192 88 0
def size0 (n : Int32) (h : hH) : hH := wrI (wrI (wrI (wrI (wrI (wrI (wrI (wrI h 192 62 n) 192 108 0) 192 107 0) 192 59 0) 192 58 0) 192 52 0) 192 53 0) 192 98 0
noncomputable def sizeM (n : Int32) (hc hm : hH) : hH := setM (flI (flI (fil7 (size0 n hm) 64) 224 256 (fun _ => -1)) 210 256 (cvM n hc))
