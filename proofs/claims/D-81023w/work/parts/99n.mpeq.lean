/-! LAYER 3AV: the model's joining is an explicit heap -/
def foM (h : hH) (e : Int32) : hH := wrI (wrI h 192 59 e) 192 60 (-1)
theorem fo_eq {h : hH} {e : Int32} (f : rdI h 192 59 = 0) : f_Mo_failOutside e h = some ((), foM h e) := by
  unfold f_Mo_failOutside
  rw [if_pos f]
  rfl
noncomputable def mJX (h : hH) (d J : Nat) : hH := mj1 h d (rdI h 236 d).toNatClampNeg (rdI h 207 (4 * J)) (rdI h 207 (4 * J + 1)) (rdI h 207 (4 * J + 2)) (rdI h 207 (4 * J + 3)) (rdI h 236 (d + 1)).toNatClampNeg
noncomputable def mJD (hc h : hH) (d J : Nat) : Int32 × Int32 := if rdI h 203 J &&& 2 = 0 then (rdI (mJX h d J) 238 (102 * d + (rdI h 205 J).toNatClampNeg) - rdI (mJX h d J) 238 (102 * d + (rdI h 236 d).toNatClampNeg + (rdI h 206 J).toNatClampNeg), rdI (mJX h d J) 239 (102 * d + (rdI h 205 J).toNatClampNeg) - rdI (mJX h d J) 239 (102 * d + (rdI h 236 d).toNatClampNeg + (rdI h 206 J).toNatClampNeg)) else (jrd (rdI h 203 J) (scV (rdI h 205 J).toInt64 hc), jrd (rdI h 203 J) (scV (rdI h 206 J).toInt64 hc))
noncomputable def mJY (hc h : hH) (d J : Nat) : hH := mj2 (mJX h d J) d (rdI h 236 d).toNatClampNeg (mJD hc h d J).1 (mJD hc h d J).2 (rdI h 236 (d + 1)).toNatClampNeg
noncomputable def mJW (hc h : hH) (d J : Nat) : hH := mj3 (mJY hc h d J) d (rdI h 237 d).toNatClampNeg (rdI h 236 d) (rdI h 237 (d + 1)).toNatClampNeg
noncomputable def mJU (hc h : hH) (d J : Nat) : hH := wrI (wrI (mJW hc h d J) 236 d (rdI h 236 d + rdI h 236 (d + 1))) 237 d (rdI h 237 d + rdI h 237 (d + 1))
noncomputable def mJF (hc h : hH) (d J : Nat) : hH := if rdI h 203 J &&& 512 = 0 then mJU hc h d J else mj4 (mJU hc h d J) d 4
theorem mJX_o {h : hH} {d J o k : Nat} (h1 : o ≠ 238) (h2 : o ≠ 239) (h3 : o ≠ 240) : rdI (mJX h d J) o k = rdI h o k := by
  unfold mJX mj1
  exact mt3_o h1 h2 h3
theorem mJY_o {hc h : hH} {d J o k : Nat} (h1 : o ≠ 238) (h2 : o ≠ 239) (h3 : o ≠ 240) : rdI (mJY hc h d J) o k = rdI h o k := by
  unfold mJY mj2
  exact (mt2_o h1 h2).trans (mJX_o h1 h2 h3)
theorem mJW_o {hc h : hH} {d J o k : Nat} (h1 : o ≠ 238) (h2 : o ≠ 239) (h3 : o ≠ 240) (h4 : o ≠ 241) : rdI (mJW hc h d J) o k = rdI h o k := by
  unfold mJW mj3
  exact (rdI_mo h4).trans (mJY_o h1 h2 h3)
noncomputable def mK2 (x2 v5 v7 v9 : Int32) (p26 : hH) : Option ((Int32 × Int32) ⊕ (Unit × hH)) :=
  if ((rdI p26 203 (Int32.toNatClampNeg x2)) &&& (2 : Int32)) = 0 then (
    gd (vp_in x2 8) <|
    cO (
      if (rdI p26 205 (Int32.toNatClampNeg x2)) < 0 then (
        some true
      ) else (
        gd (vp_in x2 8) <|
        cO (
          if v7 ≤ (rdI p26 205 (Int32.toNatClampNeg x2)) then (
            some true
          ) else (
            gd (vp_in x2 8) <|
            cO (
              if (rdI p26 206 (Int32.toNatClampNeg x2)) < 0 then (
                some true
              ) else (
                gd (vp_in x2 8) <|
                if (rdI p26 206 (Int32.toNatClampNeg x2)) < v9 then (
                  some false
                ) else (
                  some true
                )
              )
            ) (
              some true
            ) (
              some false
            )
          )
        ) (
          some true
        ) (
          some false
        )
      )
    ) (
      bS (f_Mo_failOutside (5 : Int32) p26) fun _ h9 =>
      some (.inr ((), h9))
    ) (
      gd (vp_in x2 8 ∧ vp_in (v5 + (rdI p26 205 (Int32.toNatClampNeg x2))) 612 ∧ vp_in ((v5 + v7) + (rdI p26 206 (Int32.toNatClampNeg x2))) 612) <|
      lz (A := Int32) ((rdI p26 238 (Int32.toNatClampNeg (v5 + (rdI p26 205 (Int32.toNatClampNeg x2))))) - (rdI p26 238 (Int32.toNatClampNeg ((v5 + v7) + (rdI p26 206 (Int32.toNatClampNeg x2)))))) fun v77 =>
      gd (vp_in x2 8 ∧ vp_in (v5 + (rdI p26 205 (Int32.toNatClampNeg x2))) 612 ∧ vp_in ((v5 + v7) + (rdI p26 206 (Int32.toNatClampNeg x2))) 612) <|
      lz (A := Int32) ((rdI p26 239 (Int32.toNatClampNeg (v5 + (rdI p26 205 (Int32.toNatClampNeg x2))))) - (rdI p26 239 (Int32.toNatClampNeg ((v5 + v7) + (rdI p26 206 (Int32.toNatClampNeg x2)))))) fun v79 =>
      some (.inl (v77, v79))
    )
  ) else (
    gd (vp_in x2 8) <|
    bP (f_Mo_scaled (Int32.toInt64 (rdI p26 205 (Int32.toNatClampNeg x2))) p26) fun a82 =>
    gd (vp_in x2 8) <|
    bP (f_Mo_scaled (Int32.toInt64 (rdI p26 206 (Int32.toNatClampNeg x2))) p26) fun a84 =>
    gd (vp_in x2 8) <|
    bP (A := Int32) (
      if ((rdI p26 203 (Int32.toNatClampNeg x2)) &&& (4 : Int32)) = 0 then (
        some a82
      ) else (
        bP (f_Mo_toPixel (Int32.toInt64 a82)) fun a87 =>
        some a87
      )
    ) fun p86 =>
    gd (vp_in x2 8) <|
    bP (A := Int32) (
      if ((rdI p26 203 (Int32.toNatClampNeg x2)) &&& (4 : Int32)) = 0 then (
        some a84
      ) else (
        bP (f_Mo_toPixel (Int32.toInt64 a84)) fun a91 =>
        some a91
      )
    ) fun p90 =>
    some (.inl (p86, p90))
  )
theorem mK2_eq {hc h : hH} {x j : Int32} (x0 : 0 ≤ x ∧ x ≤ 4) (hj : 0 ≤ j ∧ j < 8) (hu : 16 ≤ rdI hc 4 6) (e1 : rdI h 192 62 = rdI hc 22 4) (e2 : rdI h 192 10 = rdI hc 4 6) (f0 : rdI h 192 59 = 0) (n0 : 0 ≤ rdI h 236 x.toNatClampNeg ∧ rdI h 236 x.toNatClampNeg ≤ 100) (n1 : 0 ≤ rdI h 236 (x.toNatClampNeg + 1) ∧ rdI h 236 (x.toNatClampNeg + 1) ≤ 100) (hs : rdI h 236 x.toNatClampNeg + rdI h 236 (x.toNatClampNeg + 1) ≤ 100) (ha : rdI h 203 j.toNatClampNeg &&& 2 = 0 → 0 ≤ rdI h 205 j.toNatClampNeg ∧ 0 ≤ rdI h 206 j.toNatClampNeg) : mK2 j (102 * x) (rdI h 236 x.toNatClampNeg) (rdI h 236 (x.toNatClampNeg + 1)) (mJX h x.toNatClampNeg j.toNatClampNeg) = if rdI h 203 j.toNatClampNeg &&& 2 = 0 ∧ (rdI h 236 x.toNatClampNeg ≤ rdI h 205 j.toNatClampNeg ∨ rdI h 236 (x.toNatClampNeg + 1) ≤ rdI h 206 j.toNatClampNeg) then some (.inr ((), foM (mJX h x.toNatClampNeg j.toNatClampNeg) 5)) else some (.inl (mJD hc h x.toNatClampNeg j.toNatClampNeg)) := by
  have v8 : vp_in j 8 := vp_lt (n := 8) (m := 8) hj.1 hj.2 rfl
  generalize hJ : j.toNatClampNeg = J at ha ⊢
  generalize hD : x.toNatClampNeg = d at n0 n1 hs ⊢
  unfold mJD
  generalize hX : mJX h d J = X
  have Xo : ∀ o k, o ≠ 238 → o ≠ 239 → o ≠ 240 → rdI X o k = rdI h o k := fun o k a b c => by rw [← hX]; exact mJX_o a b c
  unfold mK2
  rw [hJ, Xo 203 _ (by decide) (by decide) (by decide), Xo 205 _ (by decide) (by decide) (by decide), Xo 206 _ (by decide) (by decide) (by decide)]
  generalize rdI h 203 J = f at ha ⊢
  generalize rdI h 205 J = a at ha ⊢
  generalize rdI h 206 J = b at ha ⊢
  generalize rdI h 236 d = n at n0 hs ⊢
  generalize rdI h 236 (d + 1) = n' at n1 hs ⊢
  by_cases q : f &&& 2 = 0
  · obtain ⟨a0, b0⟩ := ha q
    rw [if_pos q, if_pos q, gd_pos v8, if_neg (Int32.not_lt.mpr a0), gd_pos v8, if_neg (Int32.not_lt.mpr b0), gd_pos v8, gd_pos v8, fo_eq ((Xo 192 59 (by decide) (by decide) (by decide)).trans f0)]
    by_cases w1 : n ≤ a
    · rw [if_pos w1, if_pos ⟨q, Or.inl w1⟩]
      rfl
    · rw [if_neg w1]
      by_cases w2 : n' ≤ b
      · rw [if_neg (Int32.not_lt.mpr w2), if_pos ⟨q, Or.inr w2⟩]
        rfl
      · rw [if_pos (Int32.not_le.mp w2), if_neg (fun w => w.2.elim w1 w2)]
        obtain ⟨⟨i1, v1⟩, _⟩ := xI_6 (x := x) (v := n) (i := b) x0.1 x0.2 n0.1 b0 (by grind) (by grind) (by grind)
        obtain ⟨i2, c2, c3⟩ := xI_k (c := 102) (C := 102) (x := x) (i := a) (by decide) x0.1 (by grind) a0 (by grind)
        have v2 : vp_in (102 * x + a) 612 := vp_lt (n := 612) (m := 612) c2 (by grind) rfl
        rw [hD] at i1 i2
        simp only [cO_t, cO_f]
        rw [gd_pos ⟨v8, v2, v1⟩, lz_eq, gd_pos ⟨v8, v2, v1⟩, lz_eq, i1, i2]
  · have X62 : rdI X 192 62 = rdI hc 22 4 := (Xo 192 62 (by decide) (by decide) (by decide)).trans e1
    have X10 : rdI X 192 10 = rdI hc 4 6 := (Xo 192 10 (by decide) (by decide) (by decide)).trans e2
    rw [if_neg q, if_neg q, if_neg (fun w => q w.1), gd_pos v8, sc_M hu X62 X10, bP_some, gd_pos v8, sc_M hu X62 X10, bP_some, gd_pos v8, sn_M, sn_M, bP_some, bP_some]
    unfold jrd
    by_cases w : f &&& 4 = 0
    · rw [if_pos w, if_pos w, if_pos w, if_pos w, bP_some, gd_pos v8]
      rfl
    · rw [if_neg w, if_neg w, if_neg w, if_neg w, bP_some, gd_pos v8]
      rfl
