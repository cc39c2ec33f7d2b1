/-! LAYER 3BF: how the making of a glyph starts, on both sides -/
noncomputable def bkL (rec : Int32 → Int32 → hH → Option (hH ⊕ (Nat × hH))) (x2 : Int32) (z o : Nat) (p18 : Int32 × hH) : Option (hH ⊕ ((Int32 × hH) ⊕ hH)) :=
  if (rdI p18.2 z 9) ≤ p18.1 then (
    some (.inr (.inr p18.2))
  ) else (
    lz (A := Int32) (if (60 : Int32) ≤ (rdI p18.2 56 5) then (0 : Int32) else (1 : Int32)) fun p20 =>
    bT (f_Mk_want p20 (12 : Int32) p18.2) fun _ h8 =>
    lz (wrI h8 56 5 ((rdI h8 56 5) + (1 : Int32))) fun h9 =>
    gd (vp_in p18.1 8) <|
    bT (rec (rdI h9 (rf z 11) (Int32.toNatClampNeg p18.1)) (x2 + (1 : Int32)) h9) fun a23 h10 =>
    gd (isA 9 a23) <|
    bT (f_Mk_join z p18.1 o a23 h10) fun _ h11 =>
    lz (A := Int32) (p18.1 + (1 : Int32)) fun v25 =>
    some (.inr (.inl (v25, h11)))
  )
noncomputable def bkE (z o : Nat) (p19 : hH) : Option (hH ⊕ (Nat × hH)) :=
  bP (f_Ou_isWithin o (1000000 : Int32) p19) fun a27 =>
  bT (f_Mk_want a27 (13 : Int32) p19) fun _ h12 =>
  lz (wrI h12 56 6 (rdI h12 67 7)) fun h13 =>
  lz (wrI h13 56 7 (rdI h13 67 8)) fun h14 =>
  if (rdI h14 z 8) ≤ 0 then (
    some (.inr (o, h14))
  ) else (
    bT (f_Mk_work z o h14) fun _ h15 =>
    lz (wrI h15 56 6 (rdI h15 33 7)) fun h16 =>
    lz (wrI h16 56 7 (rdI h16 33 8)) fun h17 =>
    some (.inr (o, h17))
  )
noncomputable def bkS (rec : Int32 → Int32 → hH → Option (hH ⊕ (Nat × hH))) (x1 x2 : Int32) (z o : Nat) (a3 : Int32) (h1 : hH) : Option (hH ⊕ (Nat × hH)) :=
  bP (f_Fo_sizeOf x1 h1) fun a4 =>
  lz (A := Int32) (if a4 ≤ 0 then (0 : Int32) else (if a3 = 0 then (0 : Int32) else (1 : Int32))) fun p5 =>
  gd (isA 9 o) <|
  bS (f_Ou_clear o h1) fun _ h2 =>
  bJT (P := Int64) (
    if p5 = 0 then (
      bP (f_Fo_bearing x1 h2) fun a10 =>
      some (.inr (-(Int32.toInt64 a10)))
    ) else (
      bP (f_Fo_bearing x1 h2) fun a11 =>
      some (.inr ((Int32.toInt64 (rdI h2 z 1)) - (Int32.toInt64 a11)))
    )
  ) fun p9 =>
  bP (f_Ma_scaled p9 h2) fun a13 =>
  lz (wrI h2 (rf o 6) 0 a13) fun h3 =>
  bP (f_Fo_advance x1 h3) fun a14 =>
  bP (f_Ma_scaled (p9 + (Int32.toInt64 a14)) h3) fun a15 =>
  lz (wrI h3 (rf o 6) 1 a15) fun h4 =>
  lz (wrI h4 (rf o 7) 0 (0 : Int32)) fun h5 =>
  lz (wrI h5 (rf o 7) 1 (0 : Int32)) fun h6 =>
  bJT (P := hH) (
    if (rdI h6 z 9) = 0 then (
      bS (f_Mk_simple z o h6) fun _ h7 =>
      some (.inr h7)
    ) else (
      some (.inr h6)
    )
  ) fun p16 =>
  bJT (P := hH) (whT (bkL rec x2 z o) ((0 : Int32), p16)) fun p19 =>
  bkE z o p19
theorem build_eq0 {rec : Int32 → Int32 → hH → Option (hH ⊕ (Nat × hH))} {x1 x2 : Int32} {h : hH} : fb_Mk_build rec x1 x2 h = (gd (vp_in x2 6) <| gd (isA 3 (rf 69 (Int32.toNatClampNeg x2))) <| bS (f_Fo_read x1 (rf 69 (Int32.toNatClampNeg x2)) h) fun a3 h1 => bkS rec x1 x2 (rf 69 (Int32.toNatClampNeg x2)) (rf 68 (Int32.toNatClampNeg x2)) a3 h1) := rfl
def bdC (d : Nat) (y : hH) : hH := wrI (wrI y (70 + 17 * d) 3 0) (70 + 17 * d) 5 0
def bdQ (d : Nat) (y : hH) (s1 s2 : Int32) : hH := wrI (wrI (wrI (wrI (bdC d y) (75 + 17 * d) 0 s1) (75 + 17 * d) 1 s2) (76 + 17 * d) 0 0) (76 + 17 * d) 1 0
noncomputable def bdS (d : Nat) (y : hH) (s1 s2 : Int32) : hH := if rdI y (77 + 17 * d) 9 = 0 then smpC d (bdQ d y s1 s2) else bdQ d y s1 s2
theorem bdC_o {d o k : Nat} {y : hH} (ho : o ≠ 70 + 17 * d) : rdI (bdC d y) o k = rdI y o k := by
  unfold bdC
  rw [rdI_o ho, rdI_o ho]
theorem bdQ_o {d o k : Nat} {y : hH} {s1 s2 : Int32} (ho : o ≠ 70 + 17 * d) (h1 : o ≠ 75 + 17 * d) (h2 : o ≠ 76 + 17 * d) : rdI (bdQ d y s1 s2) o k = rdI y o k := by
  unfold bdQ
  rw [rdI_o h2, rdI_o h2, rdI_o h1, rdI_o h1, bdC_o ho]
theorem bdQ_0 {d : Nat} {y : hH} {s1 s2 : Int32} : rdI (bdQ d y s1 s2) (70 + 17 * d) 3 = 0 ∧ rdI (bdQ d y s1 s2) (70 + 17 * d) 5 = 0 ∧ rdI (bdQ d y s1 s2) (75 + 17 * d) 0 = s1 ∧ rdI (bdQ d y s1 s2) (75 + 17 * d) 1 = s2 ∧ rdI (bdQ d y s1 s2) (76 + 17 * d) 0 = 0 ∧ rdI (bdQ d y s1 s2) (76 + 17 * d) 1 = 0 := by
  unfold bdQ bdC
  refine ⟨?_, ?_, ?_, ?_, ?_, ?_⟩
  · rw [rdI_o (by omega), rdI_o (by omega), rdI_o (by omega), rdI_o (by omega), rdI_wrI, if_neg (by omega), rdI_wrI, if_pos ⟨rfl, rfl⟩]
  · rw [rdI_o (by omega), rdI_o (by omega), rdI_o (by omega), rdI_o (by omega), rdI_wrI, if_pos ⟨rfl, rfl⟩]
  · rw [rdI_o (by omega), rdI_o (by omega), rdI_wrI, if_neg (by omega), rdI_wrI, if_pos ⟨rfl, rfl⟩]
  · rw [rdI_o (by omega), rdI_o (by omega), rdI_wrI, if_pos ⟨rfl, rfl⟩]
  · rw [rdI_wrI, if_neg (by omega), rdI_wrI, if_pos ⟨rfl, rfl⟩]
  · rw [rdI_wrI, if_pos ⟨rfl, rfl⟩]
theorem CT_w {h : hH} {o k : Nat} {v : Int32} (ho : 6 < o) : CT h (wrI h o k v) := ⟨fun _ => rdI_o (by omega), fun _ => rdI_o (by omega), fun _ => rdI_o (by omega)⟩
theorem bkS_eq {rec : Int32 → Int32 → hH → Option (hH ⊕ (Nat × hH))} {d : Nat} {g x s v w l : Int32} {y : hH} (hd : d < 6) (hu : 16 ≤ rdI y 4 6) (sz : f_Fo_sizeOf g y = some s) (be : f_Fo_bearing g y = some v) (ad : f_Fo_advance g y = some w) (lf : rdI y (77 + 17 * d) 1 = l) (sl : s ≤ 0 → l = 0) (sm : rdI y (77 + 17 * d) 9 = 0 → (0 ≤ rdI y (77 + 17 * d) 2 ∧ rdI y (77 + 17 * d) 2 ≤ 100) ∧ (0 ≤ rdI y (77 + 17 * d) 0 ∧ rdI y (77 + 17 * d) 0 ≤ 12)) : bkS rec g x (77 + 17 * d) (70 + 17 * d) 1 y = bJT (P := hH) (whT (bkL rec x (77 + 17 * d) (70 + 17 * d)) ((0 : Int32), bdS d y (scV (l.toInt64 - v.toInt64) y) (scV (l.toInt64 - v.toInt64 + w.toInt64) y))) fun p19 => bkE (77 + 17 * d) (70 + 17 * d) p19 := by
  obtain ⟨_, ⟨_, _, _, _, r6, r7⟩, _, _, iA, _⟩ := od_rf hd
  have n10 : ¬ (1 : Int32) = 0 := by decide
  unfold bkS
  rw [sz, bP_some, lz_eq, gd_pos iA]
  have cl : f_Ou_clear (70 + 17 * d) y = some ((), bdC d y) := rfl
  rw [cl, bS_some, r6, r7]
  have c2 : CT y (bdC d y) := CT_t (CT_w (by omega)) (CT_w (by omega))
  rw [CT_bearing c2, be, bP_some, bP_some, bdC_o (by omega), lf]
  have e9 : (if (if s ≤ 0 then (0 : Int32) else (if (1 : Int32) = 0 then (0 : Int32) else (1 : Int32))) = 0 then (some (.inr (-(Int32.toInt64 v))) : Option (hH ⊕ Int64)) else some (.inr (l.toInt64 - v.toInt64))) = some (.inr (l.toInt64 - v.toInt64)) := by
    by_cases q : s ≤ 0
    · rw [if_pos q, if_pos rfl, sl q]
      refine congrArg (fun t : Int64 => (some (.inr t) : Option (hH ⊕ Int64))) ?_
      show -v.toInt64 = 0 - v.toInt64
      grind
    · rw [if_neg q, if_neg n10, if_neg n10]
  rw [e9, bJT_inr, sc_C (by rw [bdC_o (by omega)]; exact hu), bP_some, lz_eq]
  generalize hA : wrI (bdC d y) (75 + 17 * d) 0 (scV (l.toInt64 - v.toInt64) (bdC d y)) = A
  have cA : CT y A := by rw [← hA]; exact CT_t c2 (CT_w (by omega))
  have A22 : rdI A 22 4 = rdI y 22 4 := by rw [← hA, rdI_o (by omega), bdC_o (by omega)]
  rw [CT_advance cA, ad, bP_some, sc_C (by rw [cA.1]; exact hu), bP_some, lz_eq, lz_eq, lz_eq, scV_loc A22 (cA.1 6)]
  have eQ : wrI (wrI (wrI A (75 + 17 * d) 1 (scV (l.toInt64 - v.toInt64 + w.toInt64) y)) (76 + 17 * d) 0 0) (76 + 17 * d) 1 0 = bdQ d y (scV (l.toInt64 - v.toInt64) y) (scV (l.toInt64 - v.toInt64 + w.toInt64) y) := by
    rw [← hA, scV_loc (bdC_o (by omega)) (bdC_o (by omega))]
    rfl
  rw [eQ]
  generalize scV (l.toInt64 - v.toInt64) y = s1
  generalize scV (l.toInt64 - v.toInt64 + w.toInt64) y = s2
  have Q : ∀ k, rdI (bdQ d y s1 s2) (77 + 17 * d) k = rdI y (77 + 17 * d) k := fun k => bdQ_o (by omega) (by omega) (by omega)
  rw [Q]
  unfold bdS
  by_cases q : rdI y (77 + 17 * d) 9 = 0
  · rw [if_pos q, if_pos q, Mk_simple_eq hd (by rw [bdQ_o (by omega) (by omega) (by omega)]; exact hu) (by rw [Q]; exact (sm q).1) (by rw [Q]; exact (sm q).2), bS_some, bJT_inr]
  · rw [if_neg q, if_neg q, bJT_inr]
noncomputable def mgL (rec : Int32 → Int32 → hH → Option (Unit × hH)) (x1 x2 v39 : Int32) (p40 : Int32 × hH) : Option ((Int32 × hH) ⊕ hH) :=
  if (¬ (v39 ≤ p40.1) ∧ (rdI p40.2 192 59) = 0) then (
    bS (f_Mo_makePart rec x1 p40.1 x2 p40.2) fun _ h15 =>
    lz (A := Int32) (p40.1 + (1 : Int32)) fun v47 =>
    some (.inl (v47, h15))
  ) else (
    some (.inr p40.2)
  )
noncomputable def mgE (x1 x2 : Int32) (p50 : hH) : Option (Unit × hH) :=
  if (rdI p50 192 59) = 0 then (
    bS (f_Mo_isGlyph x1 p50) fun a69 h17 =>
    bP (A := hH) (
      if x2 = 0 then (
        lz (wrI h17 192 126 (rdI h17 234 7)) fun h18 =>
        lz (wrI h18 192 127 (rdI h18 234 8)) fun h19 =>
        some h19
      ) else (
        some h17
      )
    ) fun p70 =>
    if (rdI p70 192 32) ≤ 0 then (
      some ((), p70)
    ) else (
      bS (f_Mo_hint x2 p70) fun _ h20 =>
      some ((), h20)
    )
  ) else (
    some ((), p50)
  )
noncomputable def mgB (rec : Int32 → Int32 → hH → Option (Unit × hH)) (x1 x2 v2 : Int32) (h8 : hH) : Option hH :=
  if (rdI h8 192 28) = (-1 : Int32) then (
    lz (A := Int32) (rdI h8 192 30) fun v39 =>
    bP (A := hH) (wh (mgL rec x1 x2 v39) ((0 : Int32), h8)) fun p41 =>
    some p41
  ) else smlM x2 v2 h8
noncomputable def mgT (rec : Int32 → Int32 → hH → Option (Unit × hH)) (x1 x2 v2 : Int32) (h7 : hH) : Option (Unit × hH) :=
  bS (f_Mo_isGlyph x1 h7) fun a14 h8 =>
  bP (A := hH) (mgB rec x1 x2 v2 h8) fun p15 =>
  bP (A := hH) (wh (miL x2 v2) ((0 : Int32), p15)) fun p50 =>
  mgE x1 x2 p50
theorem mg_eq0 {rec : Int32 → Int32 → hH → Option (Unit × hH)} {x1 x2 : Int32} {h : hH} : fb_Mo_makeGlyph rec x1 x2 h = bS (f_Mo_leftOf x1 h) fun a1 h1 =>
  lz (A := Int32) ((102 : Int32) * x2) fun v2 =>
  bP (f_Mo_bearingOf x1 h1) fun a3 =>
  lz (A := Int32) (a1 - a3) fun v4 =>
  bP (f_Mo_scaled (Int32.toInt64 v4) h1) fun a5 =>
  gd (vp_in ((4 : Int32) * x2) 24) <|
  lz (wrI h1 242 (Int32.toNatClampNeg ((4 : Int32) * x2)) a5) fun h2 =>
  gd (vp_in (((4 : Int32) * x2) + (1 : Int32)) 24) <|
  lz (wrI h2 242 (Int32.toNatClampNeg (((4 : Int32) * x2) + (1 : Int32))) (0 : Int32)) fun h3 =>
  bP (f_Mo_advanceOf x1 h3) fun a8 =>
  bP (f_Mo_scaled ((Int32.toInt64 v4) + (Int32.toInt64 a8)) h3) fun a9 =>
  gd (vp_in (((4 : Int32) * x2) + (2 : Int32)) 24) <|
  lz (wrI h3 242 (Int32.toNatClampNeg (((4 : Int32) * x2) + (2 : Int32))) a9) fun h4 =>
  gd (vp_in (((4 : Int32) * x2) + (3 : Int32)) 24) <|
  lz (wrI h4 242 (Int32.toNatClampNeg (((4 : Int32) * x2) + (3 : Int32))) (0 : Int32)) fun h5 =>
  gd (vp_in x2 6) <|
  lz (wrI h5 236 (Int32.toNatClampNeg x2) (0 : Int32)) fun h6 =>
  gd (vp_in x2 6) <|
  lz (wrI h6 237 (Int32.toNatClampNeg x2) (0 : Int32)) fun h7 =>
  mgT rec x1 x2 v2 h7 := rfl
def mgQ (d : Nat) (h : hH) (s1 s2 : Int32) : hH := wrI (wrI (wrI (wrI (wrI (wrI h 242 (4 * d) s1) 242 (4 * d + 1) 0) 242 (4 * d + 2) s2) 242 (4 * d + 3) 0) 236 d 0) 237 d 0
theorem mgQ_o {d o k : Nat} {h : hH} {s1 s2 : Int32} (h1 : o ≠ 242) (h2 : o ≠ 236) (h3 : o ≠ 237) : rdI (mgQ d h s1 s2) o k = rdI h o k := by
  unfold mgQ
  rw [rdI_o h3, rdI_o h2, rdI_o h1, rdI_o h1, rdI_o h1, rdI_o h1]
theorem mgQ_0 {d : Nat} {h : hH} {s1 s2 : Int32} : rdI (mgQ d h s1 s2) 236 d = 0 ∧ rdI (mgQ d h s1 s2) 237 d = 0 ∧ rdI (mgQ d h s1 s2) 242 (4 * d) = s1 ∧ rdI (mgQ d h s1 s2) 242 (4 * d + 1) = 0 ∧ rdI (mgQ d h s1 s2) 242 (4 * d + 2) = s2 ∧ rdI (mgQ d h s1 s2) 242 (4 * d + 3) = 0 := by
  unfold mgQ
  refine ⟨?_, ?_, ?_, ?_, ?_, ?_⟩
  · rw [rdI_o (by decide), rdI_wrI, if_pos ⟨rfl, rfl⟩]
  · rw [rdI_wrI, if_pos ⟨rfl, rfl⟩]
  · rw [rdI_o (by decide), rdI_o (by decide), rdI_wrI, if_neg (by omega), rdI_wrI, if_neg (by omega), rdI_wrI, if_neg (by omega), rdI_wrI, if_pos ⟨rfl, rfl⟩]
  · rw [rdI_o (by decide), rdI_o (by decide), rdI_wrI, if_neg (by omega), rdI_wrI, if_neg (by omega), rdI_wrI, if_pos ⟨rfl, rfl⟩]
  · rw [rdI_o (by decide), rdI_o (by decide), rdI_wrI, if_neg (by omega), rdI_wrI, if_pos ⟨rfl, rfl⟩]
  · rw [rdI_o (by decide), rdI_o (by decide), rdI_wrI, if_pos ⟨rfl, rfl⟩]
theorem xI_13 {x : Int32} (x0 : 0 ≤ x) (x1 : x ≤ 5) : ((4 * x).toNatClampNeg = 4 * x.toNatClampNeg ∧ vp_in (4 * x) 24) ∧ ((4 * x + 1).toNatClampNeg = 4 * x.toNatClampNeg + 1 ∧ vp_in (4 * x + 1) 24) ∧ ((4 * x + 2).toNatClampNeg = 4 * x.toNatClampNeg + 2 ∧ vp_in (4 * x + 2) 24) ∧ ((4 * x + 3).toNatClampNeg = 4 * x.toNatClampNeg + 3 ∧ vp_in (4 * x + 3) 24) := by
  have hx : x = 0 ∨ x = 1 ∨ x = 2 ∨ x = 3 ∨ x = 4 ∨ x = 5 := by grind
  rcases hx with rfl | rfl | rfl | rfl | rfl | rfl <;> exact ⟨⟨rfl, vp_lt (n := 24) (m := 24) (by decide) (by decide) rfl⟩, ⟨rfl, vp_lt (n := 24) (m := 24) (by decide) (by decide) rfl⟩, ⟨rfl, vp_lt (n := 24) (m := 24) (by decide) (by decide) rfl⟩, ⟨rfl, vp_lt (n := 24) (m := 24) (by decide) (by decide) rfl⟩⟩
theorem toL_sub {a b : Int32} (a0 : -32768 ≤ a ∧ a ≤ 32767) (b0 : -32768 ≤ b ∧ b ≤ 32767) : (a - b).toInt64 = a.toInt64 - b.toInt64 := by
  have z1 : (-32768 : Int32).toInt = -32768 := rfl
  have z2 : (32767 : Int32).toInt = 32767 := rfl
  have p1 := Int32.le_iff_toInt_le.mp a0.1
  have p2 := Int32.le_iff_toInt_le.mp a0.2
  have q1 := Int32.le_iff_toInt_le.mp b0.1
  have q2 := Int32.le_iff_toInt_le.mp b0.2
  rw [z1] at p1 q1
  rw [z2] at p2 q2
  apply Int64.toInt_inj.mp
  rw [Int32.toInt_toInt64, i32_sub (by omega) (by omega), i64_sub (by rw [Int32.toInt_toInt64, Int32.toInt_toInt64]; omega) (by rw [Int32.toInt_toInt64, Int32.toInt_toInt64]; omega), Int32.toInt_toInt64, Int32.toInt_toInt64]
theorem MT_w {h : hH} {o k : Nat} {v : Int32} (ho : o ≠ 192) (h1 : o ≠ 194) (h2 : o ≠ 195) : MT h (wrI h o k v) := ⟨fun _ _ => rdI_o (Ne.symm ho), fun _ => rdI_o (Ne.symm h1), fun _ => rdI_o (Ne.symm h2), fun _ _ => rfl⟩
theorem mg_start {rec : Int32 → Int32 → hH → Option (Unit × hH)} {g x v w l : Int32} {hc h M : hH} (x0 : 0 ≤ x ∧ x ≤ 5) (hu : 16 ≤ rdI hc 4 6) (e1 : rdI h 192 62 = rdI hc 22 4) (e2 : rdI h 192 10 = rdI hc 4 6) (lf : f_Mo_leftOf g h = some (l, M)) (fM' : FrN h M) (be : f_Mo_bearingOf g h = some v) (ad : f_Mo_advanceOf g h = some w) (l0 : -32768 ≤ l ∧ l ≤ 32767) (v0 : -32768 ≤ v ∧ v ≤ 32767) : fb_Mo_makeGlyph rec g x h = mgT rec g x (102 * x) (mgQ x.toNatClampNeg M (scV (l.toInt64 - v.toInt64) hc) (scV (l.toInt64 - v.toInt64 + w.toInt64) hc)) := by
  have v6 : vp_in x 6 := vp_lt (n := 6) (m := 6) x0.1 (by grind) rfl
  obtain ⟨⟨i0, w0⟩, ⟨i1, w1⟩, ⟨i2, w2⟩, ⟨i3, w3⟩⟩ := xI_13 x0.1 x0.2
  have mt : MT h M := MT_N fM'
  have E1 : rdI M 192 62 = rdI hc 22 4 := (fM'.1 192 62 (by omega) (by omega)).trans e1
  have E2 : rdI M 192 10 = rdI hc 4 6 := (fM'.1 192 10 (by omega) (by omega)).trans e2
  rw [mg_eq0, lf, bS_some, lz_eq, MT_bearing mt, be, bP_some, lz_eq, sc_M hu E1 E2, bP_some, gd_pos w0, lz_eq, gd_pos w1, lz_eq]
  generalize hA : wrI (wrI M 242 (4 * x).toNatClampNeg (scV (l - v).toInt64 hc)) 242 (4 * x + 1).toNatClampNeg 0 = A
  have mA : MT h A := by rw [← hA]; exact MT_t (MT_t mt (MT_w (by decide) (by decide) (by decide))) (MT_w (by decide) (by decide) (by decide))
  have A1 : rdI A 192 62 = rdI hc 22 4 := by rw [← hA, rdI_o (by decide), rdI_o (by decide)]; exact E1
  have A2 : rdI A 192 10 = rdI hc 4 6 := by rw [← hA, rdI_o (by decide), rdI_o (by decide)]; exact E2
  rw [MT_advance mA, ad, bP_some, sc_M hu A1 A2, bP_some, gd_pos w2, lz_eq, gd_pos w3, lz_eq, gd_pos v6, lz_eq, gd_pos v6, lz_eq, ← hA, i0, i1, i2, i3, toL_sub l0 v0]
  rfl
