/-! LAYER 4D: parts of a glyph, on both sides -/
noncomputable def ptC (z : Nat) (x1 : Int32) (p1 : Int32 × Int32 × hH) : Option ((Int32 × Int32 × hH) ⊕ ((Int32 × hH) ⊕ (Int32 × hH))) :=
  if p1.1 = 0 then (
    some (.inr (.inl (p1.2.1, p1.2.2)))
  ) else (
    if (rdI p1.2.2 z 9) = (8 : Int32) then (
      some (.inr (.inr ((0 : Int32), p1.2.2)))
    ) else (
      bP (f_Gl_has z (4 : Int32) p1.2.2) fun a3 =>
      if a3 = 0 then (
        some (.inr (.inr ((0 : Int32), p1.2.2)))
      ) else (
        gd (isA 1 (rdP p1.2.2 z 15)) <|
        bP (f_By_u2 (rdP p1.2.2 z 15) (rdI p1.2.2 z 16) p1.2.2) fun a5 =>
        gd (vp_in (rdI p1.2.2 z 9) 8) <|
        lz (wrI p1.2.2 (rf z 10) (Int32.toNatClampNeg (rdI p1.2.2 z 9)) a5) fun h1 =>
        gd (isA 1 (rdP h1 z 15)) <|
        bP (f_By_u2 (rdP h1 z 15) ((rdI h1 z 16) + (2 : Int32)) h1) fun a8 =>
        gd (vp_in (rdI h1 z 9) 8) <|
        lz (wrI h1 (rf z 11) (Int32.toNatClampNeg (rdI h1 z 9)) a8) fun h2 =>
        lz (wrI h2 z 16 ((rdI h2 z 16) + (4 : Int32))) fun h3 =>
        gd (vp_in (rdI h3 z 9) 8) <|
        if x1 ≤ (rdI h3 (rf z 11) (Int32.toNatClampNeg (rdI h3 z 9))) then (
          some (.inr (.inr ((0 : Int32), h3)))
        ) else (
          bS (f_Gl_readNumbers z a5 h3) fun a11 h4 =>
          if a11 = 0 then (
            some (.inr (.inr ((0 : Int32), h4)))
          ) else (
            bS (f_Gl_readMatrix z a5 h4) fun a12 h5 =>
            if a12 = 0 then (
              some (.inr (.inr ((0 : Int32), h5)))
            ) else (
              lz (wrI h5 z 9 ((rdI h5 z 9) + (1 : Int32))) fun h6 =>
              lz (A := Int32) (if (a5 &&& (32 : Int32)) = 0 then (0 : Int32) else (1 : Int32)) fun p13 =>
              some (.inl (p13, a5, h6))
            )
          )
        )
      )
    )
  )
/-- the model's matrix -/
noncomputable def mtM {X : Type} (v5 p14 v41 : Int32) (h4 : hH) (K : hH → Option X) : Option X :=
  bP (A := hH) (
    wh (A := (Int32 × hH)) (B := hH) (fun p42 =>
        if (4 : Int32) ≤ p42.1 then (
          some (.inr p42.2)
        ) else (
          gd (vp_in (((4 : Int32) * v5) + p42.1) 32) <|
          lz (wrI p42.2 207 (Int32.toNatClampNeg (((4 : Int32) * v5) + p42.1)) (0 : Int32)) fun h5 =>
          lz (A := Int32) (p42.1 + (1 : Int32)) fun v45 =>
          some (.inl (v45, h5))
        )
    ) ((0 : Int32), h4)
  ) fun p43 =>
  bP (A := Int32) (
    if p14 = 0 then (
      some (16384 : Int32)
    ) else (
      bP (f_Mo_s2 v41 p43) fun a48 =>
      some a48
    )
  ) fun p47 =>
  gd (vp_in ((4 : Int32) * v5) 32) <|
  lz (wrI p43 207 (Int32.toNatClampNeg ((4 : Int32) * v5)) p47) fun h6 =>
  bP (A := Int32) (
    if p14 = 0 then (
      some (16384 : Int32)
    ) else (
      if p14 = (1 : Int32) then (
        bP (f_Mo_s2 v41 h6) fun a55 =>
        some a55
      ) else (
        if p14 = (2 : Int32) then (
          bP (f_Mo_s2 (v41 + (2 : Int32)) h6) fun a53 =>
          some a53
        ) else (
          bP (f_Mo_s2 (v41 + (6 : Int32)) h6) fun a52 =>
          some a52
        )
      )
    )
  ) fun p51 =>
  gd (vp_in (((4 : Int32) * v5) + (3 : Int32)) 32) <|
  lz (wrI h6 207 (Int32.toNatClampNeg (((4 : Int32) * v5) + (3 : Int32))) p51) fun h7 =>
  bP (A := Int32) (
    if p14 = (4 : Int32) then (
      bP (f_Mo_s2 (v41 + (2 : Int32)) h7) fun a60 =>
      some a60
    ) else (
      some (0 : Int32)
    )
  ) fun p59 =>
  gd (vp_in (((4 : Int32) * v5) + (1 : Int32)) 32) <|
  lz (wrI h7 207 (Int32.toNatClampNeg (((4 : Int32) * v5) + (1 : Int32))) p59) fun h8 =>
  bP (A := Int32) (
    if p14 = (4 : Int32) then (
      bP (f_Mo_s2 (v41 + (4 : Int32)) h8) fun a64 =>
      some a64
    ) else (
      some (0 : Int32)
    )
  ) fun p63 =>
  gd (vp_in (((4 : Int32) * v5) + (2 : Int32)) 32) <|
  lz (wrI h8 207 (Int32.toNatClampNeg (((4 : Int32) * v5) + (2 : Int32))) p63) K
theorem xI_c {p : Int32} {c : Nat} {d : Int32} (hd : d.toInt = (c : Int)) (hc : c ≤ 100) (h0 : 0 ≤ p) (h1 : p ≤ 12000) : (p + d).toNatClampNeg = p.toNatClampNeg + c := by
  have z0 : (0 : Int32).toInt = 0 := rfl
  have z1 : (12000 : Int32).toInt = 12000 := rfl
  have a := Int32.le_iff_toInt_le.mp h0
  have b := Int32.le_iff_toInt_le.mp h1
  have e : (p + d).toInt = p.toInt + d.toInt := i32_add (by omega) (by omega)
  show (p + d).toInt.toNat = p.toInt.toNat + c
  omega
theorem M_mat {X : Type} {hc hm h4 : hH} {k n p : Int32} (hb : BY hc h4) (hk : 0 ≤ k ∧ k < 8) (hn : n = 0 ∨ n = 1 ∨ n = 2 ∨ n = 4) (hp : 0 ≤ p) (hp2 : p + 2 * n ≤ rdI hc 5 1) (hp3 : p ≤ 12000) (f4 : FrN hm h4) (K : hH → Option X) : ∃ m', mtM k n p h4 K = K m' ∧ FrN hm m' ∧ (∀ o i, o ≠ 207 → rdI m' o i = rdI h4 o i) ∧ (∀ i, i < 4 * k.toNatClampNeg → rdI m' 207 i = rdI h4 207 i) ∧ (∀ j, j < 4 → rdI m' 207 (4 * k.toNatClampNeg + j) = mV n hc p.toNatClampNeg j) := by
  have k64 : k < 64 := by grind
  have b3 := hb.2.2.1
  obtain ⟨x0, x1, x2, x3⟩ := x4 hk.1 k64
  have v0 : vp_in (4 * k) 32 := vp_lt (n := 32) (m := 32) (by grind) (by grind) rfl
  have v1 : vp_in (4 * k + 1) 32 := vp_lt (n := 32) (m := 32) (by grind) (by grind) rfl
  have v2 : vp_in (4 * k + 2) 32 := vp_lt (n := 32) (m := 32) (by grind) (by grind) rfl
  have v3 : vp_in (4 * k + 3) 32 := vp_lt (n := 32) (m := 32) (by grind) (by grind) rfl
  have e2 := xI_c (p := p) (c := 2) (d := 2) rfl (by decide) hp hp3
  have e4 := xI_c (p := p) (c := 4) (d := 4) rfl (by decide) hp hp3
  have e6 := xI_c (p := p) (c := 6) (d := 6) rfl (by decide) hp hp3
  unfold mtM
  rw [wh_fill (n := 4) (by decide) (r := mtI h4 207 (4 * k.toNatClampNeg) 4 (fun _ => 0)) (fun i => mtI h4 207 (4 * k.toNatClampNeg) i (fun _ => 0)) mtI_0 (by dsimp only; rw [if_pos (by decide)]; rfl) (by
    intro i i0 i1
    have vi : vp_in (4 * k + i) 32 := vp_lt (n := 32) (m := 32) (by grind) (by grind) rfl
    have xk : (4 * k + i).toNatClampNeg = 4 * k.toNatClampNeg + i.toNatClampNeg := by
      rw [← x0]
      exact xI_add (m := 12000) (by grind) (by grind) i0 (by grind) (by decide)
    dsimp only
    rw [if_neg (Int32.not_le.mpr i1), gd_pos vi]
    simp only [lz]
    rw [mtI_s rfl xk])]
  simp only [bP_some, lz, gd_pos v0, gd_pos v1, gd_pos v2, gd_pos v3, x0, x1, x2, x3]
  generalize hZ : mtI h4 207 (4 * k.toNatClampNeg) 4 (fun _ => 0) = Z
  have zO : ∀ o i, o ≠ 207 → rdI Z o i = rdI h4 o i := fun o i ho => by rw [← hZ, rdI_mtI, if_neg (fun w => ho w.1)]
  have zF : FrN hm Z := ⟨fun o i h1 h2 => (zO o i (by omega)).trans (f4.1 o i h1 h2), fun o i => by rw [← hZ]; exact f4.2.1 o i, fun o i => by rw [← hZ]; exact f4.2.2 o i⟩
  have zl : ∀ i, i < 4 * k.toNatClampNeg → rdI Z 207 i = rdI h4 207 i := fun i hi => by rw [← hZ, rdI_mtI, if_neg (by omega)]
  have bz : ∀ G : hH, (∀ o i, o ≠ 207 → rdI G o i = rdI h4 o i) → BY hc G := fun G hG => ⟨(hG _ _ (by decide)).trans hb.1, hb.2.1, hb.2.2.1, fun i hi => (hG _ _ (by decide)).trans (hb.2.2.2 i hi)⟩
  have s2 : ∀ (G : hH) (q : Int32), (∀ o i, o ≠ 207 → rdI G o i = rdI h4 o i) → 0 ≤ q → q + 1 < rdI hc 5 1 → q < rdI hc 5 1 → f_Mo_s2 q G = some (s2N hc q.toNatClampNeg) := fun G q hG a b c => Mo_s2_eq (bz G hG) a b c
  have w1 : ∀ (G : hH) (a : Nat) (x : Int32), (∀ o i, o ≠ 207 → rdI G o i = rdI h4 o i) → (∀ o i, o ≠ 207 → rdI (wrI G 207 a x) o i = rdI h4 o i) := fun G a x hG o i ho => by rw [rdI_o ho]; exact hG o i ho
  have fin : ∀ a b c d : Int32, a = mV n hc p.toNatClampNeg 0 → b = mV n hc p.toNatClampNeg 1 → c = mV n hc p.toNatClampNeg 2 → d = mV n hc p.toNatClampNeg 3 → ∃ m', K (wrI (wrI (wrI (wrI Z 207 (4 * k.toNatClampNeg) a) 207 (4 * k.toNatClampNeg + 3) d) 207 (4 * k.toNatClampNeg + 1) b) 207 (4 * k.toNatClampNeg + 2) c) = K m' ∧ FrN hm m' ∧ (∀ o i, o ≠ 207 → rdI m' o i = rdI h4 o i) ∧ (∀ i, i < 4 * k.toNatClampNeg → rdI m' 207 i = rdI h4 207 i) ∧ (∀ j, j < 4 → rdI m' 207 (4 * k.toNatClampNeg + j) = mV n hc p.toNatClampNeg j) := by
    intro a b c d ea eb ec ed
    refine ⟨_, rfl, FrN_w (FrN_w (FrN_w (FrN_w zF (by omega)) (by omega)) (by omega)) (by omega), fun o i ho => by rw [rdI_o ho, rdI_o ho, rdI_o ho, rdI_o ho]; exact zO o i ho, fun i hi => by rw [rdI_wrI, if_neg (by omega), rdI_wrI, if_neg (by omega), rdI_wrI, if_neg (by omega), rdI_wrI, if_neg (by omega)]; exact zl i hi, ?_⟩
    intro j hj
    rcases ltF hj with rfl | rfl | rfl | rfl
    · rw [rdI_wrI, if_neg (by omega), rdI_wrI, if_neg (by omega), rdI_wrI, if_neg (by omega), rdI_wrI, if_pos ⟨rfl, rfl⟩]; exact ea
    · rw [rdI_wrI, if_neg (by omega), rdI_wrI, if_pos ⟨rfl, rfl⟩]; exact eb
    · rw [rdI_wrI, if_pos ⟨rfl, rfl⟩]; exact ec
    · rw [rdI_wrI, if_neg (by omega), rdI_wrI, if_neg (by omega), rdI_wrI, if_pos ⟨rfl, rfl⟩]; exact ed
  rcases hn with rfl | rfl | rfl | rfl
  · simp +decide only [reduceIte, bP_some]
    exact fin _ _ _ _ rfl rfl rfl rfl
  · simp +decide only [reduceIte]
    rw [s2 Z p zO hp (by grind) (by grind)]
    simp only [bP_some]
    rw [s2 _ p (w1 _ _ _ zO) hp (by grind) (by grind)]
    simp only [bP_some]
    refine fin _ _ _ _ rfl rfl rfl ?_
    show _ = s2N hc (p.toNatClampNeg + 2 * 1 - 2)
    rw [show p.toNatClampNeg + 2 * 1 - 2 = p.toNatClampNeg by omega]
  · simp +decide only [reduceIte]
    rw [s2 Z p zO hp (by grind) (by grind)]
    simp only [bP_some]
    rw [s2 _ (p + 2) (w1 _ _ _ zO) (by grind) (by grind) (by grind)]
    simp only [bP_some]
    refine fin _ _ _ _ rfl rfl rfl ?_
    show _ = s2N hc (p.toNatClampNeg + 2 * 2 - 2)
    rw [e2, show p.toNatClampNeg + 2 * 2 - 2 = p.toNatClampNeg + 2 by omega]
  · simp +decide only [reduceIte]
    rw [s2 Z p zO hp (by grind) (by grind)]
    simp only [bP_some]
    rw [s2 _ (p + 6) (w1 _ _ _ zO) (by grind) (by grind) (by grind)]
    simp only [bP_some]
    rw [s2 _ (p + 2) (w1 _ _ _ (w1 _ _ _ zO)) (by grind) (by grind) (by grind)]
    simp only [bP_some]
    rw [s2 _ (p + 4) (w1 _ _ _ (w1 _ _ _ (w1 _ _ _ zO))) (by grind) (by grind) (by grind)]
    simp only [bP_some]
    refine fin _ _ _ _ rfl ?_ ?_ ?_
    · rw [e2]; rfl
    · rw [e4]; rfl
    · rw [e6]; rfl
