/-! LAYER 4A: places of points, on both sides -/
noncomputable def plC (z x1 : Nat) (x2 x3 : Int32) (p1 : Int32 × Int32 × hH) : Option ((Int32 × Int32 × hH) ⊕ (hH ⊕ (Int32 × hH))) :=
  if (rdI p1.2.2 z 2) ≤ p1.2.1 then (
    some (.inr (.inl p1.2.2))
  ) else (
    gd (vp_in p1.2.1 100) <|
    lz (A := Int32) (if ((rdI p1.2.2 (rf z 6) (Int32.toNatClampNeg p1.2.1)) &&& x2) = 0 then (0 : Int32) else (1 : Int32)) fun p4 =>
    gd (vp_in p1.2.1 100) <|
    lz (A := Int32) (if ((rdI p1.2.2 (rf z 6) (Int32.toNatClampNeg p1.2.1)) &&& x3) = 0 then (0 : Int32) else (1 : Int32)) fun p7 =>
    lz (A := Int32) (if p4 = 0 then (if p7 = 0 then (2 : Int32) else (0 : Int32)) else (1 : Int32)) fun p9 =>
    bP (f_Gl_has z p9 p1.2.2) fun a12 =>
    if a12 = 0 then (
      some (.inr (.inr ((0 : Int32), p1.2.2)))
    ) else (
      bP (A := Int32) (
        if p9 = (1 : Int32) then (
          if p7 = 0 then (
            gd (isA 1 (rdP p1.2.2 z 15)) <|
            bP (f_By_u1 (rdP p1.2.2 z 15) (rdI p1.2.2 z 16) p1.2.2) fun a18 =>
            some (-a18)
          ) else (
            gd (isA 1 (rdP p1.2.2 z 15)) <|
            bP (f_By_u1 (rdP p1.2.2 z 15) (rdI p1.2.2 z 16) p1.2.2) fun a20 =>
            some a20
          )
        ) else (
          if p9 = (2 : Int32) then (
            gd (isA 1 (rdP p1.2.2 z 15)) <|
            bP (f_By_s2 (rdP p1.2.2 z 15) (rdI p1.2.2 z 16) p1.2.2) fun a15 =>
            some a15
          ) else (
            some (0 : Int32)
          )
        )
      ) fun p13 =>
      lz (A := Int32) (p1.1 + p13) fun v23 =>
      lz (wrI p1.2.2 z 16 ((rdI p1.2.2 z 16) + p9)) fun h1 =>
      gd (vp_in p1.2.1 (ln x1)) <|
      lz (wrI h1 x1 (Int32.toNatClampNeg p1.2.1) v23) fun h2 =>
      lz (A := Int32) (p1.2.1 + (1 : Int32)) fun v25 =>
      some (.inl (v23, v25, h2))
    )
  )
noncomputable def coM (x2 : Nat) (x3 x4 : Int32) (p1 : Int32 × Int32 × Int32 × hH) : Option ((Int32 × Int32 × Int32 × hH) ⊕ ((Int32 × hH) ⊕ (Int32 × hH))) :=
  if (rdI p1.2.2.2 192 29) ≤ p1.2.2.1 then (
    some (.inr (.inl (p1.1, p1.2.2.2)))
  ) else (
    gd (vp_in p1.2.2.1 100) <|
    lz (A := Int32) (if ((rdI p1.2.2.2 202 (Int32.toNatClampNeg p1.2.2.1)) &&& x4) = 0 then (0 : Int32) else (1 : Int32)) fun p4 =>
    gd (vp_in p1.2.2.1 100) <|
    lz (A := Int32) (if ((rdI p1.2.2.2 202 (Int32.toNatClampNeg p1.2.2.1)) &&& x3) = 0 then (if p4 = 0 then (2 : Int32) else (0 : Int32)) else (1 : Int32)) fun p7 =>
    if (p1.1 + p7) ≤ (rdI p1.2.2.2 192 27) then (
      bP (A := Int32) (
        if p7 = (1 : Int32) then (
          if p4 = 0 then (
            bP (f_Mo_u1 p1.1 p1.2.2.2) fun a13 =>
            some (-a13)
          ) else (
            bP (f_Mo_u1 p1.1 p1.2.2.2) fun a14 =>
            some a14
          )
        ) else (
          if p7 = (2 : Int32) then (
            bP (f_Mo_s2 p1.1 p1.2.2.2) fun a11 =>
            some a11
          ) else (
            some (0 : Int32)
          )
        )
      ) fun p10 =>
      lz (A := Int32) (p1.2.1 + p10) fun v17 =>
      gd (vp_in p1.2.2.1 (ln x2)) <|
      lz (wrI p1.2.2.2 x2 (Int32.toNatClampNeg p1.2.2.1) v17) fun h1 =>
      lz (A := Int32) (p1.1 + p7) fun v19 =>
      lz (A := Int32) (p1.2.2.1 + (1 : Int32)) fun v20 =>
      some (.inl (v19, v17, v20, h1))
    ) else (
      some (.inr (.inr ((-1 : Int32), p1.2.2.2)))
    )
  )
def FPl (z a : Nat) (hc g : hH) : Prop := FrG z hc g ∧ (∀ k, k ≠ 16 → rdI g z k = rdI hc z k) ∧ (∀ o k, o ≠ z → o ≠ a → rdI g o k = rdI hc o k)
def FPm (b : Nat) (hm m : hH) : Prop := FrN hm m ∧ (∀ o k, o ≠ b → rdI m o k = rdI hm o k)
def IP (z a b : Nat) (hc hm : hH) (n en : Int32) (s : Int32 × Int32 × hH) (t : Int32 × Int32 × Int32 × hH) : Prop := s.1 = t.2.1 ∧ s.2.1 = t.2.2.1 ∧ rdI s.2.2 z 16 = t.1 ∧ FPl z a hc s.2.2 ∧ FPm b hm t.2.2.2 ∧ 0 ≤ s.2.1 ∧ s.2.1 ≤ n ∧ 0 ≤ t.1 ∧ t.1 ≤ en ∧ (∀ i, i < s.2.1.toNatClampNeg → rdI t.2.2.2 b i = rdI s.2.2 a i)
def RP (z a b : Nat) (hc hm : hH) (n en : Int32) (y : hH ⊕ (Int32 × hH)) (w : (Int32 × hH) ⊕ (Int32 × hH)) : Prop := match y, w with
  | .inl s, .inl t => IP z a b hc hm n en (0, n, s) (t.1, 0, n, t.2)
  | .inr s, .inr t => s.1 = 0 ∧ t.1 = -1 ∧ FPl z a hc s.2 ∧ FPm b hm t.2
  | _, _ => False
def PlS (z a b : Nat) (hc hm : hH) (n en k : Int32) (y : (Int32 × Int32 × hH) ⊕ (hH ⊕ (Int32 × hH))) (w : (Int32 × Int32 × Int32 × hH) ⊕ ((Int32 × hH) ⊕ (Int32 × hH))) : Prop := match y, w with
  | .inl s', .inl t' => IP z a b hc hm n en s' t' ∧ n.toNatClampNeg - s'.2.1.toNatClampNeg < n.toNatClampNeg - k.toNatClampNeg
  | .inr b', .inr c => RP z a b hc hm n en b' c
  | .inr _, .inl _ => False
  | .inl _, .inr _ => False
theorem s2N_fr {z : Nat} {hc g : hH} (hz : 10 < z) (f : FrG z hc g) (p : Nat) : s2N g p = s2N hc p := by
  unfold s2N
  rw [f.1 _ _ (by omega), f.1 _ _ (by omega)]
theorem L_places {z a b : Nat} {hc hm : hH} {n en p0 sm sa : Int32} (hz : isGl z) (hab : (a = z + 2 ∧ b = 200) ∨ (a = z + 3 ∧ b = 201)) (hP : rdP hc z 15 = 5) (hb : BY hc hm) (e2 : rdI hc z 2 = n) (e29 : rdI hm 192 29 = n) (hn : 0 ≤ n ∧ n ≤ 100) (e17 : rdI hc z 17 = en) (e27 : rdI hm 192 27 = en) (hen2 : en ≤ rdI hc 5 1) (hp : 0 ≤ p0 ∧ p0 ≤ en) (e16 : rdI hc z 16 = p0) (fl : ∀ i, i < n.toNatClampNeg → rdI hm 202 i = rdI hc (z + 4) i) : OK2 (wh (plC z a sm sa) ((0 : Int32), (0 : Int32), hc)) (wh (coM b sm sa) (p0, (0 : Int32), (0 : Int32), hm)) (RP z a b hc hm n en) := by
  obtain ⟨⟨_, _, _, r6, _⟩, _, _, z10, z180, la, lb⟩ := gl_rf hz
  have lna : ln a = 100 := by rcases hab with ⟨rfl, _⟩ | ⟨rfl, _⟩; exact la; exact lb
  have lnb : ln b = 100 := by rcases hab with ⟨_, rfl⟩ | ⟨_, rfl⟩ <;> rfl
  have az : z < a ∧ a < z + 4 := by rcases hab with ⟨rfl, _⟩ | ⟨rfl, _⟩ <;> omega
  have bz : b = 200 ∨ b = 201 := by rcases hab with ⟨_, rfl⟩ | ⟨_, rfl⟩; exact Or.inl rfl; exact Or.inr rfl
  have b3 := hb.2.2.1
  refine OK2_wh (IP z a b hc hm n en) (fun s => n.toNatClampNeg - s.2.1.toNatClampNeg) ?_ (s := ((0 : Int32), (0 : Int32), hc)) (t := (p0, (0 : Int32), (0 : Int32), hm)) ⟨rfl, rfl, e16, ⟨FrG_rfl, fun _ _ => rfl, fun _ _ _ _ => rfl⟩, ⟨FrN_rfl, fun _ _ _ => rfl⟩, by show (0 : Int32) ≤ 0; decide, hn.1, hp.1, hp.2, fun i hi => absurd hi (Nat.not_lt_zero _)⟩
  rintro ⟨v, k, g⟩ ⟨p, v', k', m⟩ ⟨h1, h1', h2, h3, h4, h5, h6, h7, h8, h9⟩
  dsimp only at h1 h1' h2 h3 h4 h5 h6 h7 h8 h9
  subst h1
  subst h1'
  have g2 : rdI g z 2 = n := (h3.2.1 2 (by decide)).trans e2
  have g17 : rdI g z 17 = en := (h3.2.1 17 (by decide)).trans e17
  have m29 : rdI m 192 29 = n := (h4.2 192 29 (by omega)).trans e29
  have m27 : rdI m 192 27 = en := (h4.2 192 27 (by omega)).trans e27
  have gP : rdP g z 15 = 5 := (h3.1.2.1 _ _).trans hP
  have hbm : BY hc m := BY_fr z10 FrG_rfl h4.1 hb
  refine OK2_mono (Φ := PlS z a b hc hm n en k) ?_ ?_
  case refine_2 =>
    intro y w hy
    rcases y with y | y <;> rcases w with w | w
    · exact hy
    · exact absurd hy id
    · exact absurd hy id
    · exact hy
  unfold plC coM
  dsimp only
  rw [g2, m29, m27]
  by_cases q : n ≤ k
  · rw [if_pos q, if_pos q]
    have e : k = n := by grind
    subst e
    exact OK2_of rfl rfl ⟨rfl, rfl, h2, h3, h4, h5, h6, h7, h8, h9⟩
  · have kn := Int32.not_le.mp q
    have vk : vp_in k 100 := vp_lt (n := 100) (m := 100) h5 (by grind) rfl
    have kl := (xI_lt h5 hn.1).mpr kn
    have fk : rdI m 202 k.toNatClampNeg = rdI g (rf z 6) k.toNatClampNeg := by
      rw [r6, h4.2 202 _ (by omega), fl _ kl, h3.2.2 (z + 4) _ (by omega) (by omega)]
    rw [if_neg q, if_neg q]
    simp only [gd_pos vk, lz, fk, lna, lnb]
    have step : ∀ (w : Int32) (u : Int32), 0 ≤ w ∧ w ≤ 2 → p + w ≤ en → OK2 (some (Sum.inl (v + u, k + 1, wrI (wrI g z 16 (p + w)) a k.toNatClampNeg (v + u)))) (some (Sum.inl (p + w, v + u, k + 1, wrI m b k.toNatClampNeg (v + u)))) (PlS z a b hc hm n en k) := by
      intro w u hw hpw
      have ii : (k + 1).toNatClampNeg = k.toNatClampNeg + 1 := xI_succ (m := 100) h5 (by grind) (by decide)
      refine OK2_of rfl rfl ⟨⟨rfl, rfl, ?_, ⟨FrG_w (FrG_w h3.1 (by omega)) (by omega), ?_, ?_⟩, ⟨FrN_w h4.1 (by omega), ?_⟩, by show 0 ≤ k + 1; grind, by show k + 1 ≤ n; grind, by show 0 ≤ p + w; grind, hpw, ?_⟩, by show n.toNatClampNeg - (k + 1).toNatClampNeg < _; omega⟩
      · show rdI (wrI (wrI g z 16 (p + w)) a k.toNatClampNeg (v + u)) z 16 = p + w
        rw [rdI_o (by omega), rdI_wrI, if_pos ⟨rfl, rfl⟩]
      · intro i hi
        show rdI (wrI (wrI g z 16 (p + w)) a k.toNatClampNeg (v + u)) z i = _
        rw [rdI_o (by omega), rdI_wrI, if_neg (fun q => hi q.2)]
        exact h3.2.1 i hi
      · intro o i h1 h2
        show rdI (wrI (wrI g z 16 (p + w)) a k.toNatClampNeg (v + u)) o i = _
        rw [rdI_o h2, rdI_o h1]
        exact h3.2.2 o i h1 h2
      · intro o i ho
        show rdI (wrI m b k.toNatClampNeg (v + u)) o i = _
        rw [rdI_o ho]
        exact h4.2 o i ho
      · intro i hi
        show rdI (wrI m b k.toNatClampNeg (v + u)) b i = rdI (wrI (wrI g z 16 (p + w)) a k.toNatClampNeg (v + u)) a i
        have hi' : i < k.toNatClampNeg + 1 := by rw [← ii]; exact hi
        by_cases e : i = k.toNatClampNeg
        · rw [rdI_wrI, if_pos ⟨rfl, e⟩, rdI_wrI, if_pos ⟨rfl, e⟩]
        · rw [rdI_wrI, if_neg (fun q => e q.2), rdI_wrI, if_neg (fun q => e q.2), rdI_o (by omega)]
          exact h9 i (by omega)
    generalize rdI g (rf z 6) k.toNatClampNeg = f
    rw [has_eq h2 g17]
    simp only [bP_some]
    by_cases s0 : f &&& sm = 0
    · by_cases t0 : f &&& sa = 0
      · simp +decide only [if_pos s0, if_pos t0, reduceIte]
        by_cases w : p + 2 ≤ en
        · have w' : ¬ en - p < 2 := by grind
          rw [if_pos w, if_neg w']
          simp +decide only [reduceIte, gP, gd_pos isA1, h2]
          rw [By_s2_eq h7 (by grind) (by grind), Mo_s2_eq hbm h7 (by grind) (by grind), s2N_fr z10 h3.1]
          simp only [bP_some]
          exact step 2 _ (by decide) w
        · have w' : en - p < 2 := by grind
          rw [if_neg w, if_pos w']
          simp +decide only [reduceIte]
          exact OK2_of rfl rfl ⟨rfl, rfl, h3, h4⟩
      · simp +decide only [if_pos s0, if_neg t0, reduceIte]
        have w : p + 0 ≤ en := by grind
        have w' : ¬ en - p < 0 := by grind
        rw [if_pos w, if_neg w']
        simp +decide only [reduceIte, h2]
        exact step 0 0 (by decide) w
    · have w1 : (p + 1 ≤ en) ∨ ¬ (p + 1 ≤ en) := by grind
      rcases w1 with w | w
      · have w' : ¬ en - p < 1 := by grind
        by_cases t0 : f &&& sa = 0
        · simp +decide only [if_neg s0, if_pos t0, reduceIte, if_pos w, if_neg w', gP, gd_pos isA1, h2]
          rw [By_u1_N h7 (by grind), Mo_u1_N hbm h7 (by grind), u1N_fr z10 h3.1]
          simp only [bP_some]
          exact step 1 _ (by decide) w
        · simp +decide only [if_neg s0, if_neg t0, reduceIte, if_pos w, if_neg w', gP, gd_pos isA1, h2]
          rw [By_u1_N h7 (by grind), Mo_u1_N hbm h7 (by grind), u1N_fr z10 h3.1]
          simp only [bP_some]
          exact step 1 _ (by decide) w
      · have w' : en - p < 1 := by grind
        by_cases t0 : f &&& sa = 0
        · simp +decide only [if_neg s0, if_pos t0, reduceIte, if_neg w, if_pos w']
          exact OK2_of rfl rfl ⟨rfl, rfl, h3, h4⟩
        · simp +decide only [if_neg s0, if_neg t0, reduceIte, if_neg w, if_pos w']
          exact OK2_of rfl rfl ⟨rfl, rfl, h3, h4⟩
