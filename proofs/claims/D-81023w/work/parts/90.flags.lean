/-! LAYER 3Z: flags of points, on both sides -/
noncomputable def inC (z : Nat) (a5 more : Int32) (p12 : Int32 × Int32 × hH) : Option ((Int32 × Int32 × hH) ⊕ (Int32 × hH)) :=
  if more < p12.2.1 then (
    some (.inr (p12.1, p12.2.2))
  ) else (
    gd (vp_in p12.1 100) <|
    lz (wrI p12.2.2 (rf z 6) (Int32.toNatClampNeg p12.1) a5) fun h3 =>
    lz (A := Int32) (p12.1 + (1 : Int32)) fun v15 =>
    lz (A := Int32) (p12.2.1 + (1 : Int32)) fun v16 =>
    some (.inl (v15, v16, h3))
  )
noncomputable def inM (a15 more : Int32) (p22 : Int32 × Int32 × hH) : Option ((Int32 × Int32 × hH) ⊕ (Int32 × hH)) :=
  if more < p22.2.1 then (
    some (.inr (p22.1, p22.2.2))
  ) else (
    gd (vp_in p22.1 100) <|
    lz (wrI p22.2.2 202 (Int32.toNatClampNeg p22.1) a15) fun h5 =>
    lz (A := Int32) (p22.1 + (1 : Int32)) fun v25 =>
    lz (A := Int32) (p22.2.1 + (1 : Int32)) fun v26 =>
    some (.inl (v25, v26, h5))
  )
/-- the flags alone were written -/
def FFl (z : Nat) (hc g : hH) : Prop := FrG z hc g ∧ (∀ k, k ≠ 16 → rdI g z k = rdI hc z k) ∧ (∀ o k, o ≠ z → o ≠ z + 4 → rdI g o k = rdI hc o k)
def FFm (hm m : hH) : Prop := FrN hm m ∧ (∀ o k, o ≠ 202 → rdI m o k = rdI hm o k)
theorem L_in {z : Nat} {hc hm g m : hH} {k more u at' : Int32} (hz : isGl z) (fg : FFl z hc g) (fm : FFm hm m) (e16 : rdI g z 16 = at') (k0 : 0 ≤ k) (m0 : 0 ≤ more) (km : k + more < 100) (m255 : more ≤ 255) (k100 : k ≤ 100) (arr : ∀ i, i < k.toNatClampNeg → rdI m 202 i = rdI g (z + 4) i) : ∃ g' m', wh (inC z u more) (k, (0 : Int32), g) = some (k + more + 1, g') ∧ wh (inM u more) (k, (0 : Int32), m) = some (k + more + 1, m') ∧ FFl z hc g' ∧ FFm hm m' ∧ rdI g' z 16 = at' ∧ (∀ i, i < (k + more + 1).toNatClampNeg → rdI m' 202 i = rdI g' (z + 4) i) := by
  obtain ⟨⟨_, _, _, r6, _⟩, _, _, z10, z180, _, _⟩ := gl_rf hz
  have key : OK2 (wh (inC z u more) (k, (0 : Int32), g)) (wh (inM u more) (k, (0 : Int32), m)) (fun y w => y.1 = k + more + 1 ∧ w.1 = k + more + 1 ∧ FFl z hc y.2 ∧ FFm hm w.2 ∧ rdI y.2 z 16 = at' ∧ (∀ i, i < (k + more + 1).toNatClampNeg → rdI w.2 202 i = rdI y.2 (z + 4) i)) := by
    refine OK2_wh (fun s t => s.1 = t.1 ∧ s.2.1 = t.2.1 ∧ FFl z hc s.2.2 ∧ FFm hm t.2.2 ∧ rdI s.2.2 z 16 = at' ∧ 0 ≤ s.2.1 ∧ s.2.1 ≤ more + 1 ∧ s.1 = k + s.2.1 ∧ (∀ i, i < s.1.toNatClampNeg → rdI t.2.2 202 i = rdI s.2.2 (z + 4) i)) (fun s => (more + 1).toNatClampNeg - s.2.1.toNatClampNeg) ?_ (s := (k, (0 : Int32), g)) (t := (k, (0 : Int32), m)) ⟨rfl, rfl, fg, fm, e16, by show (0 : Int32) ≤ 0; decide, by show 0 ≤ more + 1; grind, by show k = k + 0; grind, arr⟩
    rintro ⟨n, j, a⟩ ⟨n', j', b⟩ ⟨h1, h2, h3, h4, h5, h6, h7, h8, h9⟩
    dsimp only at h1 h2 h3 h4 h5 h6 h7 h8 h9
    subst h1
    subst h2
    unfold inC inM
    dsimp only
    by_cases q : more < j
    · rw [if_pos q, if_pos q]
      have e : j = more + 1 := by grind
      have en : n = k + more + 1 := by rw [h8, e]; grind
      exact OK2_of rfl rfl ⟨en, en, h3, h4, h5, by rw [← en]; exact h9⟩
    · have n0 : 0 ≤ n := by rw [h8]; grind
      have n100 : n < 100 := by rw [h8]; grind
      have v : vp_in n 100 := vp_lt (n := 100) (m := 100) n0 n100 rfl
      have ii : (n + 1).toNatClampNeg = n.toNatClampNeg + 1 := xI_succ (m := 100) n0 (by grind) (by decide)
      have jj : (j + 1).toNatClampNeg = j.toNatClampNeg + 1 := xI_succ (m := 256) h6 (by grind) (by decide)
      have j2 := (xI_lt h6 (show 0 ≤ more + 1 by grind)).mpr (show j < more + 1 by grind)
      rw [if_neg q, if_neg q, gd_pos v, gd_pos v]
      simp only [lz, r6]
      refine OK2_of rfl rfl ⟨⟨rfl, rfl, ⟨FrG_w h3.1 (by omega), ?_, ?_⟩, ⟨FrN_w h4.1 (by omega), ?_⟩, ?_, by show 0 ≤ j + 1; grind, by show j + 1 ≤ more + 1; grind, by show n + 1 = k + (j + 1); rw [h8]; grind, ?_⟩, by show (more + 1).toNatClampNeg - (j + 1).toNatClampNeg < (more + 1).toNatClampNeg - j.toNatClampNeg; omega⟩
      · intro i hi
        show rdI (wrI a (z + 4) n.toNatClampNeg u) z i = _
        rw [rdI_o (by omega)]
        exact h3.2.1 i hi
      · intro o i h1 h2
        show rdI (wrI a (z + 4) n.toNatClampNeg u) o i = _
        rw [rdI_o h2]
        exact h3.2.2 o i h1 h2
      · intro o i ho
        show rdI (wrI b 202 n.toNatClampNeg u) o i = _
        rw [rdI_o ho]
        exact h4.2 o i ho
      · show rdI (wrI a (z + 4) n.toNatClampNeg u) z 16 = at'
        rw [rdI_o (by omega)]
        exact h5
      · intro i hi
        show rdI (wrI b 202 n.toNatClampNeg u) 202 i = rdI (wrI a (z + 4) n.toNatClampNeg u) (z + 4) i
        have hi' : i < n.toNatClampNeg + 1 := by rw [← ii]; exact hi
        by_cases e : i = n.toNatClampNeg
        · rw [rdI_wrI, if_pos ⟨rfl, e⟩, rdI_wrI, if_pos ⟨rfl, e⟩]
        · rw [rdI_wrI, if_neg (fun q => e q.2), rdI_wrI, if_neg (fun q => e q.2)]
          exact h9 i (by omega)
  obtain ⟨y, w, ey, ew, r1, r2, r3, r4, r5, r6⟩ := key
  obtain ⟨y1, y2⟩ := y
  obtain ⟨w1, w2⟩ := w
  dsimp only at r1 r2 r3 r4 r5 r6
  subst r1
  subst r2
  exact ⟨y2, w2, ey, ew, r3, r4, r5, r6⟩
noncomputable def flC (z : Nat) (p1 : Int32 × hH) : Option ((Int32 × hH) ⊕ (hH ⊕ (Int32 × hH))) :=
  if (rdI p1.2 z 2) ≤ p1.1 then (
    some (.inr (.inl p1.2))
  ) else (
    bP (f_Gl_has z (1 : Int32) p1.2) fun a3 =>
    if a3 = 0 then (
      some (.inr (.inr ((0 : Int32), p1.2)))
    ) else (
      gd (isA 1 (rdP p1.2 z 15)) <|
      bP (f_By_u1 (rdP p1.2 z 15) (rdI p1.2 z 16) p1.2) fun a5 =>
      lz (wrI p1.2 z 16 ((rdI p1.2 z 16) + (1 : Int32))) fun h1 =>
      bE (P := (Int32 × hH)) (X := ((Int32 × hH) ⊕ (hH ⊕ (Int32 × hH)))) (
        if (a5 &&& (8 : Int32)) = 0 then (
          some (.inl ((0 : Int32), h1))
        ) else (
          bP (f_Gl_has z (1 : Int32) h1) fun a7 =>
          if a7 = 0 then (
            some (.inr (.inr (.inr ((0 : Int32), h1))))
          ) else (
            gd (isA 1 (rdP h1 z 15)) <|
            bP (f_By_u1 (rdP h1 z 15) (rdI h1 z 16) h1) fun a9 =>
            lz (wrI h1 z 16 ((rdI h1 z 16) + (1 : Int32))) fun h2 =>
            some (.inl (a9, h2))
          )
        )
      ) fun p6 =>
      if (p1.1 + p6.1) < (rdI p6.2 z 2) then (
        bP (A := (Int32 × hH)) (wh (inC z a5 p6.1) (p1.1, (0 : Int32), p6.2)) fun p13 =>
        some (.inl (p13.1, p13.2))
      ) else (
        some (.inr (.inr ((0 : Int32), p6.2)))
      )
    )
  )
noncomputable def flM (p13 : Int32 × Int32 × hH) : Option ((Int32 × Int32 × hH) ⊕ ((Int32 × hH) ⊕ (Int32 × hH))) :=
  if (rdI p13.2.2 192 29) ≤ p13.2.1 then (
    some (.inr (.inl (p13.1, p13.2.2)))
  ) else (
    if p13.1 < (rdI p13.2.2 192 27) then (
      bP (f_Mo_u1 p13.1 p13.2.2) fun a15 =>
      lz (A := Int32) (p13.1 + (1 : Int32)) fun v16 =>
      bE (P := (Int32 × Int32)) (X := ((Int32 × Int32 × hH) ⊕ ((Int32 × hH) ⊕ (Int32 × hH)))) (
        if (a15 &&& (8 : Int32)) = 0 then (
          some (.inl (v16, (0 : Int32)))
        ) else (
          if v16 < (rdI p13.2.2 192 27) then (
            bP (f_Mo_u1 v16 p13.2.2) fun a18 =>
            lz (A := Int32) (v16 + (1 : Int32)) fun v19 =>
            some (.inl (v19, a18))
          ) else (
            some (.inr (.inr (.inr ((0 : Int32), p13.2.2))))
          )
        )
      ) fun p17 =>
      if ((p13.2.1 + (1 : Int32)) + p17.2) ≤ (rdI p13.2.2 192 29) then (
        bP (A := (Int32 × hH)) (wh (inM a15 p17.2) (p13.2.1, (0 : Int32), p13.2.2)) fun p23 =>
        some (.inl (p17.1, p23.1, p23.2))
      ) else (
        some (.inr (.inr ((0 : Int32), p13.2.2)))
      )
    ) else (
      some (.inr (.inr ((0 : Int32), p13.2.2)))
    )
  )
/-- the state of the reading of flags -/
def IF (z : Nat) (hc hm : hH) (n en : Int32) (s : Int32 × hH) (t : Int32 × Int32 × hH) : Prop := s.1 = t.2.1 ∧ rdI s.2 z 16 = t.1 ∧ FFl z hc s.2 ∧ FFm hm t.2.2 ∧ 0 ≤ s.1 ∧ s.1 ≤ n ∧ 0 ≤ t.1 ∧ t.1 ≤ en ∧ (∀ i, i < s.1.toNatClampNeg → rdI t.2.2 202 i = rdI s.2 (z + 4) i)
def RF' (z : Nat) (hc hm : hH) (n en : Int32) (y : hH ⊕ (Int32 × hH)) (w : (Int32 × hH) ⊕ (Int32 × hH)) : Prop := match y, w with
  | .inl s, .inl t => IF z hc hm n en (n, s) (t.1, n, t.2)
  | .inr s, .inr t => s.1 = 0 ∧ t.1 = 0 ∧ FFl z hc s.2 ∧ FFm hm t.2
  | _, _ => False
def FlS (z : Nat) (hc hm : hH) (n en k : Int32) (y : (Int32 × hH) ⊕ (hH ⊕ (Int32 × hH))) (w : (Int32 × Int32 × hH) ⊕ ((Int32 × hH) ⊕ (Int32 × hH))) : Prop := match y, w with
  | .inl s', .inl t' => IF z hc hm n en s' t' ∧ n.toNatClampNeg - s'.1.toNatClampNeg < n.toNatClampNeg - k.toNatClampNeg
  | .inr b, .inr c => RF' z hc hm n en b c
  | .inr _, .inl _ => False
  | .inl _, .inr _ => False
theorem has_eq {z : Nat} {h : hH} {n at' en : Int32} (e16 : rdI h z 16 = at') (e17 : rdI h z 17 = en) : f_Gl_has z n h = some (if en - at' < n then 0 else 1) := by
  unfold f_Gl_has
  rw [e16, e17]
  split <;> rfl
theorem By_u1_N {p : Int32} {h : hH} (h0 : 0 ≤ p) (h1 : p < 12000) : f_By_u1 5 p h = some (u1N h p.toNatClampNeg) := By_u1_eq h0 h1
theorem Mo_u1_N {hc hm : hH} (hb : BY hc hm) {p : Int32} (h0 : 0 ≤ p) (h1 : p < rdI hc 5 1) : f_Mo_u1 p hm = some (u1N hc p.toNatClampNeg) := u1_T hb h0 h1
theorem u1N_fr {z : Nat} {hc g : hH} (hz : 10 < z) (f : FrG z hc g) (p : Nat) : u1N g p = u1N hc p := by
  unfold u1N
  rw [f.1 _ _ (by omega)]
theorem L_flags {z : Nat} {hc hm : hH} {n en p0 : Int32} (hz : isGl z) (hP : rdP hc z 15 = 5) (hb : BY hc hm) (e2 : rdI hc z 2 = n) (e29 : rdI hm 192 29 = n) (hn : 0 ≤ n ∧ n ≤ 100) (e17 : rdI hc z 17 = en) (e27 : rdI hm 192 27 = en) (hen2 : en ≤ rdI hc 5 1) (hp : 0 ≤ p0 ∧ p0 ≤ en) (e16 : rdI hc z 16 = p0) : OK2 (wh (flC z) ((0 : Int32), hc)) (wh flM (p0, (0 : Int32), hm)) (RF' z hc hm n en) := by
  obtain ⟨⟨_, _, _, r6, _⟩, _, _, z10, z180, _, _⟩ := gl_rf hz
  have b3 := hb.2.2.1
  refine OK2_wh (IF z hc hm n en) (fun s => n.toNatClampNeg - s.1.toNatClampNeg) ?_ (s := ((0 : Int32), hc)) (t := (p0, (0 : Int32), hm)) ⟨rfl, e16, ⟨FrG_rfl, fun _ _ => rfl, fun _ _ _ _ => rfl⟩, ⟨FrN_rfl, fun _ _ _ => rfl⟩, by show (0 : Int32) ≤ 0; decide, hn.1, hp.1, hp.2, fun i hi => absurd hi (Nat.not_lt_zero _)⟩
  rintro ⟨k, g⟩ ⟨p, k', m⟩ ⟨h1, h2, h3, h4, h5, h6, h7, h8, h9⟩
  dsimp only at h1 h2 h3 h4 h5 h6 h7 h8 h9
  subst h1
  have g2 : rdI g z 2 = n := (h3.2.1 2 (by decide)).trans e2
  have g17 : rdI g z 17 = en := (h3.2.1 17 (by decide)).trans e17
  have m29 : rdI m 192 29 = n := (h4.2 192 29 (by decide)).trans e29
  have m27 : rdI m 192 27 = en := (h4.2 192 27 (by decide)).trans e27
  have gP : rdP g z 15 = 5 := (h3.1.2.1 _ _).trans hP
  have hbm : BY hc m := BY_fr z10 FrG_rfl h4.1 hb
  unfold flC flM
  dsimp only
  rw [g2, m29, m27]
  by_cases q : n ≤ k
  · rw [if_pos q, if_pos q]
    have e : k = n := by grind
    subst e
    exact OK2_of rfl rfl ⟨rfl, h2, h3, h4, h5, h6, h7, h8, h9⟩
  · rw [if_neg q, if_neg q, has_eq h2 g17]
    have step : ∀ (g1 : hH) (p1 more u : Int32), FFl z hc g1 → rdI g1 z 16 = p1 → 0 ≤ more ∧ more ≤ 255 → 0 ≤ p1 → p1 ≤ en → (∀ i, i < k.toNatClampNeg → rdI m 202 i = rdI g1 (z + 4) i) → OK2 (if (k + more) < (rdI g1 z 2) then (bP (A := (Int32 × hH)) (wh (inC z u more) (k, (0 : Int32), g1)) fun p13 => some (Sum.inl (p13.1, p13.2))) else some (.inr (.inr ((0 : Int32), g1)))) (if ((k + (1 : Int32)) + more) ≤ n then (bP (A := (Int32 × hH)) (wh (inM u more) (k, (0 : Int32), m)) fun p23 => some (Sum.inl (p1, p23.1, p23.2))) else some (.inr (.inr ((0 : Int32), m)))) (FlS z hc hm n en k) := by
      intro g1 p1 more u f1 c1 hm1 q0 q1 arr
      have c2 : rdI g1 z 2 = n := (f1.2.1 2 (by decide)).trans e2
      rw [c2]
      by_cases w : k + more < n
      · have w' : k + 1 + more ≤ n := by grind
        rw [if_pos w, if_pos w']
        obtain ⟨g', m', ec, em, a1, a2, a3, a4⟩ := L_in (u := u) hz f1 h4 c1 h5 hm1.1 (by grind) hm1.2 (by grind) arr
        rw [ec, em]
        simp only [bP_some]
        have x1 : 0 ≤ k + more + 1 := by grind
        have x2 : k + more + 1 ≤ n := by grind
        have lt : k.toNatClampNeg < (k + more + 1).toNatClampNeg := (xI_lt h5 x1).mpr (by grind)
        have lt2 : (k + more + 1).toNatClampNeg ≤ n.toNatClampNeg := xI_mono x2
        exact OK2_of rfl rfl ⟨⟨rfl, a3, a1, a2, x1, x2, q0, q1, a4⟩, by show n.toNatClampNeg - (k + more + 1).toNatClampNeg < _; omega⟩
      · have w' : ¬ k + 1 + more ≤ n := by grind
        rw [if_neg w, if_neg w']
        exact OK2_of rfl rfl ⟨rfl, rfl, f1, h4⟩
    refine OK2_mono (Φ := FlS z hc hm n en k) ?_ ?_
    case refine_2 =>
      intro y w hy
      rcases y with y | y <;> rcases w with w | w
      · exact hy
      · exact absurd hy id
      · exact absurd hy id
      · exact hy
    simp only [bP_some]
    by_cases q1 : p < en
    · have q1' : ¬ en - p < 1 := by grind
      rw [if_neg q1', if_pos q1, gP]
      simp only [show ¬ ((1 : Int32) = 0) by decide, reduceIte, gd_pos isA1, h2]
      rw [By_u1_N h7 (by grind), Mo_u1_N hbm h7 (by grind), u1N_fr z10 h3.1]
      have ur := u1N_r hc p.toNatClampNeg
      generalize u1N hc p.toNatClampNeg = u at ur ⊢
      simp only [bP_some, lz]
      have f1 : FFl z hc (wrI g z 16 (p + 1)) := ⟨FrG_w h3.1 (by omega), fun i hi => by rw [rdI_wrI, if_neg (fun q => hi q.2)]; exact h3.2.1 i hi, fun o i ho h2 => by rw [rdI_o ho]; exact h3.2.2 o i ho h2⟩
      have c1 : rdI (wrI g z 16 (p + 1)) z 16 = p + 1 := by rw [rdI_wrI, if_pos ⟨rfl, rfl⟩]
      have arr1 : ∀ i, i < k.toNatClampNeg → rdI m 202 i = rdI (wrI g z 16 (p + 1)) (z + 4) i := fun i hi => by rw [rdI_o (by omega)]; exact h9 i hi
      by_cases b8 : u &&& 8 = 0
      · simp only [if_pos b8, bE_inl]
        exact step _ (p + 1) 0 u f1 c1 (by decide) (by grind) (by grind) arr1
      · have c17 : rdI (wrI g z 16 (p + 1)) z 17 = en := (f1.2.1 17 (by decide)).trans e17
        simp only [if_neg b8]
        rw [has_eq c1 c17]
        simp only [bP_some]
        by_cases q2 : p + 1 < en
        · have q2' : ¬ en - (p + 1) < 1 := by grind
          have gP1 : rdP (wrI g z 16 (p + 1)) z 15 = 5 := gP
          rw [if_neg q2', if_pos q2]
          simp only [show ¬ ((1 : Int32) = 0) by decide, reduceIte]
          rw [gP1, gd_pos isA1, c1, By_u1_N (by grind) (by grind), Mo_u1_N hbm (by grind) (by grind), u1N_fr z10 f1.1]
          have ur2 := u1N_r hc (p + 1).toNatClampNeg
          generalize u1N hc (p + 1).toNatClampNeg = more at ur2 ⊢
          simp only [bP_some, bE_inl]
          have f2 : FFl z hc (wrI (wrI g z 16 (p + 1)) z 16 (p + 1 + 1)) := ⟨FrG_w f1.1 (by omega), fun i hi => by rw [rdI_wrI, if_neg (fun q => hi q.2)]; exact f1.2.1 i hi, fun o i ho h2 => by rw [rdI_o ho]; exact f1.2.2 o i ho h2⟩
          exact step _ (p + 1 + 1) more u f2 (by rw [rdI_wrI, if_pos ⟨rfl, rfl⟩]) ur2 (by grind) (by grind) (fun i hi => by rw [rdI_o (by omega)]; exact arr1 i hi)
        · have q2' : en - (p + 1) < 1 := by grind
          rw [if_pos q2', if_neg q2]
          simp only [reduceIte, bE_inr]
          exact OK2_of rfl rfl ⟨rfl, rfl, f1, h4⟩
    · have q1' : en - p < 1 := by grind
      rw [if_pos q1', if_neg q1]
      simp only [reduceIte]
      exact OK2_of rfl rfl ⟨rfl, rfl, h3, h4⟩
