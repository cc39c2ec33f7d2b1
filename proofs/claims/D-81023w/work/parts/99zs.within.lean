/-! LAYER 3CA: heights of glyphs, the model's side -/
noncomputable def awP (g : Int32) (p10 : Int32 × hH) : Option ((Int32 × hH) ⊕ hH) :=
  if (¬ ((rdI p10.2 192 30) ≤ p10.1) ∧ (rdI p10.2 192 28) = (-1 : Int32)) then (
    gd (vp_in g 200) <|
    bP (A := Int32) (
      if (rdI p10.2 209 (Int32.toNatClampNeg g)) = 0 then (
        some (0 : Int32)
      ) else (
        gd (vp_in p10.1 8 ∧ vp_in (rdI p10.2 204 (Int32.toNatClampNeg p10.1)) 200) <|
        if (rdI p10.2 208 (Int32.toNatClampNeg (rdI p10.2 204 (Int32.toNatClampNeg p10.1)))) = 0 then (
          some (0 : Int32)
        ) else (
          some (1 : Int32)
        )
      )
    ) fun p18 =>
    gd (vp_in g 200) <|
    lz (wrI p10.2 209 (Int32.toNatClampNeg g) (p18 &&& 1)) fun h3 =>
    lz (A := Int32) (p10.1 + (1 : Int32)) fun v23 =>
    some (.inl (v23, h3))
  ) else (
    some (.inr p10.2)
  )
noncomputable def awA (p : Int32) (p3 : Int32 × hH) : Option ((Int32 × hH) ⊕ hH) :=
  if (rdI p3.2 192 12) ≤ p3.1 then (
    some (.inr p3.2)
  ) else (
    bS (f_Mo_isGlyph p3.1 p3.2) fun a5 h1 =>
    lz (A := Int32) (if (rdI h1 192 28) = (-1 : Int32) then (if p ≤ 0 then (0 : Int32) else (1 : Int32)) else (1 : Int32)) fun p6 =>
    gd (vp_in p3.1 200) <|
    lz (wrI h1 209 (Int32.toNatClampNeg p3.1) (p6 &&& 1)) fun h2 =>
    bP (A := hH) (wh (A := (Int32 × hH)) (B := hH) (awP p3.1) ((0 : Int32), h2)) fun p11 =>
    lz (A := Int32) (p3.1 + (1 : Int32)) fun v24 =>
    some (.inl (v24, p11))
  )
noncomputable def awC (p26 : Int32 × hH) : Option ((Int32 × hH) ⊕ hH) :=
  if (rdI p26.2 192 12) ≤ p26.1 then (
    some (.inr p26.2)
  ) else (
    gd (vp_in p26.1 200) <|
    lz (wrI p26.2 208 (Int32.toNatClampNeg p26.1) ((rdI p26.2 209 (Int32.toNatClampNeg p26.1)) &&& 1)) fun h4 =>
    lz (A := Int32) (p26.1 + (1 : Int32)) fun v29 =>
    some (.inl (v29, h4))
  )
noncomputable def awD (p1 : Int32 × hH) : Option ((Int32 × hH) ⊕ hH) :=
  if (rdI p1.2 192 19) < p1.1 then (
    some (.inr p1.2)
  ) else (
    bP (A := hH) (wh (A := (Int32 × hH)) (B := hH) (awA p1.1) ((0 : Int32), p1.2)) fun p4 =>
    bP (A := hH) (wh (A := (Int32 × hH)) (B := hH) awC ((0 : Int32), p4)) fun p27 =>
    lz (A := Int32) (p1.1 + (1 : Int32)) fun v31 =>
    some (.inl (v31, p27))
  )
noncomputable def awF (p2 : hH) (p33 : Int32) : Option (Int32 ⊕ (Unit ⊕ (Int32 × hH))) :=
  if (rdI p2 192 12) ≤ p33 then (
    some (.inr (.inl ()))
  ) else (
    gd (vp_in p33 200) <|
    if (rdI p2 208 (Int32.toNatClampNeg p33)) = 0 then (
      some (.inr (.inr ((0 : Int32), p2)))
    ) else (
      lz (A := Int32) (p33 + (1 : Int32)) fun v36 =>
      some (.inl v36)
    )
  )
theorem areWithin_eq0 {h : hH} : f_Mo_areWithin h = bP (A := hH) (wh (A := (Int32 × hH)) (B := hH) awD ((0 : Int32), h)) fun p2 =>
  bE (P := Unit) (X := (Int32 × hH)) (wh (A := Int32) (B := (Unit ⊕ (Int32 × hH))) (awF p2) (0 : Int32)) fun p34 =>
  some ((1 : Int32), p2) := rfl
theorem b01 {x : Int32} (h : x = 0 ∨ x = 1) : x &&& 1 = x := by
  rcases h with rfl | rfl <;> decide
theorem aw_parts {h1 : hH} {g gl : Int32} (v : vp_in g 200) (c28 : rdI h1 192 28 = -1) (k0 : 0 ≤ rdI h1 192 30 ∧ rdI h1 192 30 ≤ 8) (gl1 : gl ≤ 200) (hp : ∀ j, j < (rdI h1 192 30).toNatClampNeg → 0 ≤ rdI h1 204 j ∧ rdI h1 204 j < gl) : ∀ (k : Nat) (i x : Int32), 0 ≤ i → i ≤ rdI h1 192 30 → (rdI h1 192 30).toNatClampNeg - i.toNatClampNeg = k → (x = 0 ∨ x = 1) → ∃ r, wh (awP g) (i, wrI h1 209 g.toNatClampNeg x) = some (wrI h1 209 g.toNatClampNeg r) ∧ ((r = 1 ∧ x = 1 ∧ ∀ j, i.toNatClampNeg ≤ j → j < (rdI h1 192 30).toNatClampNeg → rdI h1 208 (rdI h1 204 j).toNatClampNeg ≠ 0) ∨ (r = 0 ∧ (x = 0 ∨ ∃ j, j < (rdI h1 192 30).toNatClampNeg ∧ rdI h1 208 (rdI h1 204 j).toNatClampNeg = 0))) := by
  have n10 : ¬ (1 : Int32) = 0 := by decide
  intro k
  induction k with
  | zero =>
    intro i x i0 i1 e hx
    have le : rdI h1 192 30 ≤ i := by
      by_cases w : i = rdI h1 192 30
      · rw [w]; exact Int32.le_refl _
      · have := (xI_lt i0 k0.1).mpr (show i < rdI h1 192 30 by grind)
        omega
    refine ⟨x, ?_, ?_⟩
    · rw [wh_eq]
      unfold awP
      dsimp only
      rw [rdI_o (by decide), if_neg (fun w => w.1 le)]
    · rcases hx with rfl | rfl
      · exact Or.inr ⟨rfl, Or.inl rfl⟩
      · exact Or.inl ⟨rfl, rfl, fun j a b => by omega⟩
  | succ k ih =>
    intro i x i0 i1 e hx
    have lt : i < rdI h1 192 30 := by
      by_cases w : i = rdI h1 192 30
      · rw [← w] at e; omega
      · grind
    have lt' := (xI_lt i0 k0.1).mpr lt
    have ii : (i + 1).toNatClampNeg = i.toNatClampNeg + 1 := xI_succ (m := 20000) i0 (by grind) (by decide)
    obtain ⟨q0, q1⟩ := hp _ lt'
    have v2 : vp_in i 8 ∧ vp_in (rdI h1 204 i.toNatClampNeg) 200 := ⟨vp_lt (n := 8) (m := 8) i0 (by grind) rfl, vp_lt (n := 200) (m := 200) q0 (by grind) rfl⟩
    have c30 : ¬ rdI h1 192 30 ≤ i ∧ rdI h1 192 28 = -1 := ⟨Int32.not_le.mpr lt, c28⟩
    generalize hv : rdI h1 208 (rdI h1 204 i.toNatClampNeg).toNatClampNeg = w8
    have x2 : (if x = 0 then (0 : Int32) else (if w8 = 0 then 0 else 1)) = 0 ∨ (if x = 0 then (0 : Int32) else (if w8 = 0 then 0 else 1)) = 1 := by
      split
      · exact Or.inl rfl
      · split
        · exact Or.inl rfl
        · exact Or.inr rfl
    have e209 : rdI (wrI h1 209 g.toNatClampNeg x) 209 g.toNatClampNeg = x := by rw [rdI_wrI, if_pos ⟨rfl, rfl⟩]
    have st : awP g (i, wrI h1 209 g.toNatClampNeg x) = some (.inl (i + 1, wrI h1 209 g.toNatClampNeg (if x = 0 then (0 : Int32) else (if w8 = 0 then 0 else 1)))) := by
      unfold awP
      dsimp only
      rw [rdI_o (show (192 : Nat) ≠ 209 by decide), rdI_o (show (192 : Nat) ≠ 209 by decide), if_pos c30, gd_pos v, e209, rdI_o (show (204 : Nat) ≠ 209 by decide), rdI_o (show (208 : Nat) ≠ 209 by decide), gd_pos v2, hv]
      have eb : (if x = 0 then some (0 : Int32) else (if w8 = 0 then some 0 else some 1)) = some (if x = 0 then (0 : Int32) else (if w8 = 0 then 0 else 1)) := by
        split
        · rfl
        · split <;> rfl
      rw [eb, bP_some, gd_pos v, lz_eq, lz_eq, wrI_wrI, b01 x2]
    obtain ⟨r, er, hr⟩ := ih (i + 1) _ (by grind) (by grind) (by omega) x2
    refine ⟨r, ?_, ?_⟩
    · rw [wh_eq, st]
      exact er
    · rcases hr with ⟨r1, r2, r3⟩ | ⟨r1, r2⟩
      · have hx1 : ¬ x = 0 := fun w => by rw [if_pos w] at r2; exact absurd r2 (by decide)
        have hw : ¬ w8 = 0 := fun w => by rw [if_neg hx1, if_pos w] at r2; exact absurd r2 (by decide)
        refine Or.inl ⟨r1, hx.resolve_left hx1, fun j a b => ?_⟩
        by_cases u : j = i.toNatClampNeg
        · rw [u, hv]; exact hw
        · exact r3 j (by omega) b
      · refine Or.inr ⟨r1, ?_⟩
        rcases r2 with r2 | r2
        · by_cases hx1 : x = 0
          · exact Or.inl hx1
          · rw [if_neg hx1] at r2
            by_cases hw : w8 = 0
            · exact Or.inr ⟨_, lt', by rw [hv]; exact hw⟩
            · rw [if_neg hw] at r2
              exact absurd r2 n10
        · exact Or.inr r2
/-- the model's marks of level p, in a row -/
def MV (m0 m : hH) (o p : Nat) (g : Int32) : Prop := (rdI m o g.toNatClampNeg = 1 ∧ GH m0 p g) ∨ (rdI m o g.toNatClampNeg = 0 ∧ ¬ GH m0 p g)
theorem L_awA {c0 m0 : hH} (fb : BY c0 m0) (fg : FG c0 m0) {p : Int32} (p0 : 0 ≤ p) (gv : ∀ g : Int32, 0 ≤ g → g < rdI c0 4 8 → ∃ mg, f_Mo_isGlyph g m0 = some (1, mg)) : ∀ (k : Nat) (i : Int32) (m : hH), 0 ≤ i → i ≤ rdI c0 4 8 → (rdI c0 4 8).toNatClampNeg - i.toNatClampNeg = k → FrS m0 m → (1 ≤ p → ∀ g : Int32, 0 ≤ g → g < rdI c0 4 8 → MV m0 m 208 (p.toNatClampNeg - 1) g) → (∀ g : Int32, 0 ≤ g → g < i → MV m0 m 209 p.toNatClampNeg g) → ∃ m', wh (awA p) (i, m) = some m' ∧ FrS m0 m' ∧ ∀ g : Int32, 0 ≤ g → g < rdI c0 4 8 → MV m0 m' 209 p.toNatClampNeg g := by
  have fg0 := fg
  obtain ⟨_, ⟨g12, g1, g2⟩, _⟩ := fg
  have n10 : ¬ (1 : Int32) = 0 := by decide
  intro k
  induction k with
  | zero =>
    intro i m i0 i1 e fm h8 h9
    have ei : i = rdI c0 4 8 := by
      by_cases w : i = rdI c0 4 8
      · exact w
      · have := (xI_lt (y := rdI c0 4 8) i0 (by grind)).mpr (by grind)
        omega
    refine ⟨m, ?_, fm, fun g a b => h9 g a (by rw [ei]; exact b)⟩
    rw [wh_eq]
    unfold awA
    dsimp only
    rw [fm.1 192 12 (by omega) (by omega), g12, if_pos (by rw [ei]; exact Int32.le_refl _)]
  | succ k ih =>
    intro i m i0 i1 e fm h8 h9
    have lt : i < rdI c0 4 8 := by
      by_cases w : i = rdI c0 4 8
      · rw [← w] at e; omega
      · grind
    have ii : (i + 1).toNatClampNeg = i.toNatClampNeg + 1 := xI_succ (m := 20000) i0 (by grind) (by decide)
    have v : vp_in i 200 := vp_lt (n := 200) (m := 200) i0 (by grind) rfl
    obtain ⟨mg0, eg0⟩ := gv i i0 lt
    obtain ⟨a, h1, m1, mg, _, e2, e3, _, f2, _, fN, qq⟩ := rd11 (c := c0) fb fg0 FrR_rfl fm i0 lt
    have a1 : a = 1 := by
      rw [eg0] at e3
      exact (congrArg Prod.fst (Option.some.inj e3)).symm
    subst a1
    rcases qq with qq | ⟨_, k9, p30, pg, p28, parts⟩
    · exact absurd qq n10
    have r208 : ∀ j, rdI m1 208 j = rdI m 208 j := fun j => fN.1 208 j (by omega) (by omega)
    have r209 : ∀ j, rdI m1 209 j = rdI m 209 j := fun j => fN.1 209 j (by omega) (by omega)
    have step : ∀ r, awA p (i, m) = some (.inl (i + 1, wrI m1 209 i.toNatClampNeg r)) → ((r = 1 ∧ GH m0 p.toNatClampNeg i) ∨ (r = 0 ∧ ¬ GH m0 p.toNatClampNeg i)) → ∃ m', wh (awA p) (i, m) = some m' ∧ FrS m0 m' ∧ ∀ g : Int32, 0 ≤ g → g < rdI c0 4 8 → MV m0 m' 209 p.toNatClampNeg g := fun r st sn => by
      obtain ⟨m', w1, w2, w3⟩ := ih (i + 1) (wrI m1 209 i.toNatClampNeg r) (by grind) (by grind) (by omega) (FrS_w f2 (Or.inr rfl)) (fun hp g a b => by
          have := h8 hp g a b
          unfold MV at this ⊢
          rw [rdI_o (by decide), r208]
          exact this) (fun g a b => by
          by_cases u : g = i
          · rw [u]
            unfold MV
            rw [rdI_wrI, if_pos ⟨rfl, rfl⟩]
            exact sn
          · have un : ¬ g.toNatClampNeg = i.toNatClampNeg := fun w => u (xI_inj a i0 w)
            have := h9 g a (by grind)
            unfold MV at this ⊢
            rw [rdI_wrI, if_neg (fun w => un w.2), r209]
            exact this)
      refine ⟨m', ?_, w2, w3⟩
      rw [wh_eq, st]
      exact w1
    by_cases q28 : rdI m1 192 28 = -1
    · have c1 : 1 ≤ rdI h1 11 9 := p28.mp q28
      by_cases pz : p ≤ 0
      · have ep : p = 0 := by grind
        obtain ⟨r, er, hr⟩ := aw_parts (h1 := m1) (g := i) (gl := rdI c0 4 8) v q28 (by rw [p30]; exact k9) g2 (fun j hj => by rw [p30] at hj; rw [(parts j hj).1]; exact (parts j hj).2.2) _ 0 0 (by decide) (by rw [p30]; exact k9.1) rfl (Or.inl rfl)
        have r0 : r = 0 := by
          rcases hr with ⟨_, h, _⟩ | ⟨h, _⟩
          · exact absurd h (by decide)
          · exact h
        refine step r ?_ ?_
        · unfold awA
          dsimp only
          rw [fm.1 192 12 (by omega) (by omega), g12, if_neg (Int32.not_le.mpr lt), e2, bS_some, if_pos q28, if_pos pz, lz_eq, gd_pos v, lz_eq, show (0 : Int32) &&& 1 = 0 by decide, er, bP_some, lz_eq]
        · refine Or.inr ⟨r0, fun w => ?_⟩
          rw [ep] at w
          obtain ⟨mx, ex, w⟩ := w
          have : mx = mg := by
            rw [e3] at ex
            exact (congrArg Prod.snd (Option.some.inj ex)).symm
          subst this
          rw [pg] at w
          grind
      · have p1 : 1 ≤ p := by grind
        have pn : 0 < p.toNatClampNeg := (xI_lt (x := 0) (y := p) (by decide) p0).mpr (by grind)
        have m8 := h8 p1
        obtain ⟨r, er, hr⟩ := aw_parts (h1 := m1) (g := i) (gl := rdI c0 4 8) v q28 (by rw [p30]; exact k9) g2 (fun j hj => by rw [p30] at hj; rw [(parts j hj).1]; exact (parts j hj).2.2) _ 0 1 (by decide) (by rw [p30]; exact k9.1) rfl (Or.inr rfl)
        have pq : ∀ j, j < (rdI h1 11 9).toNatClampNeg → (rdI m1 208 (rdI m1 204 j).toNatClampNeg ≠ 0 ↔ GH m0 (p.toNatClampNeg - 1) (rdI h1 17 j)) := fun j hj => by
          obtain ⟨b1, _, b2, b3⟩ := parts j hj
          rw [b1, r208]
          rcases m8 _ b2 b3 with ⟨u1, u2⟩ | ⟨u1, u2⟩
          · rw [u1]
            exact ⟨fun _ => u2, fun _ => n10⟩
          · rw [u1]
            exact ⟨fun w => absurd rfl w, fun w => absurd w u2⟩
        have ghp : GH m0 p.toNatClampNeg i ↔ ∀ j, j < (rdI h1 11 9).toNatClampNeg → GH m0 (p.toNatClampNeg - 1) (rdI h1 17 j) := by
          have ep : p.toNatClampNeg = (p.toNatClampNeg - 1) + 1 := by omega
          constructor
          · intro w
            rw [ep] at w
            obtain ⟨mx, ex, w⟩ := w
            have : mx = mg := by
              rw [e3] at ex
              exact (congrArg Prod.snd (Option.some.inj ex)).symm
            subst this
            rw [pg] at w
            intro j hj
            have := w j hj
            rw [(parts j hj).2.1] at this
            exact this
          · intro w
            rw [ep]
            refine ⟨mg, e3, fun j hj => ?_⟩
            rw [pg] at hj
            rw [(parts j hj).2.1]
            exact w j hj
        refine step r ?_ ?_
        · unfold awA
          dsimp only
          rw [fm.1 192 12 (by omega) (by omega), g12, if_neg (Int32.not_le.mpr lt), e2, bS_some, if_pos q28, if_neg pz, lz_eq, gd_pos v, lz_eq, show (1 : Int32) &&& 1 = 1 by decide, er, bP_some, lz_eq]
        · rw [p30] at hr
          rcases hr with ⟨h, _, h3⟩ | ⟨h, h3⟩
          · refine Or.inl ⟨h, ghp.mpr (fun j hj => (pq j hj).mp (h3 j (Nat.zero_le _) hj))⟩
          · refine Or.inr ⟨h, fun w => ?_⟩
            rcases h3 with h3 | ⟨j, hj, h3⟩
            · exact absurd h3 n10
            · exact (pq j hj).mpr (ghp.mp w j hj) h3
    · have c0' : rdI h1 11 9 = 0 := by
        have : ¬ 1 ≤ rdI h1 11 9 := fun w => q28 (p28.mpr w)
        have := k9.1
        grind
      have wp : wh (awP i) ((0 : Int32), wrI m1 209 i.toNatClampNeg 1) = some (wrI m1 209 i.toNatClampNeg 1) := by
        rw [wh_eq]
        unfold awP
        dsimp only
        rw [rdI_o (show (192 : Nat) ≠ 209 by decide), rdI_o (show (192 : Nat) ≠ 209 by decide), if_neg (fun w => q28 w.2)]
      refine step 1 ?_ ?_
      · unfold awA
        dsimp only
        rw [fm.1 192 12 (by omega) (by omega), g12, if_neg (Int32.not_le.mpr lt), e2, bS_some, if_neg q28, lz_eq, gd_pos v, lz_eq, show (1 : Int32) &&& 1 = 1 by decide, wp, bP_some, lz_eq]
      · refine Or.inl ⟨rfl, GH_mono (Nat.zero_le _) ⟨mg, e3, ?_⟩⟩
        rw [pg, c0']
        decide
theorem L_awC {m : hH} {gl : Int32} (e12 : rdI m 192 12 = gl) (g0 : 0 ≤ gl) (g2 : gl ≤ 200) : wh awC ((0 : Int32), m) = some (flI m 208 gl.toNatClampNeg (fun k => rdI m 209 k &&& 1)) := by
  refine wh_fill (n := gl) ⟨g0, by grind⟩ (fun k => flI m 208 k (fun k => rdI m 209 k &&& 1)) flI_0 ?_ ?_
  · unfold awC
    dsimp only
    rw [rdI_fo (by decide), e12, if_pos (Int32.le_refl _)]
  · intro i i0 i1
    have v : vp_in i 200 := vp_lt (n := 200) (m := 200) i0 (by grind) rfl
    unfold awC
    dsimp only
    rw [rdI_fo (by decide), e12, if_neg (Int32.not_le.mpr i1), gd_pos v, rdI_fo (by decide), lz_eq, lz_eq, flI_s' rfl]
theorem L_awD {c0 m0 : hH} (fb : BY c0 m0) (fg : FG c0 m0) (k19 : rdI m0 192 19 = rdI c0 4 15) (k0 : 0 ≤ rdI c0 4 15 ∧ rdI c0 4 15 ≤ 4) (gv : ∀ g : Int32, 0 ≤ g → g < rdI c0 4 8 → ∃ mg, f_Mo_isGlyph g m0 = some (1, mg)) : ∀ (k : Nat) (p : Int32) (m : hH), 0 ≤ p → p ≤ rdI c0 4 15 + 1 → (rdI c0 4 15).toNatClampNeg + 1 - p.toNatClampNeg = k → FrS m0 m → (1 ≤ p → ∀ g : Int32, 0 ≤ g → g < rdI c0 4 8 → MV m0 m 208 (p.toNatClampNeg - 1) g) → ∃ m', wh awD (p, m) = some m' ∧ FrS m0 m' ∧ ∀ g : Int32, 0 ≤ g → g < rdI c0 4 8 → MV m0 m' 208 (rdI c0 4 15).toNatClampNeg g := by
  have kk : (rdI c0 4 15 + 1).toNatClampNeg = (rdI c0 4 15).toNatClampNeg + 1 := xI_succ (m := 20000) k0.1 (by grind) (by decide)
  have fg0 := fg
  obtain ⟨_, ⟨g12, g1, g2⟩, _⟩ := fg
  intro k
  induction k with
  | zero =>
    intro p m p0 p2 e fm mv
    have ep : p = rdI c0 4 15 + 1 := by
      by_cases w : p = rdI c0 4 15 + 1
      · exact w
      · have := (xI_lt (x := p) (y := rdI c0 4 15 + 1) p0 (by grind)).mpr (by grind)
        omega
    refine ⟨m, ?_, fm, fun g a b => ?_⟩
    · rw [wh_eq]
      unfold awD
      dsimp only
      rw [fm.1 192 19 (by omega) (by omega), k19, if_pos (by grind)]
    · have := mv (by grind) g a b
      rw [ep, kk, Nat.add_sub_cancel] at this
      exact this
  | succ k ih =>
    intro p m p0 p2 e fm mv
    have le : p ≤ rdI c0 4 15 := by
      by_cases w : p = rdI c0 4 15 + 1
      · rw [w, kk] at e; omega
      · grind
    have pp : (p + 1).toNatClampNeg = p.toNatClampNeg + 1 := xI_succ (m := 20000) p0 (by grind) (by decide)
    obtain ⟨m1, w1, w2, w3⟩ := L_awA fb fg0 p0 gv _ 0 m (by decide) (by grind) rfl fm mv (fun g a b => absurd b (Int32.not_lt.mpr a))
    have e12 : rdI m1 192 12 = rdI c0 4 8 := (w2.1 192 12 (by omega) (by omega)).trans g12
    have wC := L_awC e12 (by grind) g2
    have fm2 : FrS m0 (flI m1 208 (rdI c0 4 8).toNatClampNeg (fun k => rdI m1 209 k &&& 1)) := ⟨fun o k a b => (rdI_fo (by omega)).trans (w2.1 o k a b), w2.2.1, w2.2.2⟩
    obtain ⟨m2, x1, x2, x3⟩ := ih (p + 1) (flI m1 208 (rdI c0 4 8).toNatClampNeg (fun k => rdI m1 209 k &&& 1)) (by grind) (by grind) (by omega) fm2 (fun _ g a b => by
      rw [pp, Nat.add_sub_cancel]
      have := w3 g a b
      unfold MV at this ⊢
      rw [rdI_flI, if_pos ⟨rfl, (xI_lt a (by grind)).mpr b⟩]
      rcases this with ⟨u1, u2⟩ | ⟨u1, u2⟩
      · rw [u1]; exact Or.inl ⟨by decide, u2⟩
      · rw [u1]; exact Or.inr ⟨by decide, u2⟩)
    refine ⟨m2, ?_, x2, x3⟩
    rw [wh_eq]
    have : awD (p, m) = some (.inl (p + 1, flI m1 208 (rdI c0 4 8).toNatClampNeg (fun k => rdI m1 209 k &&& 1))) := by
      unfold awD
      dsimp only
      rw [fm.1 192 19 (by omega) (by omega), k19, if_neg (Int32.not_lt.mpr le), w1, bP_some, wC, bP_some, lz_eq]
    rw [this]
    exact x1
/-- heights, on both sides -/
theorem L_heights {c0 m0 c m : hH} (fb : BY c0 m0) (fg : FG c0 m0) (k19 : rdI m0 192 19 = rdI c0 4 15) (k0 : 0 ≤ rdI c0 4 15 ∧ rdI c0 4 15 ≤ 4) (fc : FrR c0 c) (fm : FrS m0 m) (gv : GV m0 c (rdI c0 4 8).toNatClampNeg) : ∃ a c' m', (bP (A := hH) (wh (A := (Int32 × hH)) (B := hH) glD ((1 : Int32), c)) fun p11 => bP (A := Int32) (wh (A := (Int32 × Int32)) (B := Int32) (glF p11) ((1 : Int32), (0 : Int32))) fun p29 => gd ((p29 = 0 ∨ p29 = 1)) <| some (p29, p11)) = some (a, c') ∧ f_Mo_areWithin m = some (a, m') ∧ FrR c0 c' ∧ FrS m0 m' ∧ (a = 0 ∨ (a = 1 ∧ ∀ g : Int32, 0 ≤ g → g < rdI c0 4 8 → GH m0 5 g)) := by
  have fg0 := fg
  obtain ⟨_, ⟨g12, g1, g2⟩, _⟩ := fg
  have n10 : ¬ (1 : Int32) = 0 := by decide
  have g0 : 0 ≤ rdI c0 4 8 := by grind
  have K4 : (rdI c0 4 15).toNatClampNeg ≤ 5 := Nat.le_trans (xI_le (n := 4) k0.2 rfl) (by decide)
  have gv' : ∀ g : Int32, 0 ≤ g → g < rdI c0 4 8 → ∃ mg, f_Mo_isGlyph g m0 = some (1, mg) := fun g a b => by
    obtain ⟨mg, e, _⟩ := gv g a ((xI_lt a g0).mpr b)
    exact ⟨mg, e⟩
  have sv0 : ∀ g : Int32, 0 ≤ g → g < rdI c0 4 8 → SV m0 c ((1 : Int32).toNatClampNeg - 1) g := fun g a b => by
    obtain ⟨mg, e, h⟩ := gv g a ((xI_lt a g0).mpr b)
    obtain ⟨aa, h1, m1, mg2, _, _, e3, _, _, _, _, qq⟩ := rd11 (c := c0) (m := m0) fb fg0 FrR_rfl FrS_rfl a b
    rw [e] at e3
    have e4 := Option.some.inj e3
    have a1 : aa = 1 := (congrArg Prod.fst e4).symm
    have mm : mg2 = mg := (congrArg Prod.snd e4).symm
    subst mm
    subst a1
    rcases qq with qq | ⟨_, k9, _, pg, _, _⟩
    · exact absurd qq n10
    show SV m0 c 0 g
    unfold SV
    rw [h]
    by_cases q : rdI mg2 192 30 = 0
    · rw [if_pos q]
      refine Or.inr ⟨by decide, Nat.le_refl _, ⟨mg2, e, by rw [q]; decide⟩, fun n hn => absurd hn (Nat.not_lt_zero _)⟩
    · rw [if_neg q]
      refine Or.inl ⟨rfl, fun w => ?_⟩
      obtain ⟨mx, ex, w⟩ := w
      have : mx = mg2 := by
        rw [e] at ex
        exact (congrArg Prod.snd (Option.some.inj ex)).symm
      subst this
      have := k9.1
      rw [← pg] at this
      grind
  obtain ⟨c', w1, w2, w3⟩ := L_levs fb fg0 k0 gv' _ 1 c (by decide) (by grind) rfl fc sv0
  obtain ⟨m', x1, x2, x3⟩ := L_awD fb fg0 k19 k0 gv' _ 0 m (by decide) (by grind) rfl fm (fun w => absurd w (by decide))
  have e8 : rdI c' 4 8 = rdI c0 4 8 := w2.1 4 8 (by omega)
  have e12 : rdI m' 192 12 = rdI c0 4 8 := (x2.1 192 12 (by omega) (by omega)).trans g12
  rw [areWithin_eq0, w1, x1, bP_some, bP_some]
  have fe := wh_two (f := awF m') (g := awF m') (P := fun g => rdI m' 208 g.toNatClampNeg ≠ 0) (a := 0) (n := rdI c0 4 8) (x := ((0 : Int32), m')) (y := ((0 : Int32), m')) (by decide) g0 (by grind) (fun p hp => by unfold awF; rw [e12, if_pos hp]) (fun p hp => by unfold awF; rw [e12, if_pos hp]) (fun p p0 p1 => by
    have v : vp_in p 200 := vp_lt (n := 200) (m := 200) p0 (by grind) rfl
    unfold awF
    rw [e12, if_neg (Int32.not_le.mpr p1), gd_pos v]
    by_cases q : rdI m' 208 p.toNatClampNeg = 0
    · rw [if_pos q]; exact Or.inr ⟨rfl, rfl⟩
    · rw [if_neg q]; exact Or.inl ⟨q, rfl, rfl⟩)
  rcases glF_eq e8 g0 g2 with ⟨u1, u2⟩ | ⟨u1, g, ga, gb, u2⟩
  · rw [u1, bP_some, gd_pos (Or.inr rfl)]
    have all : ∀ g : Int32, 0 ≤ g → g < rdI c0 4 8 → GH m0 (rdI c0 4 15).toNatClampNeg g := fun g a b => by
      rcases w3 g a b with ⟨s1, _⟩ | ⟨_, s2, s3, _⟩
      · exact absurd s1 (u2 g a b)
      · exact GH_mono s2 s3
    rcases fe with ⟨f1, _, _⟩ | ⟨f1, _⟩
    · rw [f1]
      exact ⟨1, c', m', rfl, rfl, w2, x2, Or.inr ⟨rfl, fun g a b => GH_mono K4 (all g a b)⟩⟩
    · exfalso
      have key : ∀ (k : Nat) (i : Int32), 0 ≤ i → i ≤ rdI c0 4 8 → (rdI c0 4 8).toNatClampNeg - i.toNatClampNeg = k → wh (awF m') i = some (.inl ()) := by
        intro k
        induction k with
        | zero =>
          intro i i0 i1 e
          have le : rdI c0 4 8 ≤ i := by
            by_cases w : i = rdI c0 4 8
            · rw [w]; exact Int32.le_refl _
            · have := (xI_lt i0 g0).mpr (show i < rdI c0 4 8 by grind)
              omega
          rw [wh_eq]
          unfold awF
          rw [e12, if_pos le]
        | succ k ih =>
          intro i i0 i1 e
          have lt : i < rdI c0 4 8 := by
            by_cases w : i = rdI c0 4 8
            · rw [← w] at e; omega
            · grind
          have ii : (i + 1).toNatClampNeg = i.toNatClampNeg + 1 := xI_succ (m := 20000) i0 (by grind) (by decide)
          have v : vp_in i 200 := vp_lt (n := 200) (m := 200) i0 (by grind) rfl
          have ne : ¬ rdI m' 208 i.toNatClampNeg = 0 := by
            rcases x3 i i0 lt with ⟨y1, _⟩ | ⟨_, y2⟩
            · rw [y1]; decide
            · exact absurd (all i i0 lt) y2
          rw [wh_eq]
          have : awF m' i = some (.inl (i + 1)) := by
            unfold awF
            rw [e12, if_neg (Int32.not_le.mpr lt), gd_pos v, if_neg ne, lz_eq]
          rw [this]
          exact ih (i + 1) (by grind) (by grind) (by omega)
      have := key _ 0 (by decide) g0 rfl
      rw [this] at f1
      cases f1
  · rw [u1, bP_some, gd_pos (Or.inl rfl)]
    have ng : ¬ GH m0 (rdI c0 4 15).toNatClampNeg g := by
      rcases w3 g ga gb with ⟨_, s2⟩ | ⟨s1, _⟩
      · exact s2
      · rw [u2] at s1; exact absurd s1 (by decide)
    rcases fe with ⟨_, _, f3⟩ | ⟨f1, _⟩
    · exfalso
      rcases x3 g ga gb with ⟨_, y2⟩ | ⟨y1, _⟩
      · exact ng y2
      · exact f3 g ga gb y1
    · rw [f1]
      exact ⟨0, c', m', rfl, rfl, w2, x2, Or.inl rfl⟩
