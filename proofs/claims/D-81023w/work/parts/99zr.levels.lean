/-! LAYER 3BZ: heights of glyphs, the component's side -/
theorem GH_up {m : hH} : ∀ (n : Nat) (g : Int32), GH m n g → GH m (n + 1) g := by
  intro n
  induction n with
  | zero =>
    intro g h
    obtain ⟨a, e, q⟩ := h
    refine ⟨a, e, fun j hj => ?_⟩
    have z : (rdI a 192 30).toNatClampNeg = 0 := by
      have := xI_mono q
      have z0 : (0 : Int32).toNatClampNeg = 0 := rfl
      omega
    omega
  | succ n ih =>
    intro g h
    obtain ⟨a, e, q⟩ := h
    exact ⟨a, e, fun j hj => ih _ (q j hj)⟩
theorem GH_le {m : hH} {g : Int32} : ∀ (k n : Nat), GH m n g → GH m (n + k) g := by
  intro k
  induction k with
  | zero => intro n h; exact h
  | succ k ih => intro n h; exact GH_up _ _ (ih n h)
theorem GH_mono {m : hH} {g : Int32} {a b : Nat} (h : a ≤ b) (q : GH m a g) : GH m b g := by
  have := GH_le (b - a) a q
  rw [show a + (b - a) = b by omega] at this
  exact this
/-- the height of a glyph, as the component keeps it, behind level p -/
def SV (m0 c : hH) (p : Nat) (g : Int32) : Prop := (rdI c 21 g.toNatClampNeg = -1 ∧ ¬ GH m0 p g) ∨ (0 ≤ rdI c 21 g.toNatClampNeg ∧ (rdI c 21 g.toNatClampNeg).toNatClampNeg ≤ p ∧ GH m0 (rdI c 21 g.toNatClampNeg).toNatClampNeg g ∧ ∀ n, n < (rdI c 21 g.toNatClampNeg).toNatClampNeg → ¬ GH m0 n g)
theorem SV_iff {m0 c : hH} {p : Int32} {q : Nat} {g : Int32} (p1 : 1 ≤ p) (hq : q = p.toNatClampNeg ∨ q + 1 = p.toNatClampNeg) (s : SV m0 c q g) : (rdI c 21 g.toNatClampNeg ≠ -1 ∧ rdI c 21 g.toNatClampNeg < p) ↔ GH m0 (p.toNatClampNeg - 1) g := by
  have p0 : 0 ≤ p := Int32.le_trans (by decide) p1
  have pn : 0 < p.toNatClampNeg := (xI_lt (x := 0) (y := p) (by decide) p0).mpr (by grind)
  rcases s with ⟨s1, s2⟩ | ⟨s1, s2, s3, s4⟩
  · constructor
    · intro w
      exact absurd s1 w.1
    · intro w
      exact absurd (GH_mono (by omega) w) s2
  · constructor
    · intro w
      have := (xI_lt s1 p0).mpr w.2
      exact GH_mono (by omega) s3
    · intro w
      refine ⟨fun u => by rw [u] at s1; exact absurd s1 (by decide), (xI_lt s1 p0).mp ?_⟩
      by_cases u : (rdI c 21 g.toNatClampNeg).toNatClampNeg < p.toNatClampNeg
      · exact u
      · exact absurd w (s4 _ (by omega))
noncomputable def ibL (x2 : Int32) (h1 : hH) (p2 : Int32 × Int32) : Option ((Int32 × Int32) ⊕ Int32) :=
  if (rdI h1 11 9) ≤ p2.2 then (
    some (.inr p2.1)
  ) else (
    gd (vp_in p2.2 8 ∧ vp_in (rdI h1 17 (Int32.toNatClampNeg p2.2)) 200) <|
    lz (A := Int32) (rdI h1 21 (Int32.toNatClampNeg (rdI h1 17 (Int32.toNatClampNeg p2.2)))) fun v4 =>
    lz (A := Int32) (if p2.1 = 0 then (0 : Int32) else (if v4 = (-1 : Int32) then (0 : Int32) else (if x2 ≤ v4 then (0 : Int32) else (1 : Int32)))) fun p6 =>
    lz (A := Int32) (p2.2 + (1 : Int32)) fun v10 =>
    some (.inl (p6, v10))
  )
theorem isBelow_eq0 {x1 x2 : Int32} {h : hH} : f_Fo_isBelow x1 x2 h = bS (f_Fo_read x1 11 h) fun a1 h1 => bP (A := Int32) (wh (A := (Int32 × Int32)) (B := Int32) (ibL x2 h1) (a1, (0 : Int32))) fun p3 => gd ((p3 = 0 ∨ p3 = 1)) <| some (p3, h1) := rfl
theorem ib_eq {x2 : Int32} {h1 : hH} {gl : Int32} (k0 : 0 ≤ rdI h1 11 9 ∧ rdI h1 11 9 ≤ 8) (gl1 : gl ≤ 200) (hp : ∀ j, j < (rdI h1 11 9).toNatClampNeg → 0 ≤ rdI h1 17 j ∧ rdI h1 17 j < gl) : (wh (ibL x2 h1) (1, 0) = some 1 ∧ ∀ j, j < (rdI h1 11 9).toNatClampNeg → rdI h1 21 (rdI h1 17 j).toNatClampNeg ≠ -1 ∧ rdI h1 21 (rdI h1 17 j).toNatClampNeg < x2) ∨ (wh (ibL x2 h1) (1, 0) = some 0 ∧ ∃ j, j < (rdI h1 11 9).toNatClampNeg ∧ ¬ (rdI h1 21 (rdI h1 17 j).toNatClampNeg ≠ -1 ∧ rdI h1 21 (rdI h1 17 j).toNatClampNeg < x2)) := by
  have z0 : (0 : Int32).toNatClampNeg = 0 := rfl
  have n10 : ¬ (1 : Int32) = 0 := by decide
  have key : ∀ (k : Nat) (i f : Int32), 0 ≤ i → i ≤ rdI h1 11 9 → (rdI h1 11 9).toNatClampNeg - i.toNatClampNeg = k → (f = 0 ∨ f = 1) → (wh (ibL x2 h1) (f, i) = some 1 ∧ f = 1 ∧ ∀ j, i.toNatClampNeg ≤ j → j < (rdI h1 11 9).toNatClampNeg → rdI h1 21 (rdI h1 17 j).toNatClampNeg ≠ -1 ∧ rdI h1 21 (rdI h1 17 j).toNatClampNeg < x2) ∨ (wh (ibL x2 h1) (f, i) = some 0 ∧ (f = 0 ∨ ∃ j, j < (rdI h1 11 9).toNatClampNeg ∧ ¬ (rdI h1 21 (rdI h1 17 j).toNatClampNeg ≠ -1 ∧ rdI h1 21 (rdI h1 17 j).toNatClampNeg < x2))) := by
    intro k
    induction k with
    | zero =>
      intro i f i0 i1 e hf
      have le : rdI h1 11 9 ≤ i := by
        by_cases w : i = rdI h1 11 9
        · rw [w]; exact Int32.le_refl _
        · have := (xI_lt i0 k0.1).mpr (show i < rdI h1 11 9 by grind)
          omega
      have w : wh (ibL x2 h1) (f, i) = some f := by
        rw [wh_eq]
        unfold ibL
        dsimp only
        rw [if_pos le]
      rcases hf with rfl | rfl
      · exact Or.inr ⟨w, Or.inl rfl⟩
      · exact Or.inl ⟨w, rfl, fun j a b => by omega⟩
    | succ k ih =>
      intro i f i0 i1 e hf
      have lt : i < rdI h1 11 9 := by
        by_cases w : i = rdI h1 11 9
        · rw [← w] at e; omega
        · grind
      have lt' := (xI_lt i0 k0.1).mpr lt
      have ii : (i + 1).toNatClampNeg = i.toNatClampNeg + 1 := xI_succ (m := 20000) i0 (by grind) (by decide)
      obtain ⟨q0, q1⟩ := hp _ lt'
      have v : vp_in i 8 ∧ vp_in (rdI h1 17 i.toNatClampNeg) 200 := ⟨vp_lt (n := 8) (m := 8) i0 (by grind) rfl, vp_lt (n := 200) (m := 200) q0 (by grind) rfl⟩
      generalize hv : rdI h1 21 (rdI h1 17 i.toNatClampNeg).toNatClampNeg = v4
      have st : ibL x2 h1 (f, i) = some (.inl (if f = 0 then 0 else (if v4 = -1 then 0 else (if x2 ≤ v4 then 0 else 1)), i + 1)) := by
        unfold ibL
        dsimp only
        rw [if_neg (Int32.not_le.mpr lt), gd_pos v, lz_eq, lz_eq, lz_eq, hv]
      have w : wh (ibL x2 h1) (f, i) = wh (ibL x2 h1) (if f = 0 then 0 else (if v4 = -1 then 0 else (if x2 ≤ v4 then 0 else 1)), i + 1) := by rw [wh_eq, st]
      rw [w]
      have bad : ∀ f', f' = 0 → (f = 0 ∨ ¬ (v4 ≠ -1 ∧ v4 < x2)) → (wh (ibL x2 h1) (f', i + 1) = some 1 ∧ f = 1 ∧ ∀ j, i.toNatClampNeg ≤ j → j < (rdI h1 11 9).toNatClampNeg → rdI h1 21 (rdI h1 17 j).toNatClampNeg ≠ -1 ∧ rdI h1 21 (rdI h1 17 j).toNatClampNeg < x2) ∨ (wh (ibL x2 h1) (f', i + 1) = some 0 ∧ (f = 0 ∨ ∃ j, j < (rdI h1 11 9).toNatClampNeg ∧ ¬ (rdI h1 21 (rdI h1 17 j).toNatClampNeg ≠ -1 ∧ rdI h1 21 (rdI h1 17 j).toNatClampNeg < x2))) := fun f' ef hh => by
        rcases ih (i + 1) f' (by grind) (by grind) (by omega) (Or.inl ef) with ⟨_, s2, _⟩ | ⟨s1, _⟩
        · rw [ef] at s2; exact absurd s2 (by decide)
        · refine Or.inr ⟨s1, ?_⟩
          rcases hh with hh | hh
          · exact Or.inl hh
          · exact Or.inr ⟨_, lt', by rw [hv]; exact hh⟩
      rcases hf with rfl | rfl
      · rw [if_pos rfl]
        exact bad 0 rfl (Or.inl rfl)
      · rw [if_neg n10]
        by_cases u1 : v4 = -1
        · rw [if_pos u1]
          exact bad 0 rfl (Or.inr (fun w => w.1 u1))
        · rw [if_neg u1]
          by_cases u2 : x2 ≤ v4
          · rw [if_pos u2]
            exact bad 0 rfl (Or.inr (fun w => absurd w.2 (Int32.not_lt.mpr u2)))
          · rw [if_neg u2]
            rcases ih (i + 1) 1 (by grind) (by grind) (by omega) (Or.inr rfl) with ⟨s1, _, s3⟩ | ⟨s1, s2⟩
            · refine Or.inl ⟨s1, rfl, fun j a b => ?_⟩
              by_cases w : j = i.toNatClampNeg
              · rw [w, hv]; exact ⟨u1, Int32.not_le.mp u2⟩
              · exact s3 j (by omega) b
            · refine Or.inr ⟨s1, ?_⟩
              rcases s2 with s2 | s2
              · exact absurd s2 (by decide)
              · exact Or.inr s2
  rcases key _ 0 1 (by decide) k0.1 rfl (Or.inr rfl) with ⟨s1, _, s3⟩ | ⟨s1, s2⟩
  · exact Or.inl ⟨s1, fun j hj => s3 j (by omega) hj⟩
  · refine Or.inr ⟨s1, ?_⟩
    rcases s2 with s2 | s2
    · exact absurd s2 (by decide)
    · exact s2
noncomputable def glB (p10 : Int32) (p12 : Int32 × hH) : Option ((Int32 × hH) ⊕ hH) :=
  if (rdI p12.2 4 8) ≤ p12.1 then (
    some (.inr p12.2)
  ) else (
    gd (vp_in p12.1 200) <|
    bP (A := (Int32 × hH)) (
      cS (
        if (rdI p12.2 21 (Int32.toNatClampNeg p12.1)) = (-1 : Int32) then (
          bS (f_Fo_isBelow p12.1 p10 p12.2) fun a16 h3 =>
          if a16 = 0 then (
            some (false, h3)
          ) else (
            some (true, h3)
          )
        ) else (
          some (false, p12.2)
        )
      ) (fun h5 =>
        some (p10, h5)
      ) (fun h5 =>
        gd (vp_in p12.1 200) <|
        some ((rdI h5 21 (Int32.toNatClampNeg p12.1)), h5)
      )
    ) fun p15 =>
    gd (vp_in p12.1 200) <|
    lz (wrI p15.2 21 (Int32.toNatClampNeg p12.1) p15.1) fun h6 =>
    lz (A := Int32) (p12.1 + (1 : Int32)) fun v24 =>
    some (.inl (v24, h6))
  )
theorem L_lev {c0 m0 : hH} (fb : BY c0 m0) (fg : FG c0 m0) {p : Int32} (p1 : 1 ≤ p) (gv : ∀ g : Int32, 0 ≤ g → g < rdI c0 4 8 → ∃ mg, f_Mo_isGlyph g m0 = some (1, mg)) : ∀ (k : Nat) (i : Int32) (c : hH), 0 ≤ i → i ≤ rdI c0 4 8 → (rdI c0 4 8).toNatClampNeg - i.toNatClampNeg = k → FrR c0 c → (∀ g : Int32, 0 ≤ g → g < rdI c0 4 8 → (g < i → SV m0 c p.toNatClampNeg g) ∧ (i ≤ g → SV m0 c (p.toNatClampNeg - 1) g)) → ∃ c', wh (glB p) (i, c) = some c' ∧ FrR c0 c' ∧ ∀ g : Int32, 0 ≤ g → g < rdI c0 4 8 → SV m0 c' p.toNatClampNeg g := by
  have fg0 := fg
  obtain ⟨_, ⟨_, g1, g2⟩, _⟩ := fg
  have p0 : 0 ≤ p := Int32.le_trans (by decide) p1
  have pn : 0 < p.toNatClampNeg := (xI_lt (x := 0) (y := p) (by decide) p0).mpr (by grind)
  have n10 : ¬ (1 : Int32) = 0 := by decide
  intro k
  induction k with
  | zero =>
    intro i c i0 i1 e fc sv
    have ei : i = rdI c0 4 8 := by
      by_cases w : i = rdI c0 4 8
      · exact w
      · have := (xI_lt (y := rdI c0 4 8) i0 (by grind)).mpr (by grind)
        omega
    refine ⟨c, ?_, fc, fun g a b => (sv g a b).1 (by rw [ei]; exact b)⟩
    rw [wh_eq]
    unfold glB
    dsimp only
    rw [fc.1 4 8 (by omega), if_pos (by rw [ei]; exact Int32.le_refl _)]
  | succ k ih =>
    intro i c i0 i1 e fc sv
    have lt : i < rdI c0 4 8 := by
      by_cases w : i = rdI c0 4 8
      · rw [← w] at e; omega
      · grind
    have ii : (i + 1).toNatClampNeg = i.toNatClampNeg + 1 := xI_succ (m := 20000) i0 (by grind) (by decide)
    have v : vp_in i 200 := vp_lt (n := 200) (m := 200) i0 (by grind) rfl
    have si := (sv i i0 lt).2 (Int32.le_refl _)
    have step : ∀ (h : hH) (x : Int32), FrR c0 h → (∀ k, rdI h 21 k = rdI c 21 k) → glB p (i, c) = some (.inl (i + 1, wrI h 21 i.toNatClampNeg x)) → SV m0 (wrI h 21 i.toNatClampNeg x) p.toNatClampNeg i → ∃ c', wh (glB p) (i, c) = some c' ∧ FrR c0 c' ∧ ∀ g : Int32, 0 ≤ g → g < rdI c0 4 8 → SV m0 c' p.toNatClampNeg g := fun h x fh h21 st sn => by
      obtain ⟨c', w1, w2, w3⟩ := ih (i + 1) (wrI h 21 i.toNatClampNeg x) (by grind) (by grind) (by omega) (FrR_21 fh) (fun g a b => by
        by_cases u : g = i
        · rw [u]
          exact ⟨fun _ => sn, fun w => absurd w (by grind)⟩
        · have un : ¬ g.toNatClampNeg = i.toNatClampNeg := fun w => u (xI_inj a i0 w)
          have r : rdI (wrI h 21 i.toNatClampNeg x) 21 g.toNatClampNeg = rdI c 21 g.toNatClampNeg := by
            rw [rdI_wrI, if_neg (fun w => un w.2), h21]
          have := sv g a b
          unfold SV at this ⊢
          rw [r]
          exact ⟨fun w => this.1 (by grind), fun w => this.2 (by grind)⟩)
      refine ⟨c', ?_, w2, w3⟩
      rw [wh_eq, st]
      exact w1
    by_cases q : rdI c 21 i.toNatClampNeg = -1
    · have ng : ¬ GH m0 (p.toNatClampNeg - 1) i := by
        rcases si with ⟨_, s2⟩ | ⟨s1, _⟩
        · exact s2
        · rw [q] at s1; exact absurd s1 (by decide)
      obtain ⟨mg0, eg0⟩ := gv i i0 lt
      obtain ⟨a, h1, m1, mg, e1, _, e3, f1, _, r21, _, qq⟩ := rd11 fb fg0 fc FrS_rfl i0 lt
      have a1 : a = 1 := by
        rw [eg0] at e3
        exact (congrArg Prod.fst (Option.some.inj e3)).symm
      subst a1
      rcases qq with qq | ⟨_, k9, _, pg, _, parts⟩
      · exact absurd qq n10
      have ib := ib_eq (x2 := p) (h1 := h1) (gl := rdI c0 4 8) k9 g2 (fun j hj => (parts j hj).2.2)
      have pq : ∀ j, j < (rdI h1 11 9).toNatClampNeg → ((rdI h1 21 (rdI h1 17 j).toNatClampNeg ≠ -1 ∧ rdI h1 21 (rdI h1 17 j).toNatClampNeg < p) ↔ GH m0 (p.toNatClampNeg - 1) (rdI h1 17 j)) := fun j hj => by
        obtain ⟨_, _, b0, b1⟩ := parts j hj
        rw [r21]
        have := sv _ b0 b1
        by_cases u : rdI h1 17 j < i
        · exact SV_iff p1 (Or.inl rfl) (this.1 u)
        · exact SV_iff p1 (Or.inr (by omega)) (this.2 (Int32.not_lt.mp u))
      have ghp : GH m0 p.toNatClampNeg i ↔ ∀ j, j < (rdI h1 11 9).toNatClampNeg → GH m0 (p.toNatClampNeg - 1) (rdI h1 17 j) := by
        have ep : p.toNatClampNeg = (p.toNatClampNeg - 1) + 1 := by omega
        constructor
        · intro w
          rw [ep] at w
          obtain ⟨mx, ex, w⟩ := w
          have : mx = mg := by
            rw [e3] at ex
            exact (congrArg Prod.snd (Option.some.inj ex)).symm
          subst this
          rw [pg] at w
          intro j hj
          have := w j hj
          rw [(parts j hj).2.1] at this
          exact this
        · intro w
          rw [ep]
          refine ⟨mg, e3, fun j hj => ?_⟩
          rw [pg] at hj
          rw [(parts j hj).2.1]
          exact w j hj
      rcases ib with ⟨w1, w2⟩ | ⟨w1, j, wj, w2⟩
      · have eb : f_Fo_isBelow i p c = some (1, h1) := by
          rw [isBelow_eq0, e1, bS_some, w1, bP_some, gd_pos (Or.inr rfl)]
        refine step h1 p f1 r21 ?_ ?_
        · unfold glB
          dsimp only
          rw [fc.1 4 8 (by omega), if_neg (Int32.not_le.mpr lt), gd_pos v, if_pos q, eb, bS_some, if_neg n10, cS_t, bP_some, gd_pos v, lz_eq, lz_eq]
        · refine Or.inr ?_
          rw [rdI_wrI, if_pos ⟨rfl, rfl⟩]
          refine ⟨p0, Nat.le_refl _, ghp.mpr (fun j hj => (pq j hj).mp (w2 j hj)), fun n hn w => ng (GH_mono (by omega) w)⟩
      · have eb : f_Fo_isBelow i p c = some (0, h1) := by
          rw [isBelow_eq0, e1, bS_some, w1, bP_some, gd_pos (Or.inl rfl)]
        refine step h1 (rdI h1 21 i.toNatClampNeg) f1 r21 ?_ ?_
        · unfold glB
          dsimp only
          rw [fc.1 4 8 (by omega), if_neg (Int32.not_le.mpr lt), gd_pos v, if_pos q, eb, bS_some, if_pos rfl, cS_f, gd_pos v, bP_some, gd_pos v, lz_eq, lz_eq]
        · refine Or.inl ?_
          rw [rdI_wrI, if_pos ⟨rfl, rfl⟩, r21]
          exact ⟨q, fun w => w2 ((pq j wj).mpr (ghp.mp w j wj))⟩
    · refine step c (rdI c 21 i.toNatClampNeg) fc (fun _ => rfl) ?_ ?_
      · unfold glB
        dsimp only
        rw [fc.1 4 8 (by omega), if_neg (Int32.not_le.mpr lt), gd_pos v, if_neg q, cS_f, gd_pos v, bP_some, gd_pos v, lz_eq, lz_eq]
      · rcases si with ⟨s1, _⟩ | ⟨s1, s2, s3, s4⟩
        · exact absurd s1 q
        · refine Or.inr ?_
          rw [rdI_wrI, if_pos ⟨rfl, rfl⟩]
          exact ⟨s1, by omega, s3, s4⟩
noncomputable def glD (p10 : Int32 × hH) : Option ((Int32 × hH) ⊕ hH) :=
  if (rdI p10.2 4 15) < p10.1 then (
    some (.inr p10.2)
  ) else (
    bP (A := hH) (wh (A := (Int32 × hH)) (B := hH) (glB p10.1) ((0 : Int32), p10.2)) fun p13 =>
    lz (A := Int32) (p10.1 + (1 : Int32)) fun v26 =>
    some (.inl (v26, p13))
  )
noncomputable def glF (p11 : hH) (p28 : Int32 × Int32) : Option ((Int32 × Int32) ⊕ Int32) :=
  if (rdI p11 4 8) ≤ p28.2 then (
    some (.inr p28.1)
  ) else (
    bP (A := Int32) (
      if p28.1 = 0 then (
        some (0 : Int32)
      ) else (
        gd (vp_in p28.2 200) <|
        if (rdI p11 21 (Int32.toNatClampNeg p28.2)) = (-1 : Int32) then (
          some (0 : Int32)
        ) else (
          some (1 : Int32)
        )
      )
    ) fun p30 =>
    lz (A := Int32) (p28.2 + (1 : Int32)) fun v34 =>
    some (.inl (p30, v34))
  )
theorem areGlyphs_eq0 {h : hH} : f_Fo_areGlyphs h = bE (P := hH) (X := (Int32 × hH)) (wh (A := (Int32 × hH)) (B := (hH ⊕ (Int32 × hH))) glA ((0 : Int32), h)) fun p2 =>
  bP (A := hH) (wh (A := (Int32 × hH)) (B := hH) glD ((1 : Int32), p2)) fun p11 =>
  bP (A := Int32) (wh (A := (Int32 × Int32)) (B := Int32) (glF p11) ((1 : Int32), (0 : Int32))) fun p29 =>
  gd ((p29 = 0 ∨ p29 = 1)) <|
  some (p29, p11) := rfl
theorem L_levs {c0 m0 : hH} (fb : BY c0 m0) (fg : FG c0 m0) (k0 : 0 ≤ rdI c0 4 15 ∧ rdI c0 4 15 ≤ 4) (gv : ∀ g : Int32, 0 ≤ g → g < rdI c0 4 8 → ∃ mg, f_Mo_isGlyph g m0 = some (1, mg)) : ∀ (k : Nat) (p : Int32) (c : hH), 1 ≤ p → p ≤ rdI c0 4 15 + 1 → (rdI c0 4 15).toNatClampNeg + 1 - p.toNatClampNeg = k → FrR c0 c → (∀ g : Int32, 0 ≤ g → g < rdI c0 4 8 → SV m0 c (p.toNatClampNeg - 1) g) → ∃ c', wh glD (p, c) = some c' ∧ FrR c0 c' ∧ ∀ g : Int32, 0 ≤ g → g < rdI c0 4 8 → SV m0 c' (rdI c0 4 15).toNatClampNeg g := by
  have kk : (rdI c0 4 15 + 1).toNatClampNeg = (rdI c0 4 15).toNatClampNeg + 1 := xI_succ (m := 20000) k0.1 (by grind) (by decide)
  have g1 := fg.2.1.2.1
  intro k
  induction k with
  | zero =>
    intro p c p1 p2 e fc sv
    have ep : p = rdI c0 4 15 + 1 := by
      by_cases w : p = rdI c0 4 15 + 1
      · exact w
      · have := (xI_lt (x := p) (y := rdI c0 4 15 + 1) (by grind) (by grind)).mpr (by grind)
        omega
    refine ⟨c, ?_, fc, fun g a b => ?_⟩
    · rw [wh_eq]
      unfold glD
      dsimp only
      rw [fc.1 4 15 (by omega), if_pos (by grind)]
    · have := sv g a b
      rw [ep, kk, Nat.add_sub_cancel] at this
      exact this
  | succ k ih =>
    intro p c p1 p2 e fc sv
    have p0 : 0 ≤ p := Int32.le_trans (by decide) p1
    have le : p ≤ rdI c0 4 15 := by
      by_cases w : p = rdI c0 4 15 + 1
      · rw [w, kk] at e; omega
      · grind
    have pp : (p + 1).toNatClampNeg = p.toNatClampNeg + 1 := xI_succ (m := 20000) p0 (by grind) (by decide)
    obtain ⟨c', w1, w2, w3⟩ := L_lev fb fg p1 gv _ 0 c (by decide) (by grind) rfl fc (fun g a b => ⟨fun w => absurd w (Int32.not_lt.mpr a), fun _ => sv g a b⟩)
    obtain ⟨c2, x1, x2, x3⟩ := ih (p + 1) c' (by grind) (by grind) (by omega) w2 (fun g a b => by rw [pp, Nat.add_sub_cancel]; exact w3 g a b)
    refine ⟨c2, ?_, x2, x3⟩
    rw [wh_eq]
    have : glD (p, c) = some (.inl (p + 1, c')) := by
      unfold glD
      dsimp only
      rw [fc.1 4 15 (by omega), if_neg (Int32.not_lt.mpr le), w1, bP_some, lz_eq]
    rw [this]
    exact x1
theorem glF_eq {c : hH} {gl : Int32} (e8 : rdI c 4 8 = gl) (g0 : 0 ≤ gl) (g2 : gl ≤ 200) : (wh (glF c) (1, 0) = some 1 ∧ ∀ g : Int32, 0 ≤ g → g < gl → rdI c 21 g.toNatClampNeg ≠ -1) ∨ (wh (glF c) (1, 0) = some 0 ∧ ∃ g : Int32, 0 ≤ g ∧ g < gl ∧ rdI c 21 g.toNatClampNeg = -1) := by
  have n10 : ¬ (1 : Int32) = 0 := by decide
  have key : ∀ (k : Nat) (i f : Int32), 0 ≤ i → i ≤ gl → gl.toNatClampNeg - i.toNatClampNeg = k → (f = 0 ∨ f = 1) → (wh (glF c) (f, i) = some 1 ∧ f = 1 ∧ ∀ g : Int32, i ≤ g → g < gl → rdI c 21 g.toNatClampNeg ≠ -1) ∨ (wh (glF c) (f, i) = some 0 ∧ (f = 0 ∨ ∃ g : Int32, 0 ≤ g ∧ g < gl ∧ rdI c 21 g.toNatClampNeg = -1)) := by
    intro k
    induction k with
    | zero =>
      intro i f i0 i1 e hf
      have le : gl ≤ i := by
        by_cases w : i = gl
        · rw [w]; exact Int32.le_refl _
        · have := (xI_lt i0 g0).mpr (show i < gl by grind)
          omega
      have w : wh (glF c) (f, i) = some f := by
        rw [wh_eq]
        unfold glF
        dsimp only
        rw [e8, if_pos le]
      rcases hf with rfl | rfl
      · exact Or.inr ⟨w, Or.inl rfl⟩
      · exact Or.inl ⟨w, rfl, fun g a b => absurd (Int32.lt_of_le_of_lt (Int32.le_trans le a) b) (fun w => Int32.lt_irrefl w)⟩
    | succ k ih =>
      intro i f i0 i1 e hf
      have lt : i < gl := by
        by_cases w : i = gl
        · rw [← w] at e; omega
        · grind
      have ii : (i + 1).toNatClampNeg = i.toNatClampNeg + 1 := xI_succ (m := 20000) i0 (by grind) (by decide)
      have v : vp_in i 200 := vp_lt (n := 200) (m := 200) i0 (by grind) rfl
      rcases hf with rfl | rfl
      · have w : wh (glF c) (0, i) = wh (glF c) (0, i + 1) := by
          rw [wh_eq]
          have : glF c (0, i) = some (.inl (0, i + 1)) := by
            unfold glF
            dsimp only
            rw [e8, if_neg (Int32.not_le.mpr lt), if_pos rfl, bP_some, lz_eq]
          rw [this]
        rw [w]
        rcases ih (i + 1) 0 (by grind) (by grind) (by omega) (Or.inl rfl) with ⟨_, s, _⟩ | ⟨s, _⟩
        · exact absurd s (by decide)
        · exact Or.inr ⟨s, Or.inl rfl⟩
      · by_cases q : rdI c 21 i.toNatClampNeg = -1
        · have w : wh (glF c) (1, i) = wh (glF c) (0, i + 1) := by
            rw [wh_eq]
            have : glF c (1, i) = some (.inl (0, i + 1)) := by
              unfold glF
              dsimp only
              rw [e8, if_neg (Int32.not_le.mpr lt), if_neg n10, gd_pos v, if_pos q, bP_some, lz_eq]
            rw [this]
          rw [w]
          rcases ih (i + 1) 0 (by grind) (by grind) (by omega) (Or.inl rfl) with ⟨_, s, _⟩ | ⟨s, _⟩
          · exact absurd s (by decide)
          · exact Or.inr ⟨s, Or.inr ⟨i, i0, lt, q⟩⟩
        · have w : wh (glF c) (1, i) = wh (glF c) (1, i + 1) := by
            rw [wh_eq]
            have : glF c (1, i) = some (.inl (1, i + 1)) := by
              unfold glF
              dsimp only
              rw [e8, if_neg (Int32.not_le.mpr lt), if_neg n10, gd_pos v, if_neg q, bP_some, lz_eq]
            rw [this]
          rw [w]
          rcases ih (i + 1) 1 (by grind) (by grind) (by omega) (Or.inr rfl) with ⟨s1, _, s3⟩ | ⟨s1, s2⟩
          · refine Or.inl ⟨s1, rfl, fun g a b => ?_⟩
            by_cases u : g = i
            · rw [u]; exact q
            · exact s3 g (by grind) b
          · refine Or.inr ⟨s1, ?_⟩
            rcases s2 with s2 | s2
            · exact absurd s2 (by decide)
            · exact Or.inr s2
  rcases key _ 0 1 (by decide) g0 rfl (Or.inr rfl) with ⟨s1, _, s3⟩ | ⟨s1, s2⟩
  · exact Or.inl ⟨s1, s3⟩
  · refine Or.inr ⟨s1, ?_⟩
    rcases s2 with s2 | s2
    · exact absurd s2 (by decide)
    · exact s2
