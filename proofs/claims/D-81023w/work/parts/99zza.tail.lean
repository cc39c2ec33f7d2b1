/-! LAYER 3CI: glyphs, map, kerning and programs of a font, in a row -/
def FCl (c g : hH) : Prop := (∀ o k, o ≠ 4 → ¬ (11 ≤ o ∧ o ≤ 21) → rdI g o k = rdI c o k) ∧ (∀ o k, ¬ (7 ≤ o ∧ o ≤ 10) → rdL g o k = rdL c o k) ∧ (∀ o k, ¬ (o = 11 ∧ k = 15) → rdP g o k = rdP c o k)
def FMl (m g : hH) : Prop := (∀ o k, ¬ (o = 192 ∧ 5 ≤ k ∧ k ≤ 32) → o ≠ 195 → ¬ (199 ≤ o ∧ o ≤ 209) → rdI g o k = rdI m o k) ∧ (∀ o k, ¬ (196 ≤ o ∧ o ≤ 198) → rdL g o k = rdL m o k) ∧ (∀ o k, rdP g o k = rdP m o k)
theorem FCl_rfl {c : hH} : FCl c c := ⟨fun _ _ _ _ => rfl, fun _ _ _ => rfl, fun _ _ _ => rfl⟩
theorem FMl_rfl {c : hH} : FMl c c := ⟨fun _ _ _ _ _ => rfl, fun _ _ _ => rfl, fun _ _ => rfl⟩
theorem FCl_t {c g k : hH} (f : FCl c g) (f' : FCl g k) : FCl c k := ⟨fun o n a b => (f'.1 o n a b).trans (f.1 o n a b), fun o n a => (f'.2.1 o n a).trans (f.2.1 o n a), fun o n a => (f'.2.2 o n a).trans (f.2.2 o n a)⟩
theorem FMl_t {c g k : hH} (f : FMl c g) (f' : FMl g k) : FMl c k := ⟨fun o n a b d => (f'.1 o n a b d).trans (f.1 o n a b d), fun o n a => (f'.2.1 o n a).trans (f.2.1 o n a), fun o n => (f'.2.2 o n).trans (f.2.2 o n)⟩
theorem FCl_4 {ks : List Nat} {c g : hH} (f : FC4 ks c g) : FCl c g := ⟨fun o k a _ => f.1 o k (fun w => a w.1), fun o k _ => f.2.1 o k, fun o k _ => f.2.2 o k⟩
theorem FMl_4 {ks : List Nat} {m g : hH} (f : FM4 ks m g) (h : ∀ x ∈ ks, 5 ≤ x ∧ x ≤ 32) : FMl m g := ⟨fun o k a _ _ => f.1 o k (fun w => a ⟨w.1, h k w.2⟩), fun o k _ => f.2.1 o k, fun o k => f.2.2 o k⟩
theorem FCl_R {c g : hH} (f : FrR c g) : FCl c g := ⟨fun o k _ b => f.1 o k (by omega), fun o k _ => f.2.1 o k, fun o k a => f.2.2 o k a⟩
theorem FMl_S {m g : hH} (f : FrS m g) : FMl m g := ⟨fun o k a _ d => f.1 o k d (by omega), fun o k _ => f.2.2 o k, fun o k => f.2.1 o k⟩
theorem FCl_D {c g : hH} (f : FrD c g) : FCl c g := ⟨fun o k a _ => f.1 o k (fun w => a w.1), fun o k a => f.2.1 o k (by omega), fun o k _ => f.2.2 o k⟩
theorem FMl_E {m g : hH} (f : FrE m g) : FMl m g := ⟨fun o k a b _ => f.1 o k (by omega) b, fun o k a => f.2.1 o k (by omega), fun o k => f.2.2 o k⟩
noncomputable def tlC (h3 : hH) : Option (Int32 × hH) :=
  bS (f_Fo_areGlyphs h3) fun a10 h4 =>
  if a10 = 0 then (
    some ((11 : Int32), h4)
  ) else (
    bS (f_Fo_isMap h4) fun a11 h5 =>
    if a11 = 0 then (
      some ((12 : Int32), h5)
    ) else (
      bS (f_Fo_isKern h5) fun a12 h6 =>
      if a12 = 0 then (
        some ((13 : Int32), h6)
      ) else (
        bS (f_Fo_arePrograms h6) fun a13 h7 =>
        if a13 = 0 then (
          some ((14 : Int32), h7)
        ) else (
          some ((0 : Int32), h7)
        )
      )
    )
  )
noncomputable def tlM (h : hH) : Option (Int32 × hH) :=
  bE (P := hH) (X := (Int32 × hH)) (wh (A := (Int32 × hH)) (B := (hH ⊕ (Int32 × hH))) glM ((0 : Int32), h)) fun p14 =>
  bS (f_Mo_areWithin p14) fun a19 h2 =>
  if a19 = 0 then (
    some ((11 : Int32), h2)
  ) else (
    bS (f_Mo_map h2) fun a20 h3 =>
    if a20 = 0 then (
      some ((12 : Int32), h3)
    ) else (
      bS (f_Mo_kerns h3) fun a21 h4 =>
      if a21 = 0 then (
        some ((13 : Int32), h4)
      ) else pgK h4
    )
  )
theorem checkGlyphs_eq0 {h : hH} : f_Mo_checkGlyphs h = loK h (tlM h) := rfl
theorem MP_x {B : Nat → Int32} {s : Int32} {ks ls : List Nat} {c g m p : hH} (f : FXc ks c g) (h : 20 ∉ ks ∧ 21 ∉ ks ∧ 22 ∉ ks) (f' : FYm ls m p) (h' : 21 ∉ ls ∧ 22 ∉ ls ∧ 23 ∉ ls) (mp : MP B s c m) : MP B s g p := by
  unfold MP
  rw [f.1 20 h.1, f.1 21 h.2.1, f.1 22 h.2.2, f'.1 21 (by decide) h'.1, f'.1 22 (by decide) h'.2.1, f'.1 23 (by decide) h'.2.2]
  exact mp
theorem KR_x {s : Int32} {ks ls : List Nat} {c g m p : hH} (f : FXc ks c g) (h : 23 ∉ ks ∧ 24 ∉ ks) (f' : FYm ls m p) (h' : 24 ∉ ls ∧ 5 ∉ ls) (kr : KR s c m) : KR s g p := by
  unfold KR
  rw [f.1 23 h.1, f.1 24 h.2, f'.1 24 (by decide) h'.1, (tabM_x f' h'.2 _).2.1]
  exact kr
theorem L_tl {B : Nat → Int32} {s f lb ll gb gn gl b1 l1 i1 b2 l2 i2 b3 l3 i3 b4 l4 i4 b5 l5 i5 : Int32} {c m : hH} (gp : GP B s f lb ll gb gn gl c m) (k19 : rdI m 192 19 = rdI c 4 15) (k0 : 0 ≤ rdI c 4 15 ∧ rdI c 4 15 ≤ 4) (c23 : rdI c 4 23 = 0) (t1 : TB s c m 1668112752 b1 l1 i1) (t2 : TB s c m 1801810542 b2 l2 i2) (t3 : TB s c m 1668707360 b3 l3 i3) (t4 : TB s c m 1718642541 b4 l4 i4) (t5 : TB s c m 1886545264 b5 l5 i5) : ∃ a c' m', tlC c = some (a, c') ∧ tlM m = some (a, m') ∧ FCl c c' ∧ FMl m m' ∧ ((1 ≤ a ∧ a ≤ 14) ∨ (a = 0 ∧ FXc [20, 21, 22, 23, 24, 25, 26, 27, 28, 29, 30] c c' ∧ FYm [21, 22, 23, 24, 25] m m' ∧ MP B s c' m' ∧ KR s c' m' ∧ PGs s c' m' ∧ ∀ g : Int32, 0 ≤ g → g < rdI c 4 8 → GH m 5 g)) := by
  have fb := GP_BY gp
  have fg := GP_FG gp
  obtain ⟨⟨cb, mB, s0, s1, _⟩, _⟩ := gp
  have n10 : ¬ (1 : Int32) = 0 := by decide
  have rC : FrR c c := ⟨fun _ _ _ => rfl, fun _ _ => rfl, fun _ _ _ => rfl⟩
  have rM : FrS m m := ⟨fun _ _ _ _ => rfl, fun _ _ => rfl, fun _ _ => rfl⟩
  have G := L_gl fb fg _ 0 c m (by decide) (Int32.le_trans (by decide) fg.2.1.2.1) rfl rC rM (fun g _ hg => absurd hg (Nat.not_lt_zero _))
  unfold tlC tlM
  rw [areGlyphs_eq0]
  rcases G.symm with ⟨c', m', e1, e2, f1, f2⟩ | ⟨c', m', e1, e2, f1, f2, gv⟩
  · rw [e1, e2]
    exact ⟨11, _, _, rfl, rfl, FCl_R f1, FMl_S f2, Or.inl (by decide)⟩
  rw [e1, e2, bE_inl, bE_inl]
  obtain ⟨a, c4, m2, e3, e4, f3, f4, hh⟩ := L_heights fb fg k19 k0 f1 f2 gv
  rw [e3, e4, bS_some, bS_some]
  rcases hh with a0 | ⟨a1, gh⟩
  · rw [if_pos a0, if_pos a0]
    exact ⟨11, _, _, rfl, rfl, FCl_R f3, FMl_S f4, Or.inl (by decide)⟩
  have na : ¬ a = 0 := by rw [a1]; exact n10
  rw [if_neg na, if_neg na]
  have x4 := FXc_R f3
  have y2 := FYm_S f4
  have h1e : (1 : Nat) ∉ ([] : List Nat) := by decide
  have h5e : (5 : Nat) ∉ ([] : List Nat) := by decide
  obtain ⟨a', c5, m3, e5, e6, f5, f6, h6⟩ := L_map (CB_x x4 cb) (MB_x y2 (by decide) mB) s0 s1 (TB_x x4 h1e y2 h5e t1)
  rw [e5, e6, bS_some, bS_some]
  have o5 : FCl c c5 := FCl_t (FCl_R f3) (FCl_4 f5)
  have p3 : FMl m m3 := FMl_t (FMl_S f4) (FMl_4 f6 (by decide))
  rcases h6 with a0 | ⟨a1', mp⟩
  · rw [if_pos a0, if_pos a0]
    exact ⟨12, _, _, rfl, rfl, o5, p3, Or.inl (by decide)⟩
  have na' : ¬ a' = 0 := by rw [a1']; exact n10
  rw [if_neg na', if_neg na']
  have x5 : FXc [20, 21, 22] c c5 := FXc_tr x4 (FXc_4 f5) (by decide) (by decide)
  have y3 : FYm [21, 22, 23] m m3 := FYm_tr y2 (FYm_4 f6) (by decide) (by decide)
  obtain ⟨a2, c6, m4, e7, e8, f7, f8, h8⟩ := L_isKern (CB_x x5 cb) (MB_x y3 (by decide) mB) s0 s1 (TB_x x5 (by decide) y3 (by decide) t2) ((x5.1 23 (by decide)).trans c23)
  rw [e7, e8, bS_some, bS_some]
  have o6 : FCl c c6 := FCl_t o5 (FCl_4 f7)
  have p4 : FMl m m4 := FMl_t p3 (FMl_4 f8 (by decide))
  rcases h8 with a0 | ⟨a2', kr⟩
  · rw [if_pos a0, if_pos a0]
    exact ⟨13, _, _, rfl, rfl, o6, p4, Or.inl (by decide)⟩
  have na2 : ¬ a2 = 0 := by rw [a2']; exact n10
  rw [if_neg na2, if_neg na2]
  have x6 : FXc [20, 21, 22, 23, 24] c c6 := FXc_tr x5 (FXc_4 f7) (by decide) (by decide)
  have y4 : FYm [21, 22, 23, 24] m m4 := FYm_tr y3 (FYm_4 f8) (by decide) (by decide)
  obtain ⟨a3, c7, e9, f9, h9⟩ := L_progs (CB_x x6 cb) s0 s1 (TB_x x6 (by decide) y4 (by decide) t3) (TB_x x6 (by decide) y4 (by decide) t4) (TB_x x6 (by decide) y4 (by decide) t5)
  rw [e9, bS_some]
  have o7 : FCl c c7 := FCl_t o6 (FCl_4 f9)
  rcases h9 with ⟨a0, e10⟩ | ⟨a3', m5, e10, f10, pg⟩
  · rw [if_pos a0, e10]
    exact ⟨14, _, _, rfl, rfl, o7, p4, Or.inl (by decide)⟩
  have na3 : ¬ a3 = 0 := by rw [a3']; exact n10
  rw [if_neg na3, e10]
  have x7 : FXc [20, 21, 22, 23, 24, 25, 26, 27, 28, 29, 30] c c7 := FXc_tr x6 (FXc_4 f9) (by decide) (by decide)
  have y5 : FYm [21, 22, 23, 24, 25] m m5 := FYm_tr y4 (FYm_4 f10) (by decide) (by decide)
  have kr7 : KR s c7 m5 := KR_x (FXc_4 f9) (by decide) (FYm_4 f10) (by decide) kr
  have x57 : FXc [23, 24, 25, 26, 27, 28, 29, 30] c5 c7 := FXc_tr (FXc_4 f7) (FXc_4 f9) (by decide) (by decide)
  have y35 : FYm [24, 25] m3 m5 := FYm_tr (FYm_4 f8) (FYm_4 f10) (by decide) (by decide)
  exact ⟨0, _, _, rfl, rfl, o7, FMl_t p4 (FMl_4 f10 (by decide)), Or.inr ⟨rfl, x7, y5, MP_x x57 (by decide) y35 (by decide) mp, kr7, pg, gh⟩⟩
