/-! LAYER 3BE: all points within a bound, on both sides -/
def inV (L : Int64) (v : Int32) : Prop := -L ≤ v.toInt64 ∧ v.toInt64 ≤ L
noncomputable def wiL (z : Nat) (x1 : Int32) (h : hH) (p1 : Int32 × Int32) : Option ((Int32 × Int32) ⊕ Int32) :=
  if (rdI h z 3) ≤ p1.2 then (
    some (.inr p1.1)
  ) else (
    bP (A := Int32) (
      if p1.1 = 0 then (
        some (0 : Int32)
      ) else (
        gd (vp_in p1.2 100) <|
        bP (f_HH_within (Int32.toInt64 (rdI h (rf z 0) (Int32.toNatClampNeg p1.2))) (Int32.toInt64 (-x1)) (Int32.toInt64 x1)) fun a5 =>
        if a5 = 0 then (
          some (0 : Int32)
        ) else (
          gd (vp_in p1.2 100) <|
          bP (f_HH_within (Int32.toInt64 (rdI h (rf z 1) (Int32.toNatClampNeg p1.2))) (Int32.toInt64 (-x1)) (Int32.toInt64 x1)) fun a7 =>
          if a7 = 0 then (
            some (0 : Int32)
          ) else (
            some (1 : Int32)
          )
        )
      )
    ) fun p3 =>
    lz (A := Int32) (p1.2 + (1 : Int32)) fun v11 =>
    some (.inl (p3, v11))
  )
theorem Ou_within_eq0 {z : Nat} {x1 : Int32} {h : hH} : f_Ou_isWithin z x1 h = bP (A := Int32) (wh (wiL z x1 h) ((1 : Int32), (0 : Int32))) fun p2 => gd ((p2 = 0 ∨ p2 = 1)) <| some p2 := rfl
theorem wi_step {z : Nat} {x1 i f : Int32} {L : Int64} {h : hH} (v : vp_in i 100) (eL : (-x1).toInt64 = -L) (eL' : x1.toInt64 = L) (lt : i < rdI h z 3) (hf : f = 0 ∨ f = 1) : ∃ f', wiL z x1 h (f, i) = some (.inl (f', i + 1)) ∧ ((f' = 1 ∧ f = 1 ∧ inV L (rdI h (rf z 0) i.toNatClampNeg) ∧ inV L (rdI h (rf z 1) i.toNatClampNeg)) ∨ (f' = 0 ∧ (f = 0 ∨ ¬ (inV L (rdI h (rf z 0) i.toNatClampNeg) ∧ inV L (rdI h (rf z 1) i.toNatClampNeg))))) := by
  have n10 : ¬ (1 : Int32) = 0 := by decide
  unfold wiL inV
  dsimp only
  rw [if_neg (Int32.not_le.mpr lt)]
  rcases hf with rfl | rfl
  · exact ⟨0, rfl, Or.inr ⟨rfl, Or.inl rfl⟩⟩
  · rw [if_neg n10, gd_pos v, f_HH_within_eq, bP_some, eL, eL']
    by_cases a : -L ≤ (rdI h (rf z 0) i.toNatClampNeg).toInt64 ∧ (rdI h (rf z 0) i.toNatClampNeg).toInt64 ≤ L
    · rw [if_pos a, if_neg n10, gd_pos v, f_HH_within_eq, bP_some]
      by_cases b : -L ≤ (rdI h (rf z 1) i.toNatClampNeg).toInt64 ∧ (rdI h (rf z 1) i.toNatClampNeg).toInt64 ≤ L
      · rw [if_pos b, if_neg n10]
        exact ⟨1, rfl, Or.inl ⟨rfl, rfl, a, b⟩⟩
      · rw [if_neg b, if_pos rfl]
        exact ⟨0, rfl, Or.inr ⟨rfl, Or.inr (fun q => b q.2)⟩⟩
    · rw [if_neg a, if_pos rfl]
      exact ⟨0, rfl, Or.inr ⟨rfl, Or.inr (fun q => a q.1)⟩⟩
theorem Ou_within {z : Nat} {x1 : Int32} {L : Int64} {h : hH} (hn : 0 ≤ rdI h z 3 ∧ rdI h z 3 ≤ 100) (eL : (-x1).toInt64 = -L) (eL' : x1.toInt64 = L) : (f_Ou_isWithin z x1 h = some 1 ∧ ∀ i, i < (rdI h z 3).toNatClampNeg → inV L (rdI h (rf z 0) i) ∧ inV L (rdI h (rf z 1) i)) ∨ (f_Ou_isWithin z x1 h = some 0 ∧ ∃ i, i < (rdI h z 3).toNatClampNeg ∧ ¬ (inV L (rdI h (rf z 0) i) ∧ inV L (rdI h (rf z 1) i))) := by
  have key : ∀ (m : Nat) (i f : Int32), 0 ≤ i → i ≤ rdI h z 3 → (rdI h z 3).toNatClampNeg - i.toNatClampNeg = m → (f = 0 ∨ f = 1) → ∃ r, wh (wiL z x1 h) (f, i) = some r ∧ ((r = 1 ∧ f = 1 ∧ ∀ j, i.toNatClampNeg ≤ j → j < (rdI h z 3).toNatClampNeg → inV L (rdI h (rf z 0) j) ∧ inV L (rdI h (rf z 1) j)) ∨ (r = 0 ∧ (f = 0 ∨ ∃ j, j < (rdI h z 3).toNatClampNeg ∧ ¬ (inV L (rdI h (rf z 0) j) ∧ inV L (rdI h (rf z 1) j))))) := by
    intro m
    induction m with
    | zero =>
      intro i f i0 i1 e hf
      have e1 : i = rdI h z 3 := by
        by_cases w : i = rdI h z 3
        · exact w
        · have := (xI_lt i0 hn.1).mpr (show i < rdI h z 3 by grind)
          omega
      refine ⟨f, ?_, ?_⟩
      · rw [wh_eq]
        unfold wiL
        dsimp only
        rw [if_pos (by rw [e1]; exact Int32.le_refl _)]
      · rcases hf with e2 | e2
        · exact Or.inr ⟨e2, Or.inl e2⟩
        · exact Or.inl ⟨e2, e2, fun j a b => by omega⟩
    | succ m ih =>
      intro i f i0 i1 e hf
      have lt : i < rdI h z 3 := by
        by_cases w : i = rdI h z 3
        · rw [w] at e; omega
        · grind
      have lt' := (xI_lt i0 hn.1).mpr lt
      have ii : (i + 1).toNatClampNeg = i.toNatClampNeg + 1 := xI_succ (m := 20000) i0 (by grind) (by decide)
      obtain ⟨f', es, r⟩ := wi_step (z := z) (h := h) (i := i) (f := f) (vp_lt (n := 100) (m := 100) i0 (by grind) rfl) eL eL' lt hf
      obtain ⟨q, eq, s⟩ := ih (i + 1) f' (by grind) (by grind) (by omega) (by rcases r with ⟨a, _⟩ | ⟨a, _⟩; exact Or.inr a; exact Or.inl a)
      refine ⟨q, ?_, ?_⟩
      · rw [wh_eq, es]
        exact eq
      · rcases s with ⟨s1, s2, s3⟩ | ⟨s1, s2⟩
        · rcases r with ⟨_, r2, r3⟩ | ⟨r1, _⟩
          · refine Or.inl ⟨s1, r2, fun j a b => ?_⟩
            by_cases w : j = i.toNatClampNeg
            · rw [w]; exact r3
            · exact s3 j (by omega) b
          · rw [r1] at s2; exact absurd s2 (by decide)
        · refine Or.inr ⟨s1, ?_⟩
          rcases s2 with s2 | s2
          · rcases r with ⟨r1, _⟩ | ⟨_, r2⟩
            · rw [r1] at s2; exact absurd s2 (by decide)
            · rcases r2 with r2 | r2
              · exact Or.inl r2
              · exact Or.inr ⟨_, lt', r2⟩
          · exact Or.inr s2
  obtain ⟨r, er, s⟩ := key _ 0 1 (by decide) hn.1 rfl (Or.inr rfl)
  have z0 : (0 : Int32).toNatClampNeg = 0 := rfl
  rw [Ou_within_eq0, er, bP_some]
  rcases s with ⟨s1, _, s3⟩ | ⟨s1, s2⟩
  · subst s1
    exact Or.inl ⟨by rw [gd_pos (Or.inr rfl)], fun i hi => s3 i (by omega) hi⟩
  · subst s1
    refine Or.inr ⟨by rw [gd_pos (Or.inl rfl)], ?_⟩
    rcases s2 with s2 | s2
    · exact absurd s2 (by decide)
    · exact s2
noncomputable def miL (x2 v2 : Int32) (p49 : Int32 × hH) : Option ((Int32 × hH) ⊕ hH) :=
  gd (vp_in x2 6) <|
  if (¬ ((rdI p49.2 236 (Int32.toNatClampNeg x2)) ≤ p49.1) ∧ (rdI p49.2 192 59) = 0) then (
    gd (vp_in (v2 + p49.1) 612) <|
    bP (f_Mo_in (Int32.toInt64 (rdI p49.2 238 (Int32.toNatClampNeg (v2 + p49.1)))) (-1000000 : Int64) (1000000 : Int64)) fun a58 =>
    bP (A := hH) (
      cO (
        if a58 = 0 then (
          some true
        ) else (
          gd (vp_in (v2 + p49.1) 612) <|
          bP (f_Mo_in (Int32.toInt64 (rdI p49.2 239 (Int32.toNatClampNeg (v2 + p49.1)))) (-1000000 : Int64) (1000000 : Int64)) fun a61 =>
          if a61 = 0 then (
            some true
          ) else (
            some false
          )
        )
      ) (
        bS (f_Mo_failOutside (13 : Int32) p49.2) fun _ h16 =>
        some h16
      ) (
        some p49.2
      )
    ) fun p59 =>
    lz (A := Int32) (p49.1 + (1 : Int32)) fun v68 =>
    some (.inl (v68, p59))
  ) else (
    some (.inr p49.2)
  )
theorem foM_59 {h : hH} {e : Int32} : rdI (foM h e) 192 59 = e := by
  unfold foM
  rw [rdI_wrI, if_neg (by omega), rdI_wrI, if_pos ⟨rfl, rfl⟩]
theorem mi_stop {x v2 i : Int32} {h : hH} (x0 : 0 ≤ x ∧ x ≤ 5) (f : ¬ rdI h 192 59 = 0) : wh (miL x v2) (i, h) = some h := by
  have v6 : vp_in x 6 := vp_lt (n := 6) (m := 6) x0.1 (by grind) rfl
  rw [wh_eq]
  unfold miL
  dsimp only
  rw [gd_pos v6, if_neg (fun q => f q.2)]
theorem mi_eq {x : Int32} {h : hH} (x0 : 0 ≤ x ∧ x ≤ 5) (n0 : 0 ≤ rdI h 236 x.toNatClampNeg ∧ rdI h 236 x.toNatClampNeg ≤ 100) (f0 : rdI h 192 59 = 0) : (wh (miL x (102 * x)) ((0 : Int32), h) = some h ∧ ∀ i, i < (rdI h 236 x.toNatClampNeg).toNatClampNeg → inV 1000000 (rdI h 238 (102 * x.toNatClampNeg + i)) ∧ inV 1000000 (rdI h 239 (102 * x.toNatClampNeg + i))) ∨ (wh (miL x (102 * x)) ((0 : Int32), h) = some (foM h 13) ∧ ∃ i, i < (rdI h 236 x.toNatClampNeg).toNatClampNeg ∧ ¬ (inV 1000000 (rdI h 238 (102 * x.toNatClampNeg + i)) ∧ inV 1000000 (rdI h 239 (102 * x.toNatClampNeg + i)))) := by
  have v6 : vp_in x 6 := vp_lt (n := 6) (m := 6) x0.1 (by grind) rfl
  have n10 : ¬ (1 : Int32) = 0 := by decide
  have fs : ∀ i : Int32, wh (miL x (102 * x)) (i, foM h 13) = some (foM h 13) := fun i => mi_stop x0 (by rw [foM_59]; decide)
  have key : ∀ (m : Nat) (i : Int32), 0 ≤ i → i ≤ rdI h 236 x.toNatClampNeg → (rdI h 236 x.toNatClampNeg).toNatClampNeg - i.toNatClampNeg = m → (wh (miL x (102 * x)) (i, h) = some h ∧ ∀ j, i.toNatClampNeg ≤ j → j < (rdI h 236 x.toNatClampNeg).toNatClampNeg → inV 1000000 (rdI h 238 (102 * x.toNatClampNeg + j)) ∧ inV 1000000 (rdI h 239 (102 * x.toNatClampNeg + j))) ∨ (wh (miL x (102 * x)) (i, h) = some (foM h 13) ∧ ∃ j, j < (rdI h 236 x.toNatClampNeg).toNatClampNeg ∧ ¬ (inV 1000000 (rdI h 238 (102 * x.toNatClampNeg + j)) ∧ inV 1000000 (rdI h 239 (102 * x.toNatClampNeg + j)))) := by
    intro m
    induction m with
    | zero =>
      intro i i0 i1 e
      have e1 : rdI h 236 x.toNatClampNeg ≤ i := by
        by_cases w : i = rdI h 236 x.toNatClampNeg
        · rw [w]; exact Int32.le_refl _
        · have := (xI_lt i0 n0.1).mpr (show i < rdI h 236 x.toNatClampNeg by grind)
          omega
      refine Or.inl ⟨?_, fun j a b => by omega⟩
      rw [wh_eq]
      unfold miL
      dsimp only
      rw [gd_pos v6, if_neg (fun q => q.1 e1)]
    | succ m ih =>
      intro i i0 i1 e
      have lt : i < rdI h 236 x.toNatClampNeg := by
        by_cases w : i = rdI h 236 x.toNatClampNeg
        · rw [← w] at e; omega
        · grind
      have lt' := (xI_lt i0 n0.1).mpr lt
      have ii : (i + 1).toNatClampNeg = i.toNatClampNeg + 1 := xI_succ (m := 20000) i0 (by grind) (by decide)
      obtain ⟨k1, v1⟩ := xI_10 (i := i) x0.1 x0.2 i0 (by grind)
      have ih' := ih (i + 1) (by grind) (by grind) (by omega)
      have go : ∀ h', miL x (102 * x) (i, h) = some (.inl (i + 1, h')) → wh (miL x (102 * x)) (i, h) = wh (miL x (102 * x)) (i + 1, h') := fun h' w => by
        rw [wh_eq, w]
      have un : miL x (102 * x) (i, h) = bP (A := hH) (cO (if (if (-1000000 : Int64) ≤ (rdI h 238 (102 * x.toNatClampNeg + i.toNatClampNeg)).toInt64 ∧ (rdI h 238 (102 * x.toNatClampNeg + i.toNatClampNeg)).toInt64 ≤ 1000000 then (1 : Int32) else 0) = 0 then some true else bP (some (if (-1000000 : Int64) ≤ (rdI h 239 (102 * x.toNatClampNeg + i.toNatClampNeg)).toInt64 ∧ (rdI h 239 (102 * x.toNatClampNeg + i.toNatClampNeg)).toInt64 ≤ 1000000 then (1 : Int32) else 0)) fun a61 => if a61 = 0 then some true else some false) (some (foM h 13)) (some h)) fun p59 => some (.inl (i + 1, p59)) := by
        unfold miL
        dsimp only
        rw [gd_pos v6, if_pos ⟨Int32.not_le.mpr lt, f0⟩, gd_pos v1, k1, f_Mo_in_eq, bP_some, gd_pos v1, f_Mo_in_eq, fo_eq f0, bS_some]
        rfl
      by_cases a : (-1000000 : Int64) ≤ (rdI h 238 (102 * x.toNatClampNeg + i.toNatClampNeg)).toInt64 ∧ (rdI h 238 (102 * x.toNatClampNeg + i.toNatClampNeg)).toInt64 ≤ 1000000
      · rw [if_pos a, if_neg n10, bP_some] at un
        by_cases b : (-1000000 : Int64) ≤ (rdI h 239 (102 * x.toNatClampNeg + i.toNatClampNeg)).toInt64 ∧ (rdI h 239 (102 * x.toNatClampNeg + i.toNatClampNeg)).toInt64 ≤ 1000000
        · rw [if_pos b, if_neg n10, cO_f, bP_some] at un
          rw [go _ un]
          rcases ih' with ⟨s1, s2⟩ | s
          · refine Or.inl ⟨s1, fun j p q => ?_⟩
            by_cases w : j = i.toNatClampNeg
            · rw [w]; exact ⟨a, b⟩
            · exact s2 j (by omega) q
          · exact Or.inr s
        · rw [if_neg b, if_pos rfl, cO_t, bP_some] at un
          rw [go _ un, fs]
          exact Or.inr ⟨rfl, _, lt', fun q => b q.2⟩
      · rw [if_neg a, if_pos rfl, cO_t, bP_some] at un
        rw [go _ un, fs]
        exact Or.inr ⟨rfl, _, lt', fun q => a q.1⟩
  have z0 : (0 : Int32).toNatClampNeg = 0 := rfl
  rcases key _ 0 (by decide) n0.1 rfl with ⟨s1, s2⟩ | s
  · exact Or.inl ⟨s1, fun i hi => s2 i (by omega) hi⟩
  · exact Or.inr s
