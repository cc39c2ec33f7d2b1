/-! LAYER 3BS: tables in order and in place -/
theorem wh_two {B C : Type} {f : Int32 → Option (Int32 ⊕ (Unit ⊕ B))} {g : Int32 → Option (Int32 ⊕ (Unit ⊕ C))} {P : Int32 → Prop} {a n : Int32} {x : B} {y : C} (a0 : 0 ≤ a) (n0 : 0 ≤ n) (n1 : n ≤ 20000) (fe : ∀ p, n ≤ p → f p = some (.inr (.inl ()))) (ge : ∀ p, n ≤ p → g p = some (.inr (.inl ()))) (st : ∀ p, a ≤ p → p < n → (P p ∧ f p = some (.inl (p + 1)) ∧ g p = some (.inl (p + 1))) ∨ (f p = some (.inr (.inr x)) ∧ g p = some (.inr (.inr y)))) : (wh f a = some (.inl ()) ∧ wh g a = some (.inl ()) ∧ ∀ p, a ≤ p → p < n → P p) ∨ (wh f a = some (.inr x) ∧ wh g a = some (.inr y)) := by
  have key : ∀ (k : Nat) (i : Int32), a ≤ i → n.toNatClampNeg - i.toNatClampNeg = k → (wh f i = some (.inl ()) ∧ wh g i = some (.inl ()) ∧ ∀ p, i ≤ p → p < n → P p) ∨ (wh f i = some (.inr x) ∧ wh g i = some (.inr y)) := by
    intro k
    induction k with
    | zero =>
      intro i i0 e
      have le : n ≤ i := by
        by_cases w : n ≤ i
        · exact w
        · have := (xI_lt (Int32.le_trans a0 i0) n0).mpr (Int32.not_le.mp w)
          omega
      refine Or.inl ⟨?_, ?_, fun p h1 h2 => ?_⟩
      · rw [wh_eq, fe i le]
      · rw [wh_eq, ge i le]
      · exact absurd (Int32.lt_of_le_of_lt (Int32.le_trans le h1) h2) (fun w => Int32.lt_irrefl w)
    | succ k ih =>
      intro i i0 e
      have i00 := Int32.le_trans a0 i0
      have lt : i < n := by
        by_cases w : n ≤ i
        · have := xI_mono w
          omega
        · exact Int32.not_le.mp w
      have ii : (i + 1).toNatClampNeg = i.toNatClampNeg + 1 := xI_succ (m := 20000) i00 (by grind) (by decide)
      rcases st i i0 lt with ⟨p1, p2, p3⟩ | ⟨p2, p3⟩
      · have w1 : wh f i = wh f (i + 1) := by rw [wh_eq, p2]
        have w2 : wh g i = wh g (i + 1) := by rw [wh_eq, p3]
        rw [w1, w2]
        rcases ih (i + 1) (by grind) (by omega) with ⟨q1, q2, q3⟩ | q
        · refine Or.inl ⟨q1, q2, fun p h1 h2 => ?_⟩
          by_cases u : p = i
          · rw [u]; exact p1
          · exact q3 p (by grind) h2
        · exact Or.inr q
      · refine Or.inr ⟨?_, ?_⟩
        · rw [wh_eq, p2]
        · rw [wh_eq, p3]
  exact key _ a (Int32.le_refl _) rfl
noncomputable def srC (h5 : hH) (p2 : Int32) : Option (Int32 ⊕ (Unit ⊕ (Int32 × hH))) :=
  if (rdI h5 4 1) ≤ p2 then (
    some (.inr (.inl ()))
  ) else (
    gd (vp_in p2 16 ∧ vp_in (p2 - (1 : Int32)) 16) <|
    if (rdL h5 7 (Int32.toNatClampNeg (p2 - (1 : Int32)))) < (rdL h5 7 (Int32.toNatClampNeg p2)) then (
      lz (A := Int32) (p2 + (1 : Int32)) fun v5 =>
      some (.inl v5)
    ) else (
      some (.inr (.inr ((2 : Int32), h5)))
    )
  )
noncomputable def srM (h1 : hH) (p2 : Int32) : Option (Int32 ⊕ (Unit ⊕ (Int32 × hH))) :=
  if (rdI h1 192 5) ≤ p2 then (
    some (.inr (.inl ()))
  ) else (
    gd (vp_in (p2 - (1 : Int32)) 16 ∧ vp_in p2 16) <|
    if ((Int32.toInt64 (rdI h1 195 (Int32.toNatClampNeg (p2 - (1 : Int32))))) &&& (4294967295 : Int64)) < ((Int32.toInt64 (rdI h1 195 (Int32.toNatClampNeg p2))) &&& (4294967295 : Int64)) then (
      lz (A := Int32) (p2 + (1 : Int32)) fun v5 =>
      some (.inl v5)
    ) else (
      some (.inr (.inr ((2 : Int32), h1)))
    )
  )
theorem tagM {B : Nat → Int32} {p : Nat} : (u4B B p).toInt32.toInt64 &&& 4294967295 = u4B B p := by
  rw [mk64, mv64 (u4B_r B p).1 (u4B_r B p).2]
theorem L_sorted {B : Nat → Int32} {s n : Int32} {c m : hH} (d : DR B s n c m) : (wh (srC c) 1 = some (.inl ()) ∧ wh (srM m) 1 = some (.inl ())) ∨ (wh (srC c) 1 = some (.inr (2, c)) ∧ wh (srM m) 1 = some (.inr (2, m))) := by
  obtain ⟨⟨d1, d2⟩, ⟨n0, n1, _⟩, dc, dm⟩ := d
  have := wh_two (f := srC c) (g := srM m) (P := fun _ => True) (a := 1) (n := n) (x := ((2 : Int32), c)) (y := ((2 : Int32), m)) (by decide) (by grind) (by grind) (fun p hp => by unfold srC; rw [d1, if_pos hp]) (fun p hp => by unfold srM; rw [d2, if_pos hp]) (fun p p0 p1 => by
    have v1 : vp_in p 16 := vp_lt (n := 16) (m := 16) (by grind) (by grind) rfl
    have v2 : vp_in (p - 1) 16 := vp_lt (n := 16) (m := 16) (by grind) (by grind) rfl
    have l1 := (xI_lt (x := p) (y := n) (by grind) (by grind)).mpr p1
    have l2 := (xI_lt (x := p - 1) (y := n) (by grind) (by grind)).mpr (by grind)
    unfold srC srM
    rw [d1, d2, if_neg (Int32.not_le.mpr p1), if_neg (Int32.not_le.mpr p1), gd_pos ⟨v1, v2⟩, gd_pos ⟨v2, v1⟩, (dc _ l1).1, (dc _ l2).1, (dm _ l1).1, (dm _ l2).1, tagM, tagM, lz_eq]
    by_cases q : u4B B (12 + 16 * (p - 1).toNatClampNeg) < u4B B (12 + 16 * p.toNatClampNeg)
    · rw [if_pos q, if_pos q]
      exact Or.inl ⟨trivial, rfl, rfl⟩
    · rw [if_neg q, if_neg q]
      exact Or.inr ⟨rfl, rfl⟩)
  rcases this with ⟨a, b, _⟩ | q
  · exact Or.inl ⟨a, b⟩
  · exact Or.inr q
noncomputable def plI (h : hH) (p1 : Int32) (v3 : Int64) (p7 : Int32) : Option (Int32 ⊕ (Unit ⊕ (Int32 ⊕ (Unit ⊕ Int32)))) :=
  if p1 ≤ p7 then (
    some (.inr (.inl ()))
  ) else (
    gd (vp_in p7 16 ∧ vp_in p1 16) <|
    bP (f_JM_max (rdL h 9 (Int32.toNatClampNeg p7)) (rdL h 9 (Int32.toNatClampNeg p1))) fun a10 =>
    gd (vp_in p7 16) <|
    bP (f_JM_min ((rdL h 9 (Int32.toNatClampNeg p7)) + (rdL h 10 (Int32.toNatClampNeg p7))) v3) fun a12 =>
    if a12 ≤ a10 then (
      lz (A := Int32) (p7 + (1 : Int32)) fun v13 =>
      some (.inl v13)
    ) else (
      some (.inr (.inr (.inr (.inr (0 : Int32)))))
    )
  )
noncomputable def plcC (h : hH) (p1 : Int32) : Option (Int32 ⊕ (Unit ⊕ Int32)) :=
  if (rdI h 4 1) ≤ p1 then (
    some (.inr (.inl ()))
  ) else (
    gd (vp_in p1 16) <|
    lz (A := Int64) ((rdL h 9 (Int32.toNatClampNeg p1)) + (rdL h 10 (Int32.toNatClampNeg p1))) fun v3 =>
    gd (vp_in p1 16) <|
    if ((rdL h 9 (Int32.toNatClampNeg p1)) &&& (3 : Int64)) = (0 : Int64) then (
      gd (vp_in p1 16) <|
      if (rdL h 9 (Int32.toNatClampNeg p1)) < (Int32.toInt64 ((12 : Int32) + ((16 : Int32) * (rdI h 4 1)))) then (
        some (.inr (.inr (0 : Int32)))
      ) else (
        if v3 ≤ (Int32.toInt64 (rdI h 5 1)) then (
          bE (P := Unit) (X := (Int32 ⊕ (Unit ⊕ Int32))) (wh (plI h p1 v3) (0 : Int32)) fun p8 =>
          lz (A := Int32) (p1 + (1 : Int32)) fun v16 =>
          some (.inl v16)
        ) else (
          some (.inr (.inr (0 : Int32)))
        )
      )
    ) else (
      some (.inr (.inr (0 : Int32)))
    )
  )
theorem arePlaced_eq0 {h : hH} : f_Fo_arePlaced h = bE (P := Unit) (X := Int32) (wh (plcC h) (0 : Int32)) fun p2 => some (1 : Int32) := rfl
noncomputable def plJ (h1 : hH) (p8 : Int32) (p13 : Int32) : Option (Int32 ⊕ (Unit ⊕ (Int32 ⊕ (Unit ⊕ (Int32 × hH))))) :=
  if p8 ≤ p13 then (
    some (.inr (.inl ()))
  ) else (
    gd (vp_in p13 16 ∧ vp_in p8 16) <|
    bP (A := Int64) (
      if (rdL h1 197 (Int32.toNatClampNeg p13)) ≤ (rdL h1 197 (Int32.toNatClampNeg p8)) then (
        gd (vp_in p8 16) <|
        some (rdL h1 197 (Int32.toNatClampNeg p8))
      ) else (
        gd (vp_in p13 16) <|
        some (rdL h1 197 (Int32.toNatClampNeg p13))
      )
    ) fun p16 =>
    gd (vp_in p13 16 ∧ vp_in p8 16) <|
    bP (A := Int64) (
      if ((rdL h1 197 (Int32.toNatClampNeg p8)) + (rdL h1 198 (Int32.toNatClampNeg p8))) ≤ ((rdL h1 197 (Int32.toNatClampNeg p13)) + (rdL h1 198 (Int32.toNatClampNeg p13))) then (
        gd (vp_in p8 16) <|
        some ((rdL h1 197 (Int32.toNatClampNeg p8)) + (rdL h1 198 (Int32.toNatClampNeg p8)))
      ) else (
        gd (vp_in p13 16) <|
        some ((rdL h1 197 (Int32.toNatClampNeg p13)) + (rdL h1 198 (Int32.toNatClampNeg p13)))
      )
    ) fun p21 =>
    if p21 ≤ p16 then (
      lz (A := Int32) (p13 + (1 : Int32)) fun v25 =>
      some (.inl v25)
    ) else (
      some (.inr (.inr (.inr (.inr ((3 : Int32), h1)))))
    )
  )
noncomputable def plM (h1 : hH) (p8 : Int32) : Option (Int32 ⊕ (Unit ⊕ (Int32 × hH))) :=
  if (rdI h1 192 5) ≤ p8 then (
    some (.inr (.inl ()))
  ) else (
    gd (vp_in p8 16) <|
    if (hx_rL (rdL h1 197 (Int32.toNatClampNeg p8)) (4 : Int64)) = (0 : Int64) then (
      gd (vp_in p8 16) <|
      if (rdL h1 197 (Int32.toNatClampNeg p8)) < ((12 : Int64) + ((16 : Int64) * (Int32.toInt64 (rdI h1 192 5)))) then (
        some (.inr (.inr ((3 : Int32), h1)))
      ) else (
        gd (vp_in p8 16) <|
        if ((rdL h1 197 (Int32.toNatClampNeg p8)) + (rdL h1 198 (Int32.toNatClampNeg p8))) ≤ (Int32.toInt64 (rdI h1 192 3)) then (
          bE (P := Unit) (X := (Int32 ⊕ (Unit ⊕ (Int32 × hH)))) (wh (plJ h1 p8) (0 : Int32)) fun p14 =>
          lz (A := Int32) (p8 + (1 : Int32)) fun v28 =>
          some (.inl v28)
        ) else (
          some (.inr (.inr ((3 : Int32), h1)))
        )
      )
    ) else (
      some (.inr (.inr ((3 : Int32), h1)))
    )
  )
theorem lt64 {x y : Int64} : (if x < y then y else x) = (if x ≤ y then y else x) := by
  by_cases q : x < y
  · rw [if_pos q, if_pos (Int64.le_of_lt q)]
  · rw [if_neg q]
    by_cases w : x ≤ y
    · rw [if_pos w]
      exact Int64.le_antisymm w (Int64.not_lt.mp q)
    · rw [if_neg w]
theorem ge64 {x y : Int64} : (if y < x then y else x) = (if y ≤ x then y else x) := by
  by_cases q : y < x
  · rw [if_pos q, if_pos (Int64.le_of_lt q)]
  · rw [if_neg q]
    by_cases w : y ≤ x
    · rw [if_pos w]
      exact Int64.le_antisymm (Int64.not_lt.mp q) w
    · rw [if_neg w]
theorem n1216 {n : Int32} (n0 : 1 ≤ n) (n1 : n ≤ 16) : (12 + 16 * n).toInt64 = 12 + 16 * n.toInt64 := by
  have hn : n = 1 ∨ n = 2 ∨ n = 3 ∨ n = 4 ∨ n = 5 ∨ n = 6 ∨ n = 7 ∨ n = 8 ∨ n = 9 ∨ n = 10 ∨ n = 11 ∨ n = 12 ∨ n = 13 ∨ n = 14 ∨ n = 15 ∨ n = 16 := by grind
  rcases hn with rfl | rfl | rfl | rfl | rfl | rfl | rfl | rfl | rfl | rfl | rfl | rfl | rfl | rfl | rfl | rfl <;> decide
/-- where a table lies -/
def PLc (B : Nat → Int32) (s : Int32) (i : Nat) : Prop := (u4B B (20 + 16 * i)).toInt + (u4B B (24 + 16 * i)).toInt ≤ s.toInt
theorem L_placed {B : Nat → Int32} {s n : Int32} {c m : hH} (cb : CB B s c) (mb : MB B s m) (d : DR B s n c m) : (f_Fo_arePlaced c = some 1 ∧ wh (plM m) 0 = some (.inl ()) ∧ ∀ i, i < n.toNatClampNeg → PLc B s i) ∨ (f_Fo_arePlaced c = some 0 ∧ wh (plM m) 0 = some (.inr (3, m))) := by
  obtain ⟨⟨d1, d2⟩, ⟨n0, n1, _⟩, dc, dm⟩ := d
  have z0 : (0 : Int32).toNatClampNeg = 0 := rfl
  have key := wh_two (f := plcC c) (g := plM m) (P := fun p => PLc B s p.toNatClampNeg) (a := 0) (n := n) (x := (0 : Int32)) (y := ((3 : Int32), m)) (by decide) (by grind) (by grind) (fun p hp => by unfold plcC; rw [d1, if_pos hp]) (fun p hp => by unfold plM; rw [d2, if_pos hp]) (fun p p0 p1 => by
    have v : vp_in p 16 := vp_lt (n := 16) (m := 16) p0 (by grind) rfl
    have l1 := (xI_lt p0 (by grind)).mpr p1
    obtain ⟨_, _, c9, c10⟩ := dc _ l1
    obtain ⟨_, _, m9, m10⟩ := dm _ l1
    have r9 := u4B_r B (20 + 16 * p.toNatClampNeg)
    have r10 := u4B_r B (24 + 16 * p.toNatClampNeg)
    unfold plcC plM
    rw [d1, d2, if_neg (Int32.not_le.mpr p1), if_neg (Int32.not_le.mpr p1), gd_pos v, lz_eq, gd_pos v, gd_pos v, gd_pos v, gd_pos v, gd_pos v, c9, c10, m9, m10, cb.1, mb.1, n1216 n0 n1]
    by_cases q1n : ¬ (u4B B (20 + 16 * p.toNatClampNeg) &&& 3 = 0)
    · rw [if_neg q1n, if_neg (fun w => q1n ((and3L r9.1).mpr w))]
      exact Or.inr ⟨rfl, rfl⟩
    have q1 : u4B B (20 + 16 * p.toNatClampNeg) &&& 3 = 0 := Decidable.not_not.mp q1n
    rw [if_pos q1, if_pos ((and3L r9.1).mp q1)]
    by_cases q2 : u4B B (20 + 16 * p.toNatClampNeg) < 12 + 16 * n.toInt64
    · rw [if_pos q2, if_pos q2]
      exact Or.inr ⟨rfl, rfl⟩
    rw [if_neg q2, if_neg q2]
    by_cases q3n : ¬ (u4B B (20 + 16 * p.toNatClampNeg) + u4B B (24 + 16 * p.toNatClampNeg) ≤ s.toInt64)
    · rw [if_neg q3n, if_neg q3n]
      exact Or.inr ⟨rfl, rfl⟩
    have q3 : u4B B (20 + 16 * p.toNatClampNeg) + u4B B (24 + 16 * p.toNatClampNeg) ≤ s.toInt64 := Decidable.not_not.mp q3n
    rw [if_pos q3, if_pos q3]
    have e3 := Int64.le_iff_toInt_le.mp q3
    rw [i64_add (by omega) (by omega), Int32.toInt_toInt64] at e3
    have inner := wh_two (f := plI c p (u4B B (20 + 16 * p.toNatClampNeg) + u4B B (24 + 16 * p.toNatClampNeg))) (g := plJ m p) (P := fun _ => True) (a := 0) (n := p) (x := (.inr (.inr (0 : Int32)) : Int32 ⊕ (Unit ⊕ Int32))) (y := (.inr (.inr ((3 : Int32), m)) : Int32 ⊕ (Unit ⊕ (Int32 × hH)))) (by decide) p0 (by grind) (fun k hk => by unfold plI; rw [if_pos hk]) (fun k hk => by unfold plJ; rw [if_pos hk]) (fun k k0 k1 => by
      have vk : vp_in k 16 := vp_lt (n := 16) (m := 16) k0 (by grind) rfl
      have l2 := (xI_lt (x := k) (y := n) k0 (by grind)).mpr (by grind)
      obtain ⟨_, _, k9, k10⟩ := dc _ l2
      obtain ⟨_, _, h9, h10⟩ := dm _ l2
      unfold plI plJ
      rw [if_neg (Int32.not_le.mpr k1), if_neg (Int32.not_le.mpr k1)]
      simp only [gd_pos vk, gd_pos v, gd_pos (And.intro vk v), c9, k9, k10, m9, m10, h9, h10, f_JM_max_eq, f_JM_min_eq, bP_some, lt64, ge64, lz]
      have p16 : (if u4B B (20 + 16 * k.toNatClampNeg) ≤ u4B B (20 + 16 * p.toNatClampNeg) then (some (u4B B (20 + 16 * p.toNatClampNeg)) : Option Int64) else some (u4B B (20 + 16 * k.toNatClampNeg))) = some (if u4B B (20 + 16 * k.toNatClampNeg) ≤ u4B B (20 + 16 * p.toNatClampNeg) then u4B B (20 + 16 * p.toNatClampNeg) else u4B B (20 + 16 * k.toNatClampNeg)) := by split <;> rfl
      have p21 : (if u4B B (20 + 16 * p.toNatClampNeg) + u4B B (24 + 16 * p.toNatClampNeg) ≤ u4B B (20 + 16 * k.toNatClampNeg) + u4B B (24 + 16 * k.toNatClampNeg) then (some (u4B B (20 + 16 * p.toNatClampNeg) + u4B B (24 + 16 * p.toNatClampNeg)) : Option Int64) else some (u4B B (20 + 16 * k.toNatClampNeg) + u4B B (24 + 16 * k.toNatClampNeg))) = some (if u4B B (20 + 16 * p.toNatClampNeg) + u4B B (24 + 16 * p.toNatClampNeg) ≤ u4B B (20 + 16 * k.toNatClampNeg) + u4B B (24 + 16 * k.toNatClampNeg) then u4B B (20 + 16 * p.toNatClampNeg) + u4B B (24 + 16 * p.toNatClampNeg) else u4B B (20 + 16 * k.toNatClampNeg) + u4B B (24 + 16 * k.toNatClampNeg)) := by split <;> rfl
      rw [p16, p21, bP_some, bP_some]
      generalize (if u4B B (20 + 16 * k.toNatClampNeg) ≤ u4B B (20 + 16 * p.toNatClampNeg) then u4B B (20 + 16 * p.toNatClampNeg) else u4B B (20 + 16 * k.toNatClampNeg)) = X
      generalize (if u4B B (20 + 16 * p.toNatClampNeg) + u4B B (24 + 16 * p.toNatClampNeg) ≤ u4B B (20 + 16 * k.toNatClampNeg) + u4B B (24 + 16 * k.toNatClampNeg) then u4B B (20 + 16 * p.toNatClampNeg) + u4B B (24 + 16 * p.toNatClampNeg) else u4B B (20 + 16 * k.toNatClampNeg) + u4B B (24 + 16 * k.toNatClampNeg)) = Y
      by_cases q : Y ≤ X
      · rw [if_pos q, if_pos q]
        exact Or.inl ⟨trivial, rfl, rfl⟩
      · rw [if_neg q, if_neg q]
        exact Or.inr ⟨rfl, rfl⟩)
    rcases inner with ⟨w1, w2, _⟩ | ⟨w1, w2⟩
    · rw [w1, w2]
      exact Or.inl ⟨e3, rfl, rfl⟩
    · rw [w1, w2]
      exact Or.inr ⟨rfl, rfl⟩)
  rw [arePlaced_eq0]
  rcases key with ⟨a, b, e⟩ | ⟨a, b⟩
  · refine Or.inl ⟨by rw [a]; rfl, b, fun i hi => ?_⟩
    have h16 := xI_le (n := 16) n1 rfl
    have ei : ∃ p : Int32, 0 ≤ p ∧ p < n ∧ p.toNatClampNeg = i := ⟨Int32.ofNat i, by
      have hi' : i = 0 ∨ i = 1 ∨ i = 2 ∨ i = 3 ∨ i = 4 ∨ i = 5 ∨ i = 6 ∨ i = 7 ∨ i = 8 ∨ i = 9 ∨ i = 10 ∨ i = 11 ∨ i = 12 ∨ i = 13 ∨ i = 14 ∨ i = 15 := by omega
      have e1 : (Int32.ofNat i).toNatClampNeg = i ∧ 0 ≤ Int32.ofNat i := by
        rcases hi' with rfl | rfl | rfl | rfl | rfl | rfl | rfl | rfl | rfl | rfl | rfl | rfl | rfl | rfl | rfl | rfl <;> exact ⟨rfl, by decide⟩
      exact ⟨e1.2, (xI_lt e1.2 (by grind)).mp (by rw [e1.1]; exact hi), e1.1⟩⟩
    obtain ⟨p, p0, p1, p2⟩ := ei
    have := e p p0 p1
    rw [p2] at this
    exact this
  · exact Or.inr ⟨by rw [a]; rfl, b⟩
