/-! LAYER 3BI: an outline laid out as pieces (the component's Inside) -/
def FrI (h g : hH) : Prop := (∀ o k, o < 182 ∨ 189 < o → rdI g o k = rdI h o k) ∧ (∀ o k, rdL g o k = rdL h o k) ∧ (∀ o k, rdP g o k = rdP h o k)
theorem FrI_rfl {h : hH} : FrI h h := ⟨fun _ _ _ => rfl, fun _ _ => rfl, fun _ _ => rfl⟩
theorem FrI_t {h g g' : hH} (f : FrI h g) (f' : FrI g g') : FrI h g' := ⟨fun o k w => (f'.1 o k w).trans (f.1 o k w), fun o k => (f'.2.1 o k).trans (f.2.1 o k), fun o k => (f'.2.2 o k).trans (f.2.2 o k)⟩
theorem FrI_w {h g : hH} {o k : Nat} {v : Int32} (f : FrI h g) (ho : 182 ≤ o ∧ o ≤ 189) : FrI h (wrI g o k v) := ⟨fun o' k' w => (rdI_o (by omega)).trans (f.1 o' k' w), f.2.1, f.2.2⟩
def PcR (h : hH) (k : Nat) (pc : (Int32 × Int32) × Option (Int32 × Int32) × (Int32 × Int32)) : Prop := (rdI h 183 k = pc.1.1 ∧ rdI h 184 k = pc.1.2) ∧ (rdI h 187 k = pc.2.2.1 ∧ rdI h 188 k = pc.2.2.2) ∧ ((pc.2.1 = none ∧ rdI h 189 k = 1) ∨ (∃ c, pc.2.1 = some c ∧ rdI h 189 k = 0 ∧ rdI h 185 k = c.1 ∧ rdI h 186 k = c.2))
def IS (h : hH) (s : List ((Int32 × Int32) × Option (Int32 × Int32) × (Int32 × Int32)) × (Int32 × Int32) × Option (Int32 × Int32)) : Prop := (0 ≤ rdI h 182 7 ∧ (rdI h 182 7).toNatClampNeg = s.1.length) ∧ (∀ k pc, s.1[k]? = some pc → PcR h k pc) ∧ (rdI h 182 8 = s.2.1.1 ∧ rdI h 182 9 = s.2.1.2) ∧ ((s.2.2 = none ∧ rdI h 182 10 = 0) ∨ (∃ c, s.2.2 = some c ∧ rdI h 182 10 = 1 ∧ rdI h 182 11 = c.1 ∧ rdI h 182 12 = c.2))
def inA (s : List ((Int32 × Int32) × Option (Int32 × Int32) × (Int32 × Int32)) × (Int32 × Int32) × Option (Int32 × Int32)) (p : Int32 × Int32) : List ((Int32 × Int32) × Option (Int32 × Int32) × (Int32 × Int32)) × (Int32 × Int32) × Option (Int32 × Int32) := (s.1 ++ [(s.2.1, s.2.2, p)], p, none)
def inG (s : List ((Int32 × Int32) × Option (Int32 × Int32) × (Int32 × Int32)) × (Int32 × Int32) × Option (Int32 × Int32)) (p : Int32 × Int32) (on : Int32) : List ((Int32 × Int32) × Option (Int32 × Int32) × (Int32 × Int32)) × (Int32 × Int32) × Option (Int32 × Int32) :=
  if on = 0 then (match s.2.2 with
    | none => (s.1, s.2.1, some p)
    | some c => ((inA s ((c.1 + p.1) / 2, (c.2 + p.2) / 2)).1, ((c.1 + p.1) / 2, (c.2 + p.2) / 2), some p)) else inA s p
theorem inG_len {s : List ((Int32 × Int32) × Option (Int32 × Int32) × (Int32 × Int32)) × (Int32 × Int32) × Option (Int32 × Int32)} {p : Int32 × Int32} {on : Int32} : (inG s p on).1.length ≤ s.1.length + 1 := by
  unfold inG
  split
  · cases e : s.2.2 with
    | none => exact Nat.le_succ _
    | some c => simp [inA]
  · simp [inA]
def inAH (x y : Int32) (h : hH) : hH := wrI (wrI (wrI (wrI (wrI (wrI (wrI (wrI (wrI (wrI (wrI h 183 (rdI h 182 7).toNatClampNeg (rdI h 182 8)) 184 (rdI h 182 7).toNatClampNeg (rdI h 182 9)) 185 (rdI h 182 7).toNatClampNeg (if rdI h 182 10 = 0 then x else rdI h 182 11)) 186 (rdI h 182 7).toNatClampNeg (if rdI h 182 10 = 0 then y else rdI h 182 12)) 187 (rdI h 182 7).toNatClampNeg x) 188 (rdI h 182 7).toNatClampNeg y) 189 (rdI h 182 7).toNatClampNeg ((if rdI h 182 10 = 0 then (1 : Int32) else 0) &&& 1)) 182 7 (rdI h 182 7 + 1)) 182 8 x) 182 9 y) 182 10 0
theorem In_add_eq {x y : Int32} {h : hH} (v : vp_in (rdI h 182 7) 220) : f_In_add x y h = some ((), inAH x y h) := by
  unfold f_In_add inAH
  simp only [lz, rdI_wrI, Nat.reduceEqDiff, false_and, and_false, true_and, and_true, eq_self, reduceIte, gd_pos v]
theorem PcR_loc {h g : hH} {k : Nat} {pc : (Int32 × Int32) × Option (Int32 × Int32) × (Int32 × Int32)} (e : ∀ o, 183 ≤ o → o ≤ 189 → rdI g o k = rdI h o k) (p : PcR h k pc) : PcR g k pc := by
  unfold PcR
  rw [e 183 (by omega) (by omega), e 184 (by omega) (by omega), e 185 (by omega) (by omega), e 186 (by omega) (by omega), e 187 (by omega) (by omega), e 188 (by omega) (by omega), e 189 (by omega) (by omega)]
  exact p
theorem inAH_o {x y : Int32} {h : hH} {o k : Nat} (ho : 183 ≤ o) (hk : k ≠ (rdI h 182 7).toNatClampNeg) : rdI (inAH x y h) o k = rdI h o k := by
  unfold inAH
  rw [rdI_o (by omega), rdI_o (by omega), rdI_o (by omega), rdI_o (by omega), rdI_wrI, if_neg (by omega), rdI_wrI, if_neg (by omega), rdI_wrI, if_neg (by omega), rdI_wrI, if_neg (by omega), rdI_wrI, if_neg (by omega), rdI_wrI, if_neg (by omega), rdI_wrI, if_neg (by omega)]
theorem inAH_fr {x y : Int32} {h : hH} : FrI h (inAH x y h) := by
  unfold inAH
  exact FrI_w (FrI_w (FrI_w (FrI_w (FrI_w (FrI_w (FrI_w (FrI_w (FrI_w (FrI_w (FrI_w FrI_rfl (by omega)) (by omega)) (by omega)) (by omega)) (by omega)) (by omega)) (by omega)) (by omega)) (by omega)) (by omega)) (by omega)
theorem IS_add {h : hH} {s : List ((Int32 × Int32) × Option (Int32 × Int32) × (Int32 × Int32)) × (Int32 × Int32) × Option (Int32 × Int32)} {x y : Int32} (i : IS h s) (l : s.1.length < 220) : ∃ g, f_In_add x y h = some ((), g) ∧ IS g (inA s (x, y)) ∧ FrI h g := by
  obtain ⟨⟨i1, i2⟩, i3, ⟨i4, i5⟩, i6⟩ := i
  have e220 : (220 : Int32).toNatClampNeg = 220 := rfl
  have lt : rdI h 182 7 < 220 := (xI_lt i1 (by decide)).mp (by omega)
  have v : vp_in (rdI h 182 7) 220 := vp_lt (n := 220) (m := 220) i1 lt rfl
  refine ⟨_, In_add_eq v, ⟨⟨?_, ?_⟩, ?_, ⟨?_, ?_⟩, Or.inl ⟨rfl, ?_⟩⟩, inAH_fr⟩
  · unfold inAH; simp only [rdI_wrI, rdP_wrI, rdL_wrI, Nat.reduceEqDiff, false_and, and_false, true_and, and_true, eq_self, reduceIte, ite_self]; grind
  · unfold inAH; simp only [rdI_wrI, rdP_wrI, rdL_wrI, Nat.reduceEqDiff, false_and, and_false, true_and, and_true, eq_self, reduceIte, ite_self]
    rw [xI_succ (m := 220) i1 (by grind) (by decide), i2]
    simp [inA]
  · intro k pc hk
    by_cases q : k < s.1.length
    · have hk' : s.1[k]? = some pc := by
        have : (s.1 ++ [(s.2.1, s.2.2, (x, y))])[k]? = some pc := hk
        rw [List.getElem?_append_left q] at this
        exact this
      exact PcR_loc (fun o a b => inAH_o a (by omega)) (i3 k pc hk')
    · have hk2 : (s.1 ++ [(s.2.1, s.2.2, (x, y))])[k]? = some pc := hk
      rw [List.getElem?_append_right (by omega)] at hk2
      have k0 : k - s.1.length = 0 := by
        cases e : k - s.1.length with
        | zero => rfl
        | succ n => rw [e] at hk2; simp at hk2
      rw [k0] at hk2
      have epc : (s.2.1, s.2.2, (x, y)) = pc := by simpa using hk2
      have ek : k = (rdI h 182 7).toNatClampNeg := by omega
      subst epc
      subst ek
      unfold PcR inAH
      dsimp only
      refine ⟨⟨?_, ?_⟩, ⟨?_, ?_⟩, ?_⟩
      · simp only [rdI_wrI, rdP_wrI, rdL_wrI, Nat.reduceEqDiff, false_and, and_false, true_and, and_true, eq_self, reduceIte, ite_self]; exact i4
      · simp only [rdI_wrI, rdP_wrI, rdL_wrI, Nat.reduceEqDiff, false_and, and_false, true_and, and_true, eq_self, reduceIte, ite_self]; exact i5
      · simp only [rdI_wrI, rdP_wrI, rdL_wrI, Nat.reduceEqDiff, false_and, and_false, true_and, and_true, eq_self, reduceIte, ite_self]
      · simp only [rdI_wrI, rdP_wrI, rdL_wrI, Nat.reduceEqDiff, false_and, and_false, true_and, and_true, eq_self, reduceIte, ite_self]
      · rcases i6 with ⟨n1, n2⟩ | ⟨c, n1, n2, n3, n4⟩
        · left
          refine ⟨n1, ?_⟩
          simp only [rdI_wrI, rdP_wrI, rdL_wrI, Nat.reduceEqDiff, false_and, and_false, true_and, and_true, eq_self, reduceIte, ite_self]
          rw [if_pos n2]
          decide
        · right
          refine ⟨c, n1, ?_, ?_, ?_⟩
          · simp only [rdI_wrI, rdP_wrI, rdL_wrI, Nat.reduceEqDiff, false_and, and_false, true_and, and_true, eq_self, reduceIte, ite_self]
            rw [if_neg (by rw [n2]; decide)]
            decide
          · simp only [rdI_wrI, rdP_wrI, rdL_wrI, Nat.reduceEqDiff, false_and, and_false, true_and, and_true, eq_self, reduceIte, ite_self]
            rw [if_neg (by rw [n2]; decide)]
            exact n3
          · simp only [rdI_wrI, rdP_wrI, rdL_wrI, Nat.reduceEqDiff, false_and, and_false, true_and, and_true, eq_self, reduceIte, ite_self]
            rw [if_neg (by rw [n2]; decide)]
            exact n4
  · unfold inAH; simp only [rdI_wrI, rdP_wrI, rdL_wrI, Nat.reduceEqDiff, false_and, and_false, true_and, and_true, eq_self, reduceIte, ite_self]; rfl
  · unfold inAH; simp only [rdI_wrI, rdP_wrI, rdL_wrI, Nat.reduceEqDiff, false_and, and_false, true_and, and_true, eq_self, reduceIte, ite_self]; rfl
  · unfold inAH; simp only [rdI_wrI, rdP_wrI, rdL_wrI, Nat.reduceEqDiff, false_and, and_false, true_and, and_true, eq_self, reduceIte, ite_self]
theorem IS_go {h : hH} {s : List ((Int32 × Int32) × Option (Int32 × Int32) × (Int32 × Int32)) × (Int32 × Int32) × Option (Int32 × Int32)} {x y on : Int32} (i : IS h s) (l : s.1.length < 220) : ∃ g, f_In_go x y on h = some ((), g) ∧ IS g (inG s (x, y) on) ∧ FrI h g := by
  unfold f_In_go inG
  by_cases q : on = 0
  · rw [if_pos q, if_pos q]
    have fin : ∀ (g : hH) (s' : List ((Int32 × Int32) × Option (Int32 × Int32) × (Int32 × Int32)) × (Int32 × Int32) × Option (Int32 × Int32)), IS g s' → FrI h g → ∃ g', (lz (wrI g 182 10 (1 : Int32)) fun h2 => lz (wrI h2 182 11 x) fun h3 => lz (wrI h3 182 12 y) fun h4 => some ((), h4)) = some ((), g') ∧ IS g' (s'.1, s'.2.1, some (x, y)) ∧ FrI h g' := fun g s' w f => by
      obtain ⟨⟨i1, i2⟩, i3, ⟨i4, i5⟩, i6⟩ := w
      refine ⟨_, rfl, ⟨⟨?_, ?_⟩, fun k pc hk => PcR_loc (fun o a b => ?_) (i3 k pc hk), ⟨?_, ?_⟩, Or.inr ⟨(x, y), rfl, ?_, ?_, ?_⟩⟩, FrI_w (FrI_w (FrI_w f (by omega)) (by omega)) (by omega)⟩
      · simp only [rdI_wrI, rdP_wrI, rdL_wrI, Nat.reduceEqDiff, false_and, and_false, true_and, and_true, eq_self, reduceIte, ite_self]; exact i1
      · simp only [rdI_wrI, rdP_wrI, rdL_wrI, Nat.reduceEqDiff, false_and, and_false, true_and, and_true, eq_self, reduceIte, ite_self]; exact i2
      · rw [rdI_o (by omega), rdI_o (by omega), rdI_o (by omega)]
      · simp only [rdI_wrI, rdP_wrI, rdL_wrI, Nat.reduceEqDiff, false_and, and_false, true_and, and_true, eq_self, reduceIte, ite_self]; exact i4
      · simp only [rdI_wrI, rdP_wrI, rdL_wrI, Nat.reduceEqDiff, false_and, and_false, true_and, and_true, eq_self, reduceIte, ite_self]; exact i5
      · simp only [rdI_wrI, rdP_wrI, rdL_wrI, Nat.reduceEqDiff, false_and, and_false, true_and, and_true, eq_self, reduceIte, ite_self]
      · simp only [rdI_wrI, rdP_wrI, rdL_wrI, Nat.reduceEqDiff, false_and, and_false, true_and, and_true, eq_self, reduceIte, ite_self]
      · simp only [rdI_wrI, rdP_wrI, rdL_wrI, Nat.reduceEqDiff, false_and, and_false, true_and, and_true, eq_self, reduceIte, ite_self]
    rcases i.2.2.2 with ⟨n1, n2⟩ | ⟨c, n1, n2, n3, n4⟩
    · rw [n1, if_pos n2, bP_some]
      exact fin h s i FrI_rfl
    · have nz : ¬ rdI h 182 10 = 0 := by rw [n2]; decide
      rw [n1, if_neg nz, n3, n4]
      obtain ⟨g, eg, ig, fg⟩ := IS_add (x := (c.1 + x) / 2) (y := (c.2 + y) / 2) i l
      rw [eg, bS_some, bP_some]
      exact fin g _ ig fg
  · rw [if_neg q, if_neg q]
    obtain ⟨g, eg, ig, fg⟩ := IS_add (x := x) (y := y) i l
    rw [eg, bS_some]
    exact ⟨g, rfl, ig, fg⟩
