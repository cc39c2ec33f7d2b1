/-! LAYER 3CM: the law of load between two heaps -/
/-- a step of the component leaves the model's cells; a step of the model leaves the component's -/
def CPf (h g : hH) : Prop := (∀ o k, 192 ≤ o → rdI g o k = rdI h o k) ∧ (∀ o k, 192 ≤ o → rdL g o k = rdL h o k)
def MPf (h g : hH) : Prop := (∀ o k, o < 192 → rdI g o k = rdI h o k) ∧ (∀ o k, o < 192 → rdL g o k = rdL h o k) ∧ (∀ o k, o < 192 → rdP g o k = rdP h o k)
theorem i8_r (x : Int32) : -128 ≤ Int8.toInt32 (Int32.toInt8 x) ∧ Int8.toInt32 (Int32.toInt8 x) ≤ 127 := by
  have a := Int8.le_toInt (Int32.toInt8 x)
  have b := Int8.toInt_lt (Int32.toInt8 x)
  have z1 : (-128 : Int32).toInt = -128 := rfl
  have z2 : (127 : Int32).toInt = 127 := rfl
  rw [Int32.le_iff_toInt_le, Int32.le_iff_toInt_le, Int8.toInt_toInt32, z1, z2]
  omega
def b8 (h : hH) (o : Nat) (k : Nat) : Int32 := Int8.toInt32 (Int32.toInt8 (rdI h o k))
theorem By_copy_eq {h : hH} (s0 : 0 ≤ rdI h 2 1) (s1 : rdI h 2 1 ≤ 12000) : f_By_copy 5 2 h = some ((), flI (wrI h 5 1 (rdI h 2 1)) 6 (rdI h 2 1).toNatClampNeg (b8 h 3)) := by
  have r5 : ∀ (k : Nat) (v : Nat → Int32), rdI (flI (wrI h 5 1 (rdI h 2 1)) 6 k v) 5 1 = rdI h 2 1 := fun k v => by rw [rdI_flI, if_neg (by omega), rdI_wrI, if_pos ⟨rfl, rfl⟩]
  have r3 : ∀ (k j : Nat) (v : Nat → Int32), rdI (flI (wrI h 5 1 (rdI h 2 1)) 6 k v) 3 j = rdI h 3 j := fun k j v => by rw [rdI_flI, if_neg (by omega), rdI_wrI, if_neg (by omega)]
  unfold f_By_copy
  rw [lz_eq, show rf 5 0 = 6 from rfl, show rf 2 0 = 3 from rfl]
  rw [wh_fill (n := rdI h 2 1) ⟨s0, by grind⟩ (r := flI (wrI h 5 1 (rdI h 2 1)) 6 (rdI h 2 1).toNatClampNeg (b8 h 3)) (fun i => flI (wrI h 5 1 (rdI h 2 1)) 6 i (b8 h 3)) flI_0 (by
    dsimp only
    rw [r5, if_pos (Int32.le_refl _)]) (by
    intro i i0 i1
    have v : vp_in i 12000 := vp_lt (n := 12000) (m := 12000) i0 (Int32.lt_of_lt_of_le i1 s1) rfl
    dsimp only
    rw [r5, if_neg (Int32.not_le.mpr i1), gd_pos v, lz_eq, lz_eq, r3, show Int8.toInt32 (Int32.toInt8 (rdI h 3 i.toNatClampNeg)) = b8 h 3 i.toNatClampNeg from rfl, flI_s])]
  rfl
noncomputable def ldM (p1 : Int32 × hH) : Option ((Int32 × hH) ⊕ hH) :=
  if (rdI p1.2 192 3) ≤ p1.1 then (
    some (.inr p1.2)
  ) else (
    gd (vp_in p1.1 12000) <|
    lz (wrI p1.2 194 (Int32.toNatClampNeg p1.1) (Int8.toInt32 (Int32.toInt8 (rdI p1.2 193 (Int32.toNatClampNeg p1.1))))) fun h2 =>
    lz (A := Int32) (p1.1 + (1 : Int32)) fun v4 =>
    some (.inl (v4, h2))
  )
theorem ldM_eq {h : hH} (s0 : 0 ≤ rdI h 192 1) (s1 : rdI h 192 1 ≤ 12000) : wh ldM (0, wrI h 192 3 (rdI h 192 1)) = some (flI (wrI h 192 3 (rdI h 192 1)) 194 (rdI h 192 1).toNatClampNeg (b8 h 193)) := by
  have r5 : ∀ (k : Nat) (v : Nat → Int32), rdI (flI (wrI h 192 3 (rdI h 192 1)) 194 k v) 192 3 = rdI h 192 1 := fun k v => by rw [rdI_flI, if_neg (by omega), rdI_wrI, if_pos ⟨rfl, rfl⟩]
  have r3 : ∀ (k j : Nat) (v : Nat → Int32), rdI (flI (wrI h 192 3 (rdI h 192 1)) 194 k v) 193 j = rdI h 193 j := fun k j v => by rw [rdI_flI, if_neg (by omega), rdI_wrI, if_neg (by omega)]
  refine wh_fill (n := rdI h 192 1) ⟨s0, by grind⟩ (fun i => flI (wrI h 192 3 (rdI h 192 1)) 194 i (b8 h 193)) flI_0 ?_ ?_
  · unfold ldM
    dsimp only
    rw [r5, if_pos (Int32.le_refl _)]
  · intro i i0 i1
    have v : vp_in i 12000 := vp_lt (n := 12000) (m := 12000) i0 (Int32.lt_of_lt_of_le i1 s1) rfl
    unfold ldM
    dsimp only
    rw [r5, if_neg (Int32.not_le.mpr i1), gd_pos v, lz_eq, lz_eq, r3, show Int8.toInt32 (Int32.toInt8 (rdI h 193 i.toNatClampNeg)) = b8 h 193 i.toNatClampNeg from rfl, flI_s]
theorem Mo_load_eq0 {h : hH} : f_Mo_load h = lz (wrI h 192 3 (rdI h 192 1)) fun h1 =>
  bP (A := hH) (wh (A := (Int32 × hH)) (B := hH) ldM ((0 : Int32), h1)) fun p2 =>
  lz (wrI p2 192 107 (0 : Int32)) fun h3 =>
  lz (wrI h3 192 108 (0 : Int32)) fun h4 =>
  lz (wrI h4 192 4 (0 : Int32)) fun h5 =>
  lz (wrI h5 192 62 (0 : Int32)) fun h6 =>
  lz (wrI h6 192 57 (0 : Int32)) fun h7 =>
  lz (wrI h7 192 5 (0 : Int32)) fun h8 =>
  bS (f_Mo_check h8) fun a6 h9 =>
  if a6 ≤ 0 then (
    lz (wrI h9 192 4 (1 : Int32)) fun h10 =>
    some ((rdI h10 192 12), h10)
  ) else (
    some (((-100 : Int32) - a6), h9)
  ) := rfl
/-- the two heaps ahead of the check -/
def ldC0 (h : hH) : hH := wrI (wrP (wrI (flI (wrI h 5 1 (rdI h 2 1)) 6 (rdI h 2 1).toNatClampNeg (b8 h 3)) 1 6 0) 1 7 0) 22 6 0
def ldM0 (h : hH) : hH := wrI (wrI (wrI (wrI (wrI (wrI (flI (wrI h 192 3 (rdI h 192 1)) 194 (rdI h 192 1).toNatClampNeg (b8 h 193)) 192 107 0) 192 108 0) 192 4 0) 192 62 0) 192 57 0) 192 5 0
theorem ldC0_I {h : hH} {o k : Nat} (h1 : ¬ (o = 5 ∧ k = 1)) (h2 : o ≠ 6) (h3 : ¬ (o = 1 ∧ k = 6)) (h4 : ¬ (o = 22 ∧ k = 6)) : rdI (ldC0 h) o k = rdI h o k := by
  unfold ldC0
  rw [rdI_wrI, if_neg h4, rdI_wrP, rdI_wrI, if_neg h3, rdI_flI, if_neg (by omega), rdI_wrI, if_neg h1]
theorem ldM0_I {h : hH} {o k : Nat} (h1 : ¬ (o = 192 ∧ (k = 3 ∨ k = 107 ∨ k = 108 ∨ k = 4 ∨ k = 62 ∨ k = 57 ∨ k = 5))) (h2 : o ≠ 194) : rdI (ldM0 h) o k = rdI h o k := by
  unfold ldM0
  rw [rdI_wrI, if_neg (by omega), rdI_wrI, if_neg (by omega), rdI_wrI, if_neg (by omega), rdI_wrI, if_neg (by omega), rdI_wrI, if_neg (by omega), rdI_wrI, if_neg (by omega), rdI_flI, if_neg (by omega), rdI_wrI, if_neg (by omega)]
theorem L_load {hc hm : hH} (r : RR hc hm) : ∃ a g m, f_HH_load hc = some (a, g) ∧ f_Mo_load hm = some (a, m) ∧ RR g m ∧ CPf hc g ∧ MPf hm m := by
  obtain ⟨⟨w1, ⟨s0, s1⟩, w2⟩, _, _, _, _, td, _, rv, rt⟩ := r
  have c5 : rdI (ldC0 hc) 5 1 = rdI hc 2 1 := by
    unfold ldC0
    rw [rdI_wrI, if_neg (by omega), rdI_wrP, rdI_wrI, if_neg (by omega), rdI_flI, if_neg (by omega), rdI_wrI, if_pos ⟨rfl, rfl⟩]
  have cb : CB (fun k => rdI (ldC0 hc) 6 k) (rdI hc 2 1) (ldC0 hc) := ⟨c5, fun _ => rfl⟩
  have c6 : ∀ k, k < (rdI hc 2 1).toNatClampNeg → rdI (ldC0 hc) 6 k = b8 hc 3 k := fun k hk => by
    unfold ldC0
    rw [rdI_wrI, if_neg (by omega), rdI_wrP, rdI_wrI, if_neg (by omega), rdI_flI, if_pos ⟨rfl, hk⟩]
  have m3 : rdI (ldM0 hm) 192 3 = rdI hc 2 1 := by
    rw [← w1]
    unfold ldM0
    rw [rdI_wrI, if_neg (by omega), rdI_wrI, if_neg (by omega), rdI_wrI, if_neg (by omega), rdI_wrI, if_neg (by omega), rdI_wrI, if_neg (by omega), rdI_wrI, if_neg (by omega), rdI_flI, if_neg (by omega), rdI_wrI, if_pos ⟨rfl, rfl⟩]
  have mB : MB (fun k => rdI (ldC0 hc) 6 k) (rdI hc 2 1) (ldM0 hm) := ⟨m3, fun k hk => by
    show _ = rdI (ldC0 hc) 6 k
    rw [c6 k hk]
    unfold ldM0 b8
    rw [rdI_wrI, if_neg (by omega), rdI_wrI, if_neg (by omega), rdI_wrI, if_neg (by omega), rdI_wrI, if_neg (by omega), rdI_wrI, if_neg (by omega), rdI_wrI, if_neg (by omega), rdI_flI, if_pos ⟨rfl, by rw [w1]; exact hk⟩, w2 k hk]⟩
  obtain ⟨a, g, m, e1, e2, f1, f2, h⟩ := L_check cb mB s0 s1 (fun k hk => by
    show -128 ≤ rdI (ldC0 hc) 6 k ∧ rdI (ldC0 hc) 6 k ≤ 127
    rw [c6 k hk]
    exact i8_r _)
  have eC : f_HH_load hc = bS (f_Fo_load (ldC0 hc)) fun a1 h5 =>
      lz (A := Int32) (if a1 = 0 then (1 : Int32) else (0 : Int32)) fun p2 =>
      gd ((p2 = 0 ∨ p2 = 1)) <|
      lz (wrI h5 1 2 p2) fun h6 =>
      if (rdI h6 1 2) = 0 then (
        some (((-100 : Int32) - a1), h6)
      ) else (
        some ((rdI h6 4 8), h6)
      ) := by
    unfold f_HH_load ldC0
    rw [By_copy_eq s0 s1]
    rfl
  have eM : f_Mo_load hm = bS (f_Mo_check (ldM0 hm)) fun a6 h9 =>
      if a6 ≤ 0 then (
        lz (wrI h9 192 4 (1 : Int32)) fun h10 =>
        some ((rdI h10 192 12), h10)
      ) else (
        some (((-100 : Int32) - a6), h9)
      ) := by
    rw [Mo_load_eq0, lz_eq, ldM_eq (by rw [w1]; exact s0) (by rw [w1]; exact s1)]
    unfold ldM0
    rfl
  rw [eC, eM, e1, e2, bS_some, bS_some]
  have cp0 : CPf hc g := ⟨fun o k ho => by rw [f1.1 o k (by omega) (by omega), ldC0_I (by omega) (by omega) (by omega) (by omega)], fun o k ho => by rw [f1.2.1 o k (by omega)]; rfl⟩
  have mp0 : MPf hm m := ⟨fun o k ho => by rw [f2.1 o k (by omega) (by omega) (by omega), ldM0_I (by omega) (by omega)], fun o k ho => by rw [f2.2.1 o k (by omega)]; rfl, fun o k ho => by rw [f2.2.2 o k]; rfl⟩
  have gI : ∀ o k, o ≠ 4 → ¬ (11 ≤ o ∧ o ≤ 21) → ¬ (o = 5 ∧ k = 1) → o ≠ 6 → ¬ (o = 1 ∧ k = 6) → ¬ (o = 22 ∧ k = 6) → rdI g o k = rdI hc o k := fun o k h1 h2 h3 h4 h5 h6 => by rw [f1.1 o k h1 h2, ldC0_I h3 h4 h5 h6]
  have mI : ∀ o k, ¬ (o = 192 ∧ 3 ≤ k ∧ k ≤ 32) → ¬ (o = 192 ∧ (k = 107 ∨ k = 108 ∨ k = 62 ∨ k = 57)) → ¬ (194 ≤ o ∧ o ≤ 209) → rdI m o k = rdI hm o k := fun o k h1 h2 h3 => by rw [f2.1 o k (by omega) (by omega) (by omega), ldM0_I (by omega) (by omega)]
  have g16 : rdI g 1 6 = 0 := by
    rw [f1.1 1 6 (by omega) (by omega)]
    unfold ldC0
    rw [rdI_wrI, if_neg (by omega), rdI_wrP, rdI_wrI, if_pos ⟨rfl, rfl⟩]
  have g226 : rdI g 22 6 = 0 := by
    rw [f1.1 22 6 (by omega) (by omega)]
    unfold ldC0
    rw [rdI_wrI, if_pos ⟨rfl, rfl⟩]
  have g17 : rdP g 1 7 = 0 := by
    rw [f1.2.2 1 7 (by omega)]
    unfold ldC0
    rw [rdP_wrI, rdP_wrP, if_pos ⟨rfl, rfl⟩]
  have mZ : ∀ k, k = 107 ∨ k = 108 ∨ k = 62 ∨ k = 57 ∨ k = 4 → rdI m 192 k = 0 := fun k hk => by
    rw [f2.1 192 k (by omega) (by omega) (by omega)]
    unfold ldM0
    rcases hk with rfl | rfl | rfl | rfl | rfl <;> simp only [rdI_wrI, Nat.reduceEqDiff, and_false, and_true, and_self, reduceIte, if_true, if_false]
  have fin : ∀ (g' m' : hH), (∀ o k, ¬ (o = 1 ∧ k = 2) → rdI g' o k = rdI g o k) → (∀ o k, rdL g' o k = rdL g o k) → (∀ o k, rdP g' o k = rdP g o k) → (∀ o k, ¬ (o = 192 ∧ k = 4) → rdI m' o k = rdI m o k) → (∀ o k, rdL m' o k = rdL m o k) → (∀ o k, rdP m' o k = rdP m o k) → RL g' m' → RR g' m' ∧ CPf hc g' ∧ MPf hm m' := fun g' m' a1 a2 a3 b1 b2 b3 rl => by
    refine ⟨⟨?_, rl, ?_, ?_, ?_, ?_, ?_, ?_, ?_⟩, ⟨fun o k ho => ?_, fun o k ho => ?_⟩, ⟨fun o k ho => ?_, fun o k ho => ?_, fun o k ho => ?_⟩⟩
    · unfold RW
      rw [a1 2 1 (by omega), b1 192 1 (by omega), gI 2 1 (by omega) (by omega) (by omega) (by omega) (by omega) (by omega), mI 192 1 (by omega) (by omega) (by omega)]
      refine ⟨w1, ⟨s0, s1⟩, fun i hi => ?_⟩
      rw [a1 3 i (by omega), b1 193 i (by omega), gI 3 i (by omega) (by omega) (by omega) (by omega) (by omega) (by omega), mI 193 i (by omega) (by omega) (by omega)]
      exact w2 i hi
    · exact Or.inl ⟨by rw [a1 1 6 (by omega)]; exact g16, by rw [b1 192 107 (by omega)]; exact mZ 107 (by omega), by rw [a3]; exact g17⟩
    · rw [a1 1 6 (by omega), b1 192 62 (by omega), g16, mZ 62 (by omega)]
    · exact Or.inl ⟨by rw [a3]; exact g17, by rw [b1 192 108 (by omega)]; exact mZ 108 (by omega)⟩
    · unfold TD
      rw [a1 1 10 (by omega), a1 1 11 (by omega), a1 1 12 (by omega), a1 1 13 (by omega), b1 192 109 (by omega), b1 192 110 (by omega), b1 192 111 (by omega), b1 192 112 (by omega), gI 1 10 (by omega) (by omega) (by omega) (by omega) (by omega) (by omega), gI 1 11 (by omega) (by omega) (by omega) (by omega) (by omega) (by omega), gI 1 12 (by omega) (by omega) (by omega) (by omega) (by omega) (by omega), gI 1 13 (by omega) (by omega) (by omega) (by omega) (by omega) (by omega), mI 192 109 (by omega) (by omega) (by omega), mI 192 110 (by omega) (by omega) (by omega), mI 192 111 (by omega) (by omega) (by omega), mI 192 112 (by omega) (by omega) (by omega)]
      exact td
    · unfold RH
      rw [a1 22 6 (by omega), b1 192 57 (by omega), g226, mZ 57 (by omega)]
      decide
    · unfold RV
      rw [a1 1 14 (by omega), a1 1 15 (by omega), b1 192 141 (by omega), b1 192 142 (by omega), gI 1 14 (by omega) (by omega) (by omega) (by omega) (by omega) (by omega), gI 1 15 (by omega) (by omega) (by omega) (by omega) (by omega) (by omega), mI 192 141 (by omega) (by omega) (by omega), mI 192 142 (by omega) (by omega) (by omega)]
      obtain ⟨v1, v2, v3, v4, v5⟩ := rv
      refine ⟨v1, v2, v3, v4, fun i hi => ?_⟩
      rw [a1 190 i (by omega), b1 250 i (by omega), gI 190 i (by omega) (by omega) (by omega) (by omega) (by omega) (by omega), mI 250 i (by omega) (by omega) (by omega)]
      exact v5 i hi
    · unfold RT
      rw [a1 1 18 (by omega), b1 192 144 (by omega), gI 1 18 (by omega) (by omega) (by omega) (by omega) (by omega) (by omega), mI 192 144 (by omega) (by omega) (by omega)]
      obtain ⟨v1, v2, v3⟩ := rt
      refine ⟨v1, v2, fun i hi => ?_⟩
      rw [a1 191 i (by omega), b1 251 i (by omega), gI 191 i (by omega) (by omega) (by omega) (by omega) (by omega) (by omega), mI 251 i (by omega) (by omega) (by omega)]
      exact v3 i hi
    · rw [a1 o k (by omega)]; exact cp0.1 o k ho
    · rw [a2 o k]; exact cp0.2 o k ho
    · rw [b1 o k (by omega)]; exact mp0.1 o k ho
    · rw [b2 o k]; exact mp0.2.1 o k ho
    · rw [b3 o k]; exact mp0.2.2 o k ho
  rcases h with h | ⟨a0, ld⟩
  · have na : ¬ a = 0 := by grind
    have nl : ¬ a ≤ 0 := by grind
    have e12 : rdI (wrI g 1 2 0) 1 2 = 0 := by rw [rdI_wrI, if_pos ⟨rfl, rfl⟩]
    rw [if_neg na, lz_eq, gd_pos (Or.inl rfl), lz_eq, e12, if_pos rfl, if_neg nl]
    refine ⟨_, _, _, rfl, rfl, fin _ _ (fun o k w => by rw [rdI_wrI, if_neg w]) (fun _ _ => rfl) (fun _ _ => rfl) (fun _ _ _ => rfl) (fun _ _ => rfl) (fun _ _ => rfl) (Or.inl ⟨e12, mZ 4 (by omega), ?_⟩)⟩
    rw [rdI_wrI, if_neg (by omega)]
    exact g16
  · have e12 : rdI (wrI g 1 2 1) 1 2 = 1 := by rw [rdI_wrI, if_pos ⟨rfl, rfl⟩]
    have e4 : rdI (wrI m 192 4 1) 192 4 = 1 := by rw [rdI_wrI, if_pos ⟨rfl, rfl⟩]
    have nl : a ≤ 0 := by rw [a0]; decide
    rw [if_pos a0, lz_eq, gd_pos (Or.inr rfl), lz_eq, e12, if_neg (by decide), if_pos nl, lz_eq]
    have e8 : rdI (wrI m 192 4 1) 192 12 = rdI (wrI g 1 2 1) 4 8 := by
      rw [rdI_wrI, if_neg (by omega), rdI_wrI, if_neg (by omega)]
      exact ld.2.1.1.2.1.1
    rw [e8]
    refine ⟨_, _, _, rfl, rfl, fin _ _ (fun o k w => by rw [rdI_wrI, if_neg w]) (fun _ _ => rfl) (fun _ _ => rfl) (fun o k w => by rw [rdI_wrI, if_neg w]) (fun _ _ => rfl) (fun _ _ => rfl) (Or.inr ⟨by rw [e12]; decide, by rw [e4]; decide, ?_⟩)⟩
    exact LD_4 (c0 := g) (m0 := m) ⟨⟨fun k => by rw [rdI_wrI, if_neg (by omega)], fun k => by rw [rdI_wrI, if_neg (by omega)], fun k => by rw [rdI_wrI, if_neg (by omega)]⟩, fun _ _ _ => rfl⟩ ⟨fun k _ hk => by rw [rdI_wrI, if_neg (by omega)], fun k => by rw [rdI_wrI, if_neg (by omega)], fun k => by rw [rdI_wrI, if_neg (by omega)], fun _ _ _ => rfl⟩ ld
