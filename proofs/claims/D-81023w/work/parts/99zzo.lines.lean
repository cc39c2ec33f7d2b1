/-! LAYER 3CW: acrossCurve and acrossLine as a whole -/
noncomputable def acH (k : Int32) (x y : Int64) (h : hH) : hH := wrL (wrL (wrL (wrL (wrL (wrL h 182 14 (((Int32.toInt64 (rdI h 184 (Int32.toNatClampNeg k))) - ((2 : Int64) * (Int32.toInt64 (rdI h 186 (Int32.toNatClampNeg k))))) + (Int32.toInt64 (rdI h 188 (Int32.toNatClampNeg k))))) 182 15 (Int32.toInt64 ((rdI h 186 (Int32.toNatClampNeg k)) - (rdI h 184 (Int32.toNatClampNeg k))))) 182 16 ((Int32.toInt64 (rdI h 184 (Int32.toNatClampNeg k))) - y)) 182 17 (((Int32.toInt64 (rdI h 183 (Int32.toNatClampNeg k))) - ((2 : Int64) * (Int32.toInt64 (rdI h 185 (Int32.toNatClampNeg k))))) + (Int32.toInt64 (rdI h 187 (Int32.toNatClampNeg k))))) 182 18 (Int32.toInt64 ((rdI h 185 (Int32.toNatClampNeg k)) - (rdI h 183 (Int32.toNatClampNeg k))))) 182 19 ((Int32.toInt64 (rdI h 183 (Int32.toNatClampNeg k))) - x)
theorem six_r (h : hH) (a b c d e f : Int64) : rdL (wrL (wrL (wrL (wrL (wrL (wrL h 182 14 a) 182 15 b) 182 16 c) 182 17 d) 182 18 e) 182 19 f) 182 14 = a ∧ rdL (wrL (wrL (wrL (wrL (wrL (wrL h 182 14 a) 182 15 b) 182 16 c) 182 17 d) 182 18 e) 182 19 f) 182 15 = b ∧ rdL (wrL (wrL (wrL (wrL (wrL (wrL h 182 14 a) 182 15 b) 182 16 c) 182 17 d) 182 18 e) 182 19 f) 182 16 = c ∧ rdL (wrL (wrL (wrL (wrL (wrL (wrL h 182 14 a) 182 15 b) 182 16 c) 182 17 d) 182 18 e) 182 19 f) 182 17 = d ∧ rdL (wrL (wrL (wrL (wrL (wrL (wrL h 182 14 a) 182 15 b) 182 16 c) 182 17 d) 182 18 e) 182 19 f) 182 18 = e ∧ rdL (wrL (wrL (wrL (wrL (wrL (wrL h 182 14 a) 182 15 b) 182 16 c) 182 17 d) 182 18 e) 182 19 f) 182 19 = f := by
  refine ⟨?_, ?_, ?_, ?_, ?_, ?_⟩
  · rw [rdL_wrL, if_neg (by decide), rdL_wrL, if_neg (by decide), rdL_wrL, if_neg (by decide), rdL_wrL, if_neg (by decide), rdL_wrL, if_neg (by decide), rdL_wrL, if_pos ⟨rfl, rfl⟩]
  · rw [rdL_wrL, if_neg (by decide), rdL_wrL, if_neg (by decide), rdL_wrL, if_neg (by decide), rdL_wrL, if_neg (by decide), rdL_wrL, if_pos ⟨rfl, rfl⟩]
  · rw [rdL_wrL, if_neg (by decide), rdL_wrL, if_neg (by decide), rdL_wrL, if_neg (by decide), rdL_wrL, if_pos ⟨rfl, rfl⟩]
  · rw [rdL_wrL, if_neg (by decide), rdL_wrL, if_neg (by decide), rdL_wrL, if_pos ⟨rfl, rfl⟩]
  · rw [rdL_wrL, if_neg (by decide), rdL_wrL, if_pos ⟨rfl, rfl⟩]
  · rw [rdL_wrL, if_pos ⟨rfl, rfl⟩]
theorem six_o (h : hH) (a b c d e f : Int64) {o j : Nat} (w : o ≠ 182) : rdL (wrL (wrL (wrL (wrL (wrL (wrL h 182 14 a) 182 15 b) 182 16 c) 182 17 d) 182 18 e) 182 19 f) o j = rdL h o j := by
  rw [rdL_wrL, if_neg (fun x => w x.1), rdL_wrL, if_neg (fun x => w x.1), rdL_wrL, if_neg (fun x => w x.1), rdL_wrL, if_neg (fun x => w x.1), rdL_wrL, if_neg (fun x => w x.1), rdL_wrL, if_neg (fun x => w x.1)]
theorem six_i (h : hH) (a b c d e f : Int64) {o j : Nat} : rdI (wrL (wrL (wrL (wrL (wrL (wrL h 182 14 a) 182 15 b) 182 16 c) 182 17 d) 182 18 e) 182 19 f) o j = rdI h o j := by
  rw [rdI_wrL, rdI_wrL, rdI_wrL, rdI_wrL, rdI_wrL, rdI_wrL]
theorem six_p (h : hH) (a b c d e f : Int64) {o j : Nat} : rdP (wrL (wrL (wrL (wrL (wrL (wrL h 182 14 a) 182 15 b) 182 16 c) 182 17 d) 182 18 e) 182 19 f) o j = rdP h o j := rfl
theorem acrossCurve_eq {k : Int32} {x y : Int64} {h : hH} (v : vp_in k 220) : f_In_acrossCurve k x y h = acT (acH k x y h) := by
  have eF : f_In_acrossCurve k x y h = gd (vp_in k 220) (
      lz (wrL h 182 14 (((Int32.toInt64 (rdI h 184 (Int32.toNatClampNeg k))) - ((2 : Int64) * (Int32.toInt64 (rdI h 186 (Int32.toNatClampNeg k))))) + (Int32.toInt64 (rdI h 188 (Int32.toNatClampNeg k))))) fun h1 =>
      gd (vp_in k 220) <|
      lz (wrL h1 182 15 (Int32.toInt64 ((rdI h1 186 (Int32.toNatClampNeg k)) - (rdI h1 184 (Int32.toNatClampNeg k))))) fun h2 =>
      gd (vp_in k 220) <|
      lz (wrL h2 182 16 ((Int32.toInt64 (rdI h2 184 (Int32.toNatClampNeg k))) - y)) fun h3 =>
      gd (vp_in k 220) <|
      lz (wrL h3 182 17 (((Int32.toInt64 (rdI h3 183 (Int32.toNatClampNeg k))) - ((2 : Int64) * (Int32.toInt64 (rdI h3 185 (Int32.toNatClampNeg k))))) + (Int32.toInt64 (rdI h3 187 (Int32.toNatClampNeg k))))) fun h4 =>
      gd (vp_in k 220) <|
      lz (wrL h4 182 18 (Int32.toInt64 ((rdI h4 185 (Int32.toNatClampNeg k)) - (rdI h4 183 (Int32.toNatClampNeg k))))) fun h5 =>
      gd (vp_in k 220) <|
      lz (wrL h5 182 19 ((Int32.toInt64 (rdI h5 183 (Int32.toNatClampNeg k))) - x)) fun h6 => acT h6) := rfl
  rw [eF]
  simp only [gd_pos v, lz_eq, rdI_wrL]
  rfl
def in8 (x : Int32) : Prop := -8192 ≤ x.toInt ∧ x.toInt ≤ 8192
theorem N64_32 {x : Int32} (h : in8 x) : N64 x.toInt64 x.toInt 8192 := ⟨Int32.toInt_toInt64 x, h.1, h.2⟩
theorem N64_d32 {x y : Int32} (hx : in8 x) (hy : in8 y) : N64 (x - y).toInt64 (x.toInt - y.toInt) 16384 := by
  obtain ⟨a, b⟩ := hx
  obtain ⟨c, d⟩ := hy
  refine ⟨?_, by omega, by omega⟩
  rw [Int32.toInt_toInt64, i32_sub (by omega) (by omega)]
theorem acH_LC {k : Int32} {x y : Int64} {h : hH} {px py : Int} (hx : N64 x px 10000) (hy : N64 y py 10000) (b : ∀ o, 183 ≤ o → o ≤ 188 → in8 (rdI h o k.toNatClampNeg)) : LC (acH k x y h) ((rdI h 184 k.toNatClampNeg).toInt - 2 * (rdI h 186 k.toNatClampNeg).toInt + (rdI h 188 k.toNatClampNeg).toInt) ((rdI h 186 k.toNatClampNeg).toInt - (rdI h 184 k.toNatClampNeg).toInt) ((rdI h 184 k.toNatClampNeg).toInt - py) ((rdI h 183 k.toNatClampNeg).toInt - 2 * (rdI h 185 k.toNatClampNeg).toInt + (rdI h 187 k.toNatClampNeg).toInt) ((rdI h 185 k.toNatClampNeg).toInt - (rdI h 183 k.toNatClampNeg).toInt) ((rdI h 183 k.toNatClampNeg).toInt - px) := by
  have b3 := b 183 (by decide) (by decide)
  have b4 := b 184 (by decide) (by decide)
  have b5 := b 185 (by decide) (by decide)
  have b6 := b 186 (by decide) (by decide)
  have b7 := b 187 (by decide) (by decide)
  have b8 := b 188 (by decide) (by decide)
  unfold acH LC
  obtain ⟨e1, e2, e3, e4, e5, e6⟩ := six_r h (((Int32.toInt64 (rdI h 184 (Int32.toNatClampNeg k))) - ((2 : Int64) * (Int32.toInt64 (rdI h 186 (Int32.toNatClampNeg k))))) + (Int32.toInt64 (rdI h 188 (Int32.toNatClampNeg k)))) (Int32.toInt64 ((rdI h 186 (Int32.toNatClampNeg k)) - (rdI h 184 (Int32.toNatClampNeg k)))) ((Int32.toInt64 (rdI h 184 (Int32.toNatClampNeg k))) - y) (((Int32.toInt64 (rdI h 183 (Int32.toNatClampNeg k))) - ((2 : Int64) * (Int32.toInt64 (rdI h 185 (Int32.toNatClampNeg k))))) + (Int32.toInt64 (rdI h 187 (Int32.toNatClampNeg k)))) (Int32.toInt64 ((rdI h 185 (Int32.toNatClampNeg k)) - (rdI h 183 (Int32.toNatClampNeg k)))) ((Int32.toInt64 (rdI h 183 (Int32.toNatClampNeg k))) - x)
  rw [e1, e2, e3, e4, e5, e6]
  exact ⟨⟨N64_up (N64_add (N64_sub (N64_32 b4) (N64_mul N64_2 (N64_32 b6) (by decide)) (by decide)) (N64_32 b8) (by decide)) (by decide), N64_d32 b6 b4, N64_up (N64_sub (N64_32 b4) hy (by decide)) (by decide)⟩, N64_up (N64_add (N64_sub (N64_32 b3) (N64_mul N64_2 (N64_32 b5) (by decide)) (by decide)) (N64_32 b7) (by decide)) (by decide), N64_d32 b5 b3, N64_up (N64_sub (N64_32 b3) hx (by decide)) (by decide)⟩
theorem C_curve {k : Int32} {x y : Int64} {h : hH} {px py : Int} (v : vp_in k 220) (hx : N64 x px 10000) (hy : N64 y py 10000) (b : ∀ o, 183 ≤ o → o ≤ 188 → in8 (rdI h o k.toNatClampNeg)) (f0 : rdI h 182 13 = 0) : ∃ (w : Int) (on : Prop) (g : hH), f_In_acrossCurve k x y h = some (Int32.ofInt w, g) ∧ FrV h g ∧ ((on ∧ rdI g 182 13 = 1) ∨ (¬ on ∧ rdI g 182 13 = 0)) ∧ CCs ((rdI h 184 k.toNatClampNeg).toInt - 2 * (rdI h 186 k.toNatClampNeg).toInt + (rdI h 188 k.toNatClampNeg).toInt) ((rdI h 186 k.toNatClampNeg).toInt - (rdI h 184 k.toNatClampNeg).toInt) ((rdI h 184 k.toNatClampNeg).toInt - py) ((rdI h 183 k.toNatClampNeg).toInt - 2 * (rdI h 185 k.toNatClampNeg).toInt + (rdI h 187 k.toNatClampNeg).toInt) ((rdI h 185 k.toNatClampNeg).toInt - (rdI h 183 k.toNatClampNeg).toInt) ((rdI h 183 k.toNatClampNeg).toInt - px) on w := by
  obtain ⟨w, on, v', e, hv, cc⟩ := acT_eq (acH_LC hx hy b) (show rdI (acH k x y h) 182 13 = 0 by unfold acH; rw [six_i]; exact f0)
  refine ⟨w, on, wrI (acH k x y h) 182 13 v', ?_, ?_, ?_, cc⟩
  · rw [acrossCurve_eq v, e]
  · refine ⟨fun o j w => by rw [rdI_wrI, if_neg w]; unfold acH; rw [six_i], fun o j w => ?_, fun o j => ?_⟩
    · rw [rdL_wrI]
      unfold acH
      rw [six_o _ _ _ _ _ _ _ w]
    · unfold acH
      rw [rdP_wrI, six_p]
  · rw [rdI_wrI, if_pos ⟨rfl, rfl⟩]
    exact hv
def btw (a b : Int) : Prop := (a ≤ 0 ∧ 0 ≤ b) ∨ (b ≤ 0 ∧ 0 ≤ a)
/-- the point lies on a straight piece -/
def stO (x1 y1 x2 y2 : Int) : Prop := x1 * y2 - y1 * x2 = 0 ∧ btw x1 x2 ∧ btw y1 y2
theorem mn_i {a b : Int32} : (if b < a then b else a).toInt = if b.toInt < a.toInt then b.toInt else a.toInt := by
  by_cases q : b < a
  · rw [if_pos q, if_pos (Int32.lt_iff_toInt_lt.mp q)]
  · rw [if_neg q, if_neg (fun w => q (Int32.lt_iff_toInt_lt.mpr w))]
theorem mx_i {a b : Int32} : (if a < b then b else a).toInt = if a.toInt < b.toInt then b.toInt else a.toInt := by
  by_cases q : a < b
  · rw [if_pos q, if_pos (Int32.lt_iff_toInt_lt.mp q)]
  · rw [if_neg q, if_neg (fun w => q (Int32.lt_iff_toInt_lt.mpr w))]
theorem lt_64 {y : Int64} {n b : Int} {x : Int32} (h : N64 y n b) : (y < x.toInt64 ↔ n < x.toInt) ∧ (x.toInt64 < y ↔ x.toInt < n) ∧ (x.toInt64 ≤ y ↔ x.toInt ≤ n) := by
  rw [Int64.lt_iff_toInt_lt, Int64.lt_iff_toInt_lt, Int64.le_iff_toInt_le, h.1, Int32.toInt_toInt64]
  exact ⟨Iff.rfl, Iff.rfl, Iff.rfl⟩
/-- between two numbers, as the component asks -/
noncomputable def bxF (k : Int32) (a b : Int32) (x : Int64) : Option Int32 :=
  bP (f_JM_min_2 a b) fun a4 =>
  if x < (Int32.toInt64 a4) then (
    some (0 : Int32)
  ) else (
    gd (vp_in k 220) <|
    bP (f_JM_max_2 a b) fun a7 =>
    if (Int32.toInt64 a7) < x then (
      some (0 : Int32)
    ) else (
      some (1 : Int32)
    )
  )
theorem bxF_eq {k a b : Int32} {x : Int64} {n c : Int} (v : vp_in k 220) (h : N64 x n c) : (btw (a.toInt - n) (b.toInt - n) ∧ bxF k a b x = some 1) ∨ (¬ btw (a.toInt - n) (b.toInt - n) ∧ bxF k a b x = some 0) := by
  unfold bxF btw
  rw [f_JM_min_2_eq, f_JM_max_2_eq, bP_some]
  by_cases q : x < (if b < a then b else a).toInt64
  · rw [if_pos q]
    have := (lt_64 h).1.mp q
    rw [mn_i] at this
    refine Or.inr ⟨?_, rfl⟩
    split at this <;> omega
  · rw [if_neg q, gd_pos v, bP_some]
    have t1 : ¬ _ := fun w => q ((lt_64 h).1.mpr w)
    rw [mn_i] at t1
    by_cases q2 : (if a < b then b else a).toInt64 < x
    · rw [if_pos q2]
      have := (lt_64 h).2.1.mp q2
      rw [mx_i] at this
      refine Or.inr ⟨?_, rfl⟩
      split at this <;> omega
    · rw [if_neg q2]
      have t2 : ¬ _ := fun w => q2 ((lt_64 h).2.1.mpr w)
      rw [mx_i] at t2
      refine Or.inl ⟨?_, rfl⟩
      split at t1 <;> split at t2 <;> omega
theorem bP_as {X Y Z : Type} (o : Option X) (f : X → Option Y) (g : Y → Option Z) : bP (bP o f) g = bP o fun x => bP (f x) g := by
  cases o <;> rfl
theorem C_line {k : Int32} {x y : Int64} {h : hH} {px py : Int} (v : vp_in k 220) (hx : N64 x px 10000) (hy : N64 y py 10000) (b : ∀ o, (o = 183 ∨ o = 184 ∨ o = 187 ∨ o = 188) → in8 (rdI h o k.toNatClampNeg)) : ∃ (w : Int) (on : Prop) (g : hH), f_In_acrossLine k x y h = some (Int32.ofInt w, g) ∧ FrV h g ∧ ((on ∧ rdI g 182 13 = 1) ∨ (¬ on ∧ rdI g 182 13 = 0)) ∧ (on ↔ stO ((rdI h 183 k.toNatClampNeg).toInt - px) ((rdI h 184 k.toNatClampNeg).toInt - py) ((rdI h 187 k.toNatClampNeg).toInt - px) ((rdI h 188 k.toNatClampNeg).toInt - py)) ∧ w = stW ((rdI h 184 k.toNatClampNeg).toInt - py) ((rdI h 188 k.toNatClampNeg).toInt - py) (((rdI h 183 k.toNatClampNeg).toInt - px) * ((rdI h 188 k.toNatClampNeg).toInt - py) - ((rdI h 184 k.toNatClampNeg).toInt - py) * ((rdI h 187 k.toNatClampNeg).toInt - px)) := by
  have n10 : ¬ (1 : Int32) = 0 := by decide
  have b3 := b 183 (by decide)
  have b4 := b 184 (by decide)
  have b7 := b 187 (by decide)
  have b8 := b 188 (by decide)
  have eF : f_In_acrossLine k x y h = gd (vp_in k 220) (
      lz (A := Int64) (((Int32.toInt64 ((rdI h 187 (Int32.toNatClampNeg k)) - (rdI h 183 (Int32.toNatClampNeg k)))) * (y - (Int32.toInt64 (rdI h 184 (Int32.toNatClampNeg k))))) - ((Int32.toInt64 ((rdI h 188 (Int32.toNatClampNeg k)) - (rdI h 184 (Int32.toNatClampNeg k)))) * (x - (Int32.toInt64 (rdI h 183 (Int32.toNatClampNeg k)))))) fun v1 =>
      gd (vp_in k 220) <|
      bP (bxF k (rdI h 183 (Int32.toNatClampNeg k)) (rdI h 187 (Int32.toNatClampNeg k)) x) fun p5 =>
      gd (vp_in k 220) <|
      bP (bxF k (rdI h 184 (Int32.toNatClampNeg k)) (rdI h 188 (Int32.toNatClampNeg k)) y) fun p12 =>
      lz (A := Int32) (if v1 = (0 : Int64) then (if p5 = 0 then (0 : Int32) else (if p12 = 0 then (0 : Int32) else (1 : Int32))) else (0 : Int32)) fun p17 =>
      gd ((p17 = 0 ∨ p17 = 1)) <|
      lz (wrI h 182 13 p17) fun h1 =>
      gd (vp_in k 220) <|
      bP (A := Int32) (
        if y < (Int32.toInt64 (rdI h1 184 (Int32.toNatClampNeg k))) then (
          some (0 : Int32)
        ) else (
          gd (vp_in k 220) <|
          if (Int32.toInt64 (rdI h1 188 (Int32.toNatClampNeg k))) ≤ y then (
            some (0 : Int32)
          ) else (
            some (1 : Int32)
          )
        )
      ) fun p23 =>
      gd (vp_in k 220) <|
      bP (A := Int32) (
        if y < (Int32.toInt64 (rdI h1 188 (Int32.toNatClampNeg k))) then (
          some (0 : Int32)
        ) else (
          gd (vp_in k 220) <|
          if (Int32.toInt64 (rdI h1 184 (Int32.toNatClampNeg k))) ≤ y then (
            some (0 : Int32)
          ) else (
            some (1 : Int32)
          )
        )
      ) fun p28 =>
      if (p23 = 0 ∨ v1 ≤ (0 : Int64)) then (
        if p28 = 0 then (
          some ((0 : Int32), h1)
        ) else (
          if (0 : Int64) ≤ v1 then (
            some ((0 : Int32), h1)
          ) else (
            some ((-1 : Int32), h1)
          )
        )
      ) else (
        some ((1 : Int32), h1)
      )) := by
    unfold bxF
    simp only [bP_as]
    rfl
  rw [eF, gd_pos v, lz_eq, gd_pos v]
  have hv := N64_sub (N64_mul (N64_d32 b7 b3) (N64_sub hy (N64_32 b4) (by decide)) (by decide)) (N64_mul (N64_d32 b8 b4) (N64_sub hx (N64_32 b3) (by decide)) (by decide)) (by decide)
  generalize (rdI h 187 k.toNatClampNeg - rdI h 183 k.toNatClampNeg).toInt64 * (y - (rdI h 184 k.toNatClampNeg).toInt64) - (rdI h 188 k.toNatClampNeg - rdI h 184 k.toNatClampNeg).toInt64 * (x - (rdI h 183 k.toNatClampNeg).toInt64) = V1 at hv
  have ed : ((rdI h 187 k.toNatClampNeg).toInt - (rdI h 183 k.toNatClampNeg).toInt) * (py - (rdI h 184 k.toNatClampNeg).toInt) - ((rdI h 188 k.toNatClampNeg).toInt - (rdI h 184 k.toNatClampNeg).toInt) * (px - (rdI h 183 k.toNatClampNeg).toInt) = ((rdI h 183 k.toNatClampNeg).toInt - px) * ((rdI h 188 k.toNatClampNeg).toInt - py) - ((rdI h 184 k.toNatClampNeg).toInt - py) * ((rdI h 187 k.toNatClampNeg).toInt - px) := by grind
  rw [ed] at hv
  have B1 := bxF_eq (a := rdI h 183 k.toNatClampNeg) (b := rdI h 187 k.toNatClampNeg) v hx
  have B2 := bxF_eq (a := rdI h 184 k.toNatClampNeg) (b := rdI h 188 k.toNatClampNeg) v hy
  unfold stO
  have r184 : ∀ u, rdI (wrI h 182 13 u) 184 k.toNatClampNeg = rdI h 184 k.toNatClampNeg := fun u => by rw [rdI_wrI, if_neg (by omega)]
  have r188 : ∀ u, rdI (wrI h 182 13 u) 188 k.toNatClampNeg = rdI h 188 k.toNatClampNeg := fun u => by rw [rdI_wrI, if_neg (by omega)]
  have c4 := lt_64 (x := rdI h 184 k.toNatClampNeg) hy
  have c8 := lt_64 (x := rdI h 188 k.toNatClampNeg) hy
  simp only [gd_pos v, lz_eq, r184, r188]
  generalize ((rdI h 183 k.toNatClampNeg).toInt - px) * ((rdI h 188 k.toNatClampNeg).toInt - py) - ((rdI h 184 k.toNatClampNeg).toInt - py) * ((rdI h 187 k.toNatClampNeg).toInt - px) = cr at hv
  have up : (if y < (rdI h 184 k.toNatClampNeg).toInt64 then some (0 : Int32) else (if (rdI h 188 k.toNatClampNeg).toInt64 ≤ y then some (0 : Int32) else some (1 : Int32))) = some (if (rdI h 184 k.toNatClampNeg).toInt - py ≤ 0 ∧ 0 < (rdI h 188 k.toNatClampNeg).toInt - py then 1 else 0) := by
    by_cases q : y < (rdI h 184 k.toNatClampNeg).toInt64
    · rw [if_pos q, if_neg (by have := c4.1.mp q; omega)]
    · have t1 : ¬ _ := fun w => q (c4.1.mpr w)
      rw [if_neg q]
      by_cases q2 : (rdI h 188 k.toNatClampNeg).toInt64 ≤ y
      · rw [if_pos q2, if_neg (by have := c8.2.2.mp q2; omega)]
      · have t2 : ¬ _ := fun w => q2 (c8.2.2.mpr w)
        rw [if_neg q2, if_pos (by omega)]
  have dn : (if y < (rdI h 188 k.toNatClampNeg).toInt64 then some (0 : Int32) else (if (rdI h 184 k.toNatClampNeg).toInt64 ≤ y then some (0 : Int32) else some (1 : Int32))) = some (if (rdI h 188 k.toNatClampNeg).toInt - py ≤ 0 ∧ 0 < (rdI h 184 k.toNatClampNeg).toInt - py then 1 else 0) := by
    by_cases q : y < (rdI h 188 k.toNatClampNeg).toInt64
    · rw [if_pos q, if_neg (by have := c8.1.mp q; omega)]
    · have t1 : ¬ _ := fun w => q (c8.1.mpr w)
      rw [if_neg q]
      by_cases q2 : (rdI h 184 k.toNatClampNeg).toInt64 ≤ y
      · rw [if_pos q2, if_neg (by have := c4.2.2.mp q2; omega)]
      · have t2 : ¬ _ := fun w => q2 (c4.2.2.mpr w)
        rw [if_neg q2, if_pos (by omega)]
  simp only [up, dn]
  generalize (rdI h 184 k.toNatClampNeg).toInt - py = ya at B2
  generalize (rdI h 188 k.toNatClampNeg).toInt - py = yb at B2
  generalize (rdI h 183 k.toNatClampNeg).toInt - px = xa at B1
  generalize (rdI h 187 k.toNatClampNeg).toInt - px = xb at B1
  have fr : ∀ u, FrV h (wrI h 182 13 u) := fun u => ⟨fun o j w => by rw [rdI_wrI, if_neg w], fun _ _ _ => rfl, fun _ _ => rfl⟩
  have r13 : ∀ u, rdI (wrI h 182 13 u) 182 13 = u := fun u => by rw [rdI_wrI, if_pos ⟨rfl, rfl⟩]
  have tail : ∀ u : Int32, (bP (some (if ya ≤ 0 ∧ 0 < yb then (1 : Int32) else 0)) fun p23 => bP (some (if yb ≤ 0 ∧ 0 < ya then (1 : Int32) else 0)) fun p28 => if p23 = 0 ∨ V1 ≤ 0 then (if p28 = 0 then some ((0 : Int32), wrI h 182 13 u) else (if 0 ≤ V1 then some ((0 : Int32), wrI h 182 13 u) else some ((-1 : Int32), wrI h 182 13 u))) else some ((1 : Int32), wrI h 182 13 u)) = some (Int32.ofInt (stW ya yb cr), wrI h 182 13 u) := fun u => by
    have z1 := N64_le hv N64_0
    have z2 := N64_le N64_0 hv
    rw [bP_some, bP_some]
    unfold stW
    by_cases q1 : ya ≤ 0 ∧ 0 < yb
    · rw [if_pos q1, if_neg (show ¬ (yb ≤ 0 ∧ 0 < ya) by omega), if_pos (show (0 : Int32) = 0 from rfl)]
      by_cases q2 : V1 ≤ 0
      · have := z1.mp q2
        rw [if_pos (Or.inr q2), if_neg (show ¬ (ya ≤ 0 ∧ 0 < yb ∧ 0 < cr) by omega), if_neg (show ¬ (yb ≤ 0 ∧ 0 < ya ∧ cr < 0) by omega)]
        rfl
      · have : ¬ _ := fun w => q2 (z1.mpr w)
        rw [if_neg (by rintro (w | w); exact n10 w; exact q2 w), if_pos (show ya ≤ 0 ∧ 0 < yb ∧ 0 < cr by omega)]
        rfl
    · rw [if_neg q1, if_pos (Or.inl rfl), if_neg (show ¬ (ya ≤ 0 ∧ 0 < yb ∧ 0 < cr) by omega)]
      by_cases q2 : yb ≤ 0 ∧ 0 < ya
      · rw [if_pos q2, if_neg n10]
        by_cases q3 : 0 ≤ V1
        · have := z2.mp q3
          rw [if_pos q3, if_neg (show ¬ (yb ≤ 0 ∧ 0 < ya ∧ cr < 0) by omega)]
          rfl
        · have : ¬ _ := fun w => q3 (z2.mpr w)
          rw [if_neg q3, if_pos (show yb ≤ 0 ∧ 0 < ya ∧ cr < 0 by omega)]
          rfl
      · rw [if_neg q2, if_pos rfl, if_neg (show ¬ (yb ≤ 0 ∧ 0 < ya ∧ cr < 0) by omega)]
        rfl
  have zc := N64_z hv
  rcases B1 with ⟨p1, e1⟩ | ⟨p1, e1⟩ <;> rcases B2 with ⟨p2, e2⟩ | ⟨p2, e2⟩ <;> rw [e1, e2, bP_some, bP_some]
  · by_cases q : V1 = 0
    · rw [if_pos q, if_neg n10, if_neg n10, gd_pos (Or.inr rfl), tail]
      exact ⟨_, True, _, rfl, fr _, Or.inl ⟨trivial, r13 _⟩, ⟨fun _ => ⟨zc.mp q, p1, p2⟩, fun _ => trivial⟩, rfl⟩
    · rw [if_neg q, gd_pos (Or.inl rfl), tail]
      exact ⟨_, False, _, rfl, fr _, Or.inr ⟨id, r13 _⟩, ⟨fun w => absurd w id, fun w => q (zc.mpr w.1)⟩, rfl⟩
  · rw [if_pos rfl, if_neg n10, ite_self, gd_pos (Or.inl rfl), tail]
    exact ⟨_, False, _, rfl, fr _, Or.inr ⟨id, r13 _⟩, ⟨fun w => absurd w id, fun w => p2 w.2.2⟩, rfl⟩
  · rw [if_pos rfl, ite_self, gd_pos (Or.inl rfl), tail]
    exact ⟨_, False, _, rfl, fr _, Or.inr ⟨id, r13 _⟩, ⟨fun w => absurd w id, fun w => p1 w.2.1⟩, rfl⟩
  · rw [if_pos rfl, ite_self, gd_pos (Or.inl rfl), tail]
    exact ⟨_, False, _, rfl, fr _, Or.inr ⟨id, r13 _⟩, ⟨fun w => absurd w id, fun w => p1 w.2.1⟩, rfl⟩
