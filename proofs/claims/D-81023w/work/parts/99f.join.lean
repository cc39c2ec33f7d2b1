/-! LAYER 3AN: a part is joined, on the component's side -/
theorem wh_from {B : Type} {f : Int32 × hH → Option ((Int32 × hH) ⊕ B)} {b n : Int32} (hb : 0 ≤ b ∧ b ≤ 20000) (hn : 0 ≤ n ∧ n ≤ 20000) {h : hH} {r : B} (S : Nat → hH) (h0 : S 0 = h) (hend : f (b + n, S n.toNatClampNeg) = some (.inr r)) (hstep : ∀ i : Int32, 0 ≤ i → i < n → f (b + i, S i.toNatClampNeg) = some (.inl (b + i + 1, S (i.toNatClampNeg + 1)))) : wh f (b, h) = some r := by
  have key : ∀ (m : Nat) (i : Int32), 0 ≤ i → i ≤ n → n.toNatClampNeg - i.toNatClampNeg = m → wh f (b + i, S i.toNatClampNeg) = some r := by
    intro m
    induction m with
    | zero =>
      intro i i0 i1 e
      have e1 : i = n := by
        by_cases w : i = n
        · exact w
        · have := (xI_lt i0 hn.1).mpr (show i < n by grind)
          omega
      rw [e1, wh_eq, hend]
    | succ m ih =>
      intro i i0 i1 e
      have lt : i < n := by
        by_cases w : i = n
        · rw [w] at e; omega
        · grind
      have ii : (i + 1).toNatClampNeg = i.toNatClampNeg + 1 := xI_succ (m := 20000) i0 (by grind) (by decide)
      rw [wh_eq, hstep i i0 lt]
      show wh f (b + i + 1, S (i.toNatClampNeg + 1)) = some r
      rw [← ii, show b + i + 1 = b + (i + 1) by grind]
      exact ih (i + 1) (by grind) (by grind) (by omega)
  have k := key _ 0 (by decide) hn.1 rfl
  have z : (0 : Int32).toNatClampNeg = 0 := rfl
  rw [z, h0, show b + 0 = b by grind] at k
  exact k
theorem whT_fill {B : Type} {f : Int32 × hH → Option (hH ⊕ ((Int32 × hH) ⊕ B))} {n : Int32} (hn : 0 ≤ n ∧ n ≤ 20000) {h : hH} {r : B} (S : Nat → hH) (h0 : S 0 = h) (hend : f (n, S n.toNatClampNeg) = some (.inr (.inr r))) (hstep : ∀ i : Int32, 0 ≤ i → i < n → f (i, S i.toNatClampNeg) = some (.inr (.inl (i + 1, S (i.toNatClampNeg + 1))))) : whT f (0, h) = some (.inr r) := by
  refine wh_fill (f := fun s => thS (f s)) hn S h0 ?_ ?_
  · show thS (f (n, S n.toNatClampNeg)) = _
    rw [hend]
    rfl
  · intro i i0 i1
    show thS (f (i, S i.toNatClampNeg)) = _
    rw [hstep i i0 i1]
    rfl
/-- two rows are filled -/
def mt2 (h : hH) (o p b n : Nat) (u v : Nat → Int32) : hH := mtI (mtI h o b n u) p b n v
theorem mt2_0 {h : hH} {o p b : Nat} {u v : Nat → Int32} : mt2 h o p b 0 u v = h := by
  unfold mt2
  rw [mtI_0, mtI_0]
theorem mt2_s {h : hH} {o p b n k : Nat} {u v : Nat → Int32} {a c : Int32} (ha : a = u n) (hc : c = v n) (hk : k = b + n) (op : o ≠ p) : wrI (wrI (mt2 h o p b n u v) o k a) p k c = mt2 h o p b (n + 1) u v := by
  unfold mt2
  rw [mtI_c (Ne.symm op), mtI_s ha hk, mtI_s hc hk]
theorem mt2_o {h : hH} {o p b n : Nat} {u v : Nat → Int32} {a c : Nat} (ho : a ≠ o) (hp : a ≠ p) : rdI (mt2 h o p b n u v) a c = rdI h a c := by
  unfold mt2
  rw [rdI_mo hp, rdI_mo ho]
theorem mt2_i {h : hH} {o p b n : Nat} {u v : Nat → Int32} {c : Nat} (hc : c < n) (op : o ≠ p) : rdI (mt2 h o p b n u v) o (b + c) = u c ∧ rdI (mt2 h o p b n u v) p (b + c) = v c := by
  unfold mt2
  refine ⟨?_, ?_⟩
  · rw [rdI_mo op, rdI_mi hc]
  · rw [rdI_mi hc]
theorem mt2_b {h : hH} {o p b n : Nat} {u v : Nat → Int32} {a c : Nat} (hc : c < b ∨ b + n ≤ c) : rdI (mt2 h o p b n u v) a c = rdI h a c := by
  unfold mt2
  rw [rdI_mtI, if_neg (by omega), rdI_mtI, if_neg (by omega)]
/-- a place through a matrix -/
noncomputable def mxV (x y a b : Int32) : Int32 := (ov (x.toInt64 * a.toInt64 + y.toInt64 * b.toInt64) 16384).toInt32
noncomputable def jx (d : Nat) (h : hH) (j i : Nat) : Int32 := mxV (rdI h (88 + 17 * d) i) (rdI h (89 + 17 * d) i) (rdI h (86 + 17 * d) (4 * j)) (rdI h (86 + 17 * d) (4 * j + 2))
noncomputable def jy (d : Nat) (h : hH) (j i : Nat) : Int32 := mxV (rdI h (88 + 17 * d) i) (rdI h (89 + 17 * d) i) (rdI h (86 + 17 * d) (4 * j + 1)) (rdI h (86 + 17 * d) (4 * j + 3))
noncomputable def jL1 (z o' : Nat) (v6 : Int32) (p7 : Int32 × hH) : Option (hH ⊕ ((Int32 × hH) ⊕ hH)) :=
  if (rdI p7.2 o' 3) ≤ p7.1 then (
    some (.inr (.inr p7.2))
  ) else (
    gd (vp_in p7.1 100) <|
    lz (A := Int64) (Int32.toInt64 (rdI p7.2 (rf o' 0) (Int32.toNatClampNeg p7.1))) fun v9 =>
    gd (vp_in p7.1 100) <|
    lz (A := Int64) (Int32.toInt64 (rdI p7.2 (rf o' 1) (Int32.toNatClampNeg p7.1))) fun v11 =>
    gd (vp_in v6 32 ∧ vp_in (v6 + (2 : Int32)) 32) <|
    bP (f_HH_over ((v9 * (Int32.toInt64 (rdI p7.2 (rf z 14) (Int32.toNatClampNeg v6)))) + (v11 * (Int32.toInt64 (rdI p7.2 (rf z 14) (Int32.toNatClampNeg (v6 + (2 : Int32))))))) (16384 : Int64)) fun a14 =>
    gd (vp_in p7.1 100) <|
    lz (wrI p7.2 (rf o' 0) (Int32.toNatClampNeg p7.1) (Int64.toInt32 a14)) fun h2 =>
    gd (vp_in (v6 + (1 : Int32)) 32 ∧ vp_in (v6 + (3 : Int32)) 32) <|
    bP (f_HH_over ((v9 * (Int32.toInt64 (rdI h2 (rf z 14) (Int32.toNatClampNeg (v6 + (1 : Int32)))))) + (v11 * (Int32.toInt64 (rdI h2 (rf z 14) (Int32.toNatClampNeg (v6 + (3 : Int32))))))) (16384 : Int64)) fun a17 =>
    gd (vp_in p7.1 100) <|
    lz (wrI h2 (rf o' 1) (Int32.toNatClampNeg p7.1) (Int64.toInt32 a17)) fun h3 =>
    lz (A := Int32) (p7.1 + (1 : Int32)) fun v19 =>
    some (.inr (.inl (v19, h3)))
  )
noncomputable def jn1 (d : Nat) (h : hH) (j k : Nat) : hH := mt2 h (88 + 17 * d) (89 + 17 * d) 0 k (jx d h j) (jy d h j)
theorem od_k {d : Nat} : 70 + 17 * (d + 1) = 87 + 17 * d ∧ 71 + 17 * (d + 1) = 88 + 17 * d ∧ 72 + 17 * (d + 1) = 89 + 17 * d ∧ 73 + 17 * (d + 1) = 90 + 17 * d ∧ 74 + 17 * (d + 1) = 91 + 17 * d ∧ 75 + 17 * (d + 1) = 92 + 17 * d ∧ 76 + 17 * (d + 1) = 93 + 17 * d := by omega
theorem xI_4 {j : Int32} (j0 : 0 ≤ j) (j1 : j < 8) : ((4 * j).toNatClampNeg = 4 * j.toNatClampNeg ∧ (4 * j + 1).toNatClampNeg = 4 * j.toNatClampNeg + 1 ∧ (4 * j + 2).toNatClampNeg = 4 * j.toNatClampNeg + 2 ∧ (4 * j + 3).toNatClampNeg = 4 * j.toNatClampNeg + 3) ∧ vp_in (4 * j) 32 ∧ vp_in (4 * j + 1) 32 ∧ vp_in (4 * j + 2) 32 ∧ vp_in (4 * j + 3) 32 := by
  have hj : j = 0 ∨ j = 1 ∨ j = 2 ∨ j = 3 ∨ j = 4 ∨ j = 5 ∨ j = 6 ∨ j = 7 := by grind
  rcases hj with rfl | rfl | rfl | rfl | rfl | rfl | rfl | rfl <;> exact ⟨⟨rfl, rfl, rfl, rfl⟩, vp_lt (n := 32) (m := 32) (by decide) (by decide) rfl, vp_lt (n := 32) (m := 32) (by decide) (by decide) rfl, vp_lt (n := 32) (m := 32) (by decide) (by decide) rfl, vp_lt (n := 32) (m := 32) (by decide) (by decide) rfl⟩
theorem jn1_eq {d : Nat} {h : hH} {j : Int32} (hd : d < 5) (hj : 0 ≤ j ∧ j < 8) (hn : 0 ≤ rdI h (87 + 17 * d) 3 ∧ rdI h (87 + 17 * d) 3 ≤ 100) : whT (jL1 (77 + 17 * d) (87 + 17 * d) (4 * j)) ((0 : Int32), h) = some (.inr (jn1 d h j.toNatClampNeg (rdI h (87 + 17 * d) 3).toNatClampNeg)) := by
  obtain ⟨_, _, hz, _, _, _⟩ := od_rf (show d < 6 by omega)
  obtain ⟨_, ⟨r0, r1, r2, r4, _, _⟩, _, _, _, _⟩ := od_rf (show d + 1 < 6 by omega)
  obtain ⟨k0, k1, k2, _⟩ := od_k (d := d)
  rw [k0, k1] at r0
  rw [k0, k2] at r1
  obtain ⟨_, ⟨_, _, _, z14⟩, _, _, _, _, _⟩ := gl_rf hz
  obtain ⟨⟨i0, i1, i2, i3⟩, v0, v1, v2, v3⟩ := xI_4 hj.1 hj.2
  have o16 : (16384 : Int64) ≠ 0 := by decide
  generalize hJ : j.toNatClampNeg = J at i0 i1 i2 i3
  refine whT_fill (n := rdI h (87 + 17 * d) 3) ⟨hn.1, by grind⟩ (jn1 d h J) mt2_0 ?_ ?_
  · unfold jL1
    dsimp only
    unfold jn1
    rw [mt2_o (by omega) (by omega), if_pos (Int32.le_refl _)]
  · intro i q0 q1
    have v : vp_in i 100 := vp_lt (n := 100) (m := 100) q0 (by grind) rfl
    unfold jL1
    dsimp only
    generalize hS : jn1 d h J i.toNatClampNeg = S
    have So : ∀ o k, o ≠ 88 + 17 * d → o ≠ 89 + 17 * d → rdI S o k = rdI h o k := fun o k a b => by rw [← hS]; exact mt2_o a b
    have Sx : ∀ o, rdI S o i.toNatClampNeg = rdI h o i.toNatClampNeg := fun o => by rw [← hS]; exact mt2_b (by omega)
    rw [So _ _ (by omega) (by omega), if_neg (Int32.not_le.mpr q1), gd_pos v, lz_eq, gd_pos v, lz_eq, gd_pos ⟨v0, v2⟩, f_HH_over_eq o16, bP_some, gd_pos v, lz_eq, gd_pos ⟨v1, v3⟩, f_HH_over_eq o16, bP_some, gd_pos v, lz_eq, lz_eq, r0, r1, z14, Sx, Sx, i0, i1, i2, i3]
    rw [rdI_o (by omega), rdI_o (by omega), So _ _ (by omega) (by omega), So _ _ (by omega) (by omega), So _ _ (by omega) (by omega), So _ _ (by omega) (by omega), show 77 + 17 * d + 9 = 86 + 17 * d by omega, ← hS]
    unfold jn1
    refine congrArg (fun H : hH => (some (.inr (.inl (i + 1, H))) : Option (hH ⊕ ((Int32 × hH) ⊕ hH)))) ?_
    exact mt2_s rfl rfl (by omega) (by omega)
