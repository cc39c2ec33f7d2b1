/-! LAYER 3BA: a glyph's program: before it and behind it, on the model's side -/
theorem bringM_o {h : hH} {o k : Nat} (ho : o ≠ 192) (h2 : o < 210 ∨ 216 < o) : rdI (bringM h) o k = rdI h o k := by
  unfold bringM
  rw [rdI_fo (by omega), rdI_fo (by omega), rdI_fo (by omega), rdI_fo (by omega), rdI_fo (by omega), rdI_fo (by omega), rdI_fo (by omega), bring_o ho]
theorem bringM_192 {h : hH} {k : Nat} (hk : k < 80 ∨ 88 < k) : rdI (bringM h) 192 k = rdI h 192 k := by
  unfold bringM bring9
  rw [rdI_fo (by omega), rdI_fo (by omega), rdI_fo (by omega), rdI_fo (by omega), rdI_fo (by omega), rdI_fo (by omega), rdI_fo (by omega)]
  rw [rdI_wrI, if_neg (by omega), rdI_wrI, if_neg (by omega), rdI_wrI, if_neg (by omega), rdI_wrI, if_neg (by omega), rdI_wrI, if_neg (by omega), rdI_wrI, if_neg (by omega), rdI_wrI, if_neg (by omega), rdI_wrI, if_neg (by omega), rdI_wrI, if_neg (by omega)]
theorem bringM_s {h : hH} {j : Nat} (hj : j < 9) : rdI (bringM h) 192 (80 + j) = if j = 4 then (if rdI h 234 4 = 1 then 1 else 0) else rdI h 234 j := by
  unfold bringM bring9
  rcases lt9 hj with rfl | rfl | rfl | rfl | rfl | rfl | rfl | rfl | rfl <;> simp only [rdI_wrI, rdI_flI, rdI_wrP, Nat.reduceAdd, Nat.reduceEqDiff, false_and, and_false, true_and, and_true, eq_self, reduceIte]
theorem bringM_210 {h : hH} {i : Nat} (hi : i < 256) : rdI (bringM h) 210 i = rdI h 231 i := by
  unfold bringM
  simp only [rdI_flI, Nat.reduceEqDiff, false_and, and_false, true_and, and_true, eq_self, reduceIte, if_pos hi]
theorem bringM_211 {h : hH} {i : Nat} (hi : i < 64) : rdI (bringM h) 211 i = rdI h 232 i ∧ rdI (bringM h) 212 i = rdI h 233 (4 * i + 2) ∧ rdI (bringM h) 213 i = rdI h 233 (4 * i + 3) ∧ rdI (bringM h) 214 i = rdI h 233 (4 * i) ∧ rdI (bringM h) 215 i = rdI h 233 (4 * i + 1) ∧ rdI (bringM h) 216 i = rdI h 235 i := by
  unfold bringM
  refine ⟨?_, ?_, ?_, ?_, ?_, ?_⟩ <;> simp only [rdI_flI, Nat.reduceEqDiff, false_and, and_false, true_and, and_true, eq_self, reduceIte, if_pos hi]
noncomputable def hiL1 (x1 : Int32) (p5 : Int32 × hH) : Option ((Int32 × hH) ⊕ hH) :=
  if (rdI p5.2 192 53) ≤ p5.1 then (
    some (.inr p5.2)
  ) else (
    gd (vp_in (((20 : Int32) * x1) + p5.1) 120 ∧ vp_in p5.1 20) <|
    lz (wrI p5.2 218 (Int32.toNatClampNeg p5.1) (rdI p5.2 241 (Int32.toNatClampNeg (((20 : Int32) * x1) + p5.1)))) fun h4 =>
    lz (A := Int32) (p5.1 + (1 : Int32)) fun v8 =>
    some (.inl (v8, h4))
  )
noncomputable def hiX (x1 v1 v2 : Int32) (p10 : Int32 × hH) : Option Int64 :=
  if v2 ≤ p10.1 then (
    gd (vp_in (((4 : Int32) * x1) + ((2 : Int32) * (p10.1 - v2))) 24) <|
    some (Int32.toInt64 (rdI p10.2 242 (Int32.toNatClampNeg (((4 : Int32) * x1) + ((2 : Int32) * (p10.1 - v2))))))
  ) else (
    gd (vp_in (v1 + p10.1) 612) <|
    some (Int32.toInt64 (rdI p10.2 238 (Int32.toNatClampNeg (v1 + p10.1))))
  )
noncomputable def hiY (x1 v1 v2 : Int32) (p10 : Int32 × hH) : Option Int64 :=
  if v2 ≤ p10.1 then (
    gd (vp_in ((((4 : Int32) * x1) + ((2 : Int32) * (p10.1 - v2))) + (1 : Int32)) 24) <|
    some (Int32.toInt64 (rdI p10.2 242 (Int32.toNatClampNeg ((((4 : Int32) * x1) + ((2 : Int32) * (p10.1 - v2))) + (1 : Int32)))))
  ) else (
    gd (vp_in (v1 + p10.1) 612) <|
    some (Int32.toInt64 (rdI p10.2 239 (Int32.toNatClampNeg (v1 + p10.1))))
  )
noncomputable def hiW (v1 v2 i : Int32) (h6 : hH) : Option Int32 :=
  if v2 ≤ i then (
    some (0 : Int32)
  ) else (
    gd (vp_in (v1 + i) 612) <|
    if (rdI h6 240 (Int32.toNatClampNeg (v1 + i))) = 0 then (
      some (0 : Int32)
    ) else (
      some (1 : Int32)
    )
  )
noncomputable def hiL2 (x1 v1 v2 : Int32) (p10 : Int32 × hH) : Option ((Int32 × hH) ⊕ hH) :=
  if (v2 + (2 : Int32)) ≤ p10.1 then (
    some (.inr p10.2)
  ) else (
    bP (A := Int64) (hiX x1 v1 v2 p10) fun p12 =>
    bP (A := Int64) (hiY x1 v1 v2 p10) fun p16 =>
    bS (f_Mo_put ((102 : Int32) + p10.1) p12 p16 p10.2) fun _ h5 =>
    gd (vp_in ((102 : Int32) + p10.1) 204) <|
    lz (wrI h5 216 (Int32.toNatClampNeg ((102 : Int32) + p10.1)) (0 : Int32)) fun h6 =>
    bP (A := Int32) (hiW v1 v2 p10.1 h6) fun p21 =>
    gd (vp_in p10.1 102) <|
    lz (wrI h6 217 (Int32.toNatClampNeg p10.1) (p21 &&& 1)) fun h7 =>
    lz (A := Int32) (p10.1 + (1 : Int32)) fun v26 =>
    some (.inl (v26, h7))
  )
noncomputable def hiL3 (v1 v2 : Int32) (p34 : Int32 × hH) : Option ((Int32 × hH) ⊕ hH) :=
  if v2 ≤ p34.1 then (
    some (.inr p34.2)
  ) else (
    gd (vp_in ((102 : Int32) + p34.1) 204 ∧ vp_in (v1 + p34.1) 612) <|
    lz (wrI p34.2 238 (Int32.toNatClampNeg (v1 + p34.1)) (rdI p34.2 214 (Int32.toNatClampNeg ((102 : Int32) + p34.1)))) fun h13 =>
    gd (vp_in ((102 : Int32) + p34.1) 204 ∧ vp_in (v1 + p34.1) 612) <|
    lz (wrI h13 239 (Int32.toNatClampNeg (v1 + p34.1)) (rdI h13 215 (Int32.toNatClampNeg ((102 : Int32) + p34.1)))) fun h14 =>
    gd (vp_in p34.1 102 ∧ vp_in (v1 + p34.1) 612) <|
    lz (wrI h14 240 (Int32.toNatClampNeg (v1 + p34.1)) ((rdI h14 217 (Int32.toNatClampNeg p34.1)) &&& 1)) fun h15 =>
    lz (A := Int32) (p34.1 + (1 : Int32)) fun v39 =>
    some (.inl (v39, h15))
  )
noncomputable def hiL4 (x1 v2 : Int32) (p41 : Int32 × hH) : Option ((Int32 × hH) ⊕ hH) :=
  if (2 : Int32) ≤ p41.1 then (
    some (.inr p41.2)
  ) else (
    gd (vp_in (((102 : Int32) + v2) + p41.1) 204 ∧ vp_in (((4 : Int32) * x1) + ((2 : Int32) * p41.1)) 24) <|
    lz (wrI p41.2 242 (Int32.toNatClampNeg (((4 : Int32) * x1) + ((2 : Int32) * p41.1))) (rdI p41.2 214 (Int32.toNatClampNeg (((102 : Int32) + v2) + p41.1)))) fun h16 =>
    gd (vp_in (((102 : Int32) + v2) + p41.1) 204 ∧ vp_in ((((4 : Int32) * x1) + ((2 : Int32) * p41.1)) + (1 : Int32)) 24) <|
    lz (wrI h16 242 (Int32.toNatClampNeg ((((4 : Int32) * x1) + ((2 : Int32) * p41.1)) + (1 : Int32))) (rdI h16 215 (Int32.toNatClampNeg (((102 : Int32) + v2) + p41.1)))) fun h17 =>
    lz (A := Int32) (p41.1 + (1 : Int32)) fun v45 =>
    some (.inl (v45, h17))
  )
noncomputable def hiK (x1 v1 v2 : Int32) (h12 : hH) : Option (Unit × hH) :=
  bP (A := hH) (wh (hiL3 v1 v2) ((0 : Int32), h12)) fun p35 =>
  bP (A := hH) (wh (hiL4 x1 v2) ((0 : Int32), p35)) fun p42 =>
  bP (A := hH) (
    if x1 = 0 then (
      lz (wrI p42 192 126 (rdI p42 192 87)) fun h18 =>
      lz (wrI h18 192 127 (rdI h18 192 88)) fun h19 =>
      some h19
    ) else (
      some p42
    )
  ) fun p47 =>
  lz (wrI p47 192 52 (0 : Int32)) fun h20 =>
  lz (wrI h20 192 53 (0 : Int32)) fun h21 =>
  some ((), h21)
theorem Mo_hint_eq0 {x1 : Int32} {h : hH} : f_Mo_hint x1 h = bS (f_Mo_bring h) fun _ h1 =>
  lz (A := Int32) ((102 : Int32) * x1) fun v1 =>
  gd (vp_in x1 6) <|
  lz (A := Int32) (rdI h1 236 (Int32.toNatClampNeg x1)) fun v2 =>
  lz (wrI h1 192 52 (v2 + (2 : Int32))) fun h2 =>
  gd (vp_in x1 6) <|
  lz (wrI h2 192 53 (rdI h2 237 (Int32.toNatClampNeg x1))) fun h3 =>
  bP (A := hH) (wh (hiL1 x1) ((0 : Int32), h3)) fun p6 =>
  bP (A := hH) (wh (hiL2 x1 v1 v2) ((0 : Int32), p6)) fun p11 =>
  gd (vp_in ((102 : Int32) + v2) 204) <|
  bP (f_Mo_toPixel (Int32.toInt64 (rdI p11 214 (Int32.toNatClampNeg ((102 : Int32) + v2))))) fun a29 =>
  gd (vp_in ((102 : Int32) + v2) 204) <|
  lz (wrI p11 214 (Int32.toNatClampNeg ((102 : Int32) + v2)) a29) fun h8 =>
  gd (vp_in ((103 : Int32) + v2) 204) <|
  bP (f_Mo_toPixel (Int32.toInt64 (rdI h8 214 (Int32.toNatClampNeg ((103 : Int32) + v2))))) fun a32 =>
  gd (vp_in ((103 : Int32) + v2) 204) <|
  lz (wrI h8 214 (Int32.toNatClampNeg ((103 : Int32) + v2)) a32) fun h9 =>
  lz (wrI h9 220 2 (rdI h9 192 31)) fun h10 =>
  lz (wrI h10 221 2 (rdI h10 192 32)) fun h11 =>
  bS (f_Mo_runProgram (2 : Int32) h11) fun _ h12 => hiK x1 v1 v2 h12 := rfl
def hun (d : Nat) (h : hH) (i : Nat) : Int32 := if i < (rdI h 236 d).toNatClampNeg then rdI h 238 (102 * d + i) else rdI h 242 (4 * d + 2 * (i - (rdI h 236 d).toNatClampNeg))
def hvn (d : Nat) (h : hH) (i : Nat) : Int32 := if i < (rdI h 236 d).toNatClampNeg then rdI h 239 (102 * d + i) else rdI h 242 (4 * d + 2 * (i - (rdI h 236 d).toNatClampNeg) + 1)
def hwn (d : Nat) (h : hH) (i : Nat) : Int32 := if i < (rdI h 236 d).toNatClampNeg then (if rdI h 240 (102 * d + i) = 0 then 0 else 1) else 0
def hiA (d : Nat) (h : hH) : hH := wrI (wrI (bringM h) 192 52 (rdI h 236 d + 2)) 192 53 (rdI h 237 d)
def hiB (d : Nat) (h : hH) : hH := mtI (hiA d h) 218 0 (rdI h 237 d).toNatClampNeg (fun i => rdI h 241 (20 * d + i))
def hiC (d : Nat) (h B : hH) (k : Nat) : hH := mtI (mtI (mt4 B 212 213 214 215 102 k (hun d h) (hvn d h) (hun d h) (hvn d h)) 216 102 k (fun _ => 0)) 217 0 k (hwn d h)
def hiN (d : Nat) (h : hH) : hH := hiC d h (hiB d h) ((rdI h 236 d).toNatClampNeg + 2)
noncomputable def hiD (d : Nat) (h : hH) : hH := wrI (wrI (hiN d h) 214 (102 + (rdI h 236 d).toNatClampNeg) (snV (rdI h 242 (4 * d)))) 214 (103 + (rdI h 236 d).toNatClampNeg) (snV (rdI h 242 (4 * d + 2)))
noncomputable def hiE (d : Nat) (h : hH) : hH := wrI (wrI (hiD d h) 220 2 (rdI h 192 31)) 221 2 (rdI h 192 32)
theorem hiA_o {d o k : Nat} {h : hH} (ho : o ≠ 192) (h2 : o < 210 ∨ 216 < o) : rdI (hiA d h) o k = rdI h o k := by
  unfold hiA
  rw [rdI_o ho, rdI_o ho, bringM_o ho h2]
theorem hiB_o {d o k : Nat} {h : hH} (ho : o ≠ 192) (h2 : o < 210 ∨ 218 < o) : rdI (hiB d h) o k = rdI h o k := by
  unfold hiB
  rw [rdI_mo (by omega), hiA_o ho (by omega)]
theorem hiC_o {d o k n : Nat} {h B : hH} (ho : o < 212 ∨ 217 < o) : rdI (hiC d h B n) o k = rdI B o k := by
  unfold hiC
  rw [rdI_mo (by omega), rdI_mo (by omega), mt4_o (by omega) (by omega) (by omega) (by omega)]
theorem hiC_0 {d : Nat} {h B : hH} : hiC d h B 0 = B := by
  unfold hiC
  rw [mtI_0, mtI_0, mt4_0]
theorem hiC_s {d n k : Nat} {h B : hH} {a b w : Int32} (ha : a = hun d h n) (hb : b = hvn d h n) (hw : w = hwn d h n) (hk : k = 102 + n) : wrI (wrI (wrI (wrI (wrI (wrI (hiC d h B n) 212 k a) 213 k b) 214 k a) 215 k b) 216 k 0) 217 n w = hiC d h B (n + 1) := by
  unfold hiC
  rw [mtI_c (o := 217) (o' := 212) (by decide), mtI_c (o := 216) (o' := 212) (by decide), mtI_c (o := 217) (o' := 213) (by decide), mtI_c (o := 216) (o' := 213) (by decide), mtI_c (o := 217) (o' := 214) (by decide), mtI_c (o := 216) (o' := 214) (by decide), mtI_c (o := 217) (o' := 215) (by decide), mtI_c (o := 216) (o' := 215) (by decide), mt4_s ha hb ha hb hk (by decide) (by decide) (by decide) (by decide) (by decide) (by decide), mtI_c (o := 217) (o' := 216) (by decide), mtI_s rfl hk, mtI_s hw (by omega)]
theorem xI_9 {x i : Int32} (x0 : 0 ≤ x) (x1 : x ≤ 5) (i0 : 0 ≤ i) (i1 : i < 2) : ((4 * x + 2 * i).toNatClampNeg = 4 * x.toNatClampNeg + 2 * i.toNatClampNeg ∧ vp_in (4 * x + 2 * i) 24) ∧ ((4 * x + 2 * i + 1).toNatClampNeg = 4 * x.toNatClampNeg + 2 * i.toNatClampNeg + 1 ∧ vp_in (4 * x + 2 * i + 1) 24) := by
  have hx : x = 0 ∨ x = 1 ∨ x = 2 ∨ x = 3 ∨ x = 4 ∨ x = 5 := by grind
  rcases hx with rfl | rfl | rfl | rfl | rfl | rfl <;> rcases lt2 i0 i1 with rfl | rfl <;> exact ⟨⟨rfl, vp_lt (n := 24) (m := 24) (by decide) (by decide) rfl⟩, ⟨rfl, vp_lt (n := 24) (m := 24) (by decide) (by decide) rfl⟩⟩
theorem xI_10 {x i : Int32} (x0 : 0 ≤ x) (x1 : x ≤ 5) (i0 : 0 ≤ i) (i1 : i < 102) : (102 * x + i).toNatClampNeg = 102 * x.toNatClampNeg + i.toNatClampNeg ∧ vp_in (102 * x + i) 612 := by
  obtain ⟨a1, a2, a3⟩ := xI_k (c := 102) (C := 102) (i := i) (by decide) x0 x1 i0 (by grind)
  exact ⟨a1, vp_lt (n := 612) (m := 612) a2 (by grind) rfl⟩
theorem xI_11 {x i : Int32} (x0 : 0 ≤ x) (x1 : x ≤ 5) (i0 : 0 ≤ i) (i1 : i < 20) : (20 * x + i).toNatClampNeg = 20 * x.toNatClampNeg + i.toNatClampNeg ∧ vp_in (20 * x + i) 120 := by
  obtain ⟨a1, a2, a3⟩ := xI_k (c := 20) (C := 20) (i := i) (by decide) x0 x1 i0 (by grind)
  refine ⟨a1, vp_lt (n := 120) (m := 120) a2 ?_ rfl⟩
  have hx : x = 0 ∨ x = 1 ∨ x = 2 ∨ x = 3 ∨ x = 4 ∨ x = 5 := by grind
  rcases hx with rfl | rfl | rfl | rfl | rfl | rfl <;> grind
theorem xI_12 {i : Int32} (i0 : 0 ≤ i) (i1 : i < 102) : (102 + i).toNatClampNeg = 102 + i.toNatClampNeg ∧ vp_in (102 + i) 204 := by
  have e : (102 : Int32).toNatClampNeg = 102 := rfl
  have a : (102 + i).toNatClampNeg = (102 : Int32).toNatClampNeg + i.toNatClampNeg := xI_add (m := 1000) (by decide) (by decide) i0 (by grind) (by decide)
  exact ⟨by omega, vp_lt (n := 204) (m := 204) (by grind) (by grind) rfl⟩
theorem hi1_eq {h : hH} {x : Int32} (x0 : 0 ≤ x ∧ x ≤ 5) (c0 : 0 ≤ rdI h 237 x.toNatClampNeg ∧ rdI h 237 x.toNatClampNeg ≤ 20) : wh (hiL1 x) ((0 : Int32), hiA x.toNatClampNeg h) = some (hiB x.toNatClampNeg h) := by
  generalize hd : x.toNatClampNeg = d at c0
  have a53 : rdI (hiA d h) 192 53 = rdI h 237 d := by
    unfold hiA
    rw [rdI_wrI, if_pos ⟨rfl, rfl⟩]
  refine wh_fill (n := rdI h 237 d) ⟨c0.1, by grind⟩ (fun k => mtI (hiA d h) 218 0 k (fun i => rdI h 241 (20 * d + i))) mtI_0 ?_ ?_
  · unfold hiL1
    dsimp only
    rw [rdI_mo (by decide), a53, if_pos (Int32.le_refl _)]
    rfl
  · intro i q0 q1
    obtain ⟨k1, v1⟩ := xI_11 (i := i) x0.1 x0.2 q0 (by grind)
    rw [hd] at k1
    have v : vp_in (20 * x + i) 120 ∧ vp_in i 20 := ⟨v1, vp_lt (n := 20) (m := 20) q0 (by grind) rfl⟩
    unfold hiL1
    dsimp only
    rw [rdI_mo (by decide), a53, if_neg (Int32.not_le.mpr q1), gd_pos v, rdI_mo (by decide), hiA_o (by decide) (by decide), k1, lz_eq, lz_eq]
    refine congrArg (fun H : hH => (some (.inl (i + 1, H)) : Option ((Int32 × hH) ⊕ hH))) ?_
    exact mtI_s rfl (by omega)
theorem hi2_eq {h B : hH} {x : Int32} (x0 : 0 ≤ x ∧ x ≤ 5) (n0 : 0 ≤ rdI h 236 x.toNatClampNeg ∧ rdI h 236 x.toNatClampNeg ≤ 100) (hB : ∀ o k, 218 < o → rdI B o k = rdI h o k) : wh (hiL2 x (102 * x) (rdI h 236 x.toNatClampNeg)) ((0 : Int32), B) = some (hiC x.toNatClampNeg h B ((rdI h 236 x.toNatClampNeg).toNatClampNeg + 2)) := by
  generalize hd : x.toNatClampNeg = d at n0
  generalize hn : rdI h 236 d = n at n0
  have en : (n + 2).toNatClampNeg = n.toNatClampNeg + 2 := by
    have : (n + 2).toNatClampNeg = n.toNatClampNeg + (2 : Int32).toNatClampNeg := xI_add (m := 1000) n0.1 (by grind) (by decide) (by decide) (by decide)
    exact this
  refine wh_fill (n := n + 2) ⟨by grind, by grind⟩ (hiC d h B) hiC_0 ?_ ?_
  · unfold hiL2
    dsimp only
    rw [if_pos (Int32.le_refl _), en]
  · intro i q0 q1
    obtain ⟨k1, v1⟩ := xI_10 (i := i) x0.1 x0.2 q0 (by grind)
    obtain ⟨k2, v2⟩ := xI_12 (i := i) q0 (by grind)
    rw [hd] at k1
    have v3 : vp_in i 102 := vp_lt (n := 102) (m := 102) q0 (by grind) rfl
    unfold hiL2
    dsimp only
    generalize hS : hiC d h B i.toNatClampNeg = S
    have So : ∀ o k, 218 < o → rdI S o k = rdI h o k := fun o k ho => by rw [← hS, hiC_o (by omega)]; exact hB o k ho
    have tail : hiX x (102 * x) n (i, S) = some (hun d h i.toNatClampNeg).toInt64 ∧ hiY x (102 * x) n (i, S) = some (hvn d h i.toNatClampNeg).toInt64 ∧ ∀ T : hH, (∀ o k, 218 < o → rdI T o k = rdI h o k) → hiW (102 * x) n i T = some (hwn d h i.toNatClampNeg) := by
      unfold hiX hiY hiW hun hvn hwn
      dsimp only
      rw [hn]
      by_cases w : n ≤ i
      · have wn : ¬ i.toNatClampNeg < n.toNatClampNeg := by
          have := xI_mono w
          omega
        have j0 : 0 ≤ i - n := by grind
        have j1 : i - n < 2 := by grind
        obtain ⟨⟨a1, a2⟩, ⟨a3, a4⟩⟩ := xI_9 (i := i - n) x0.1 x0.2 j0 j1
        have ej : (i - n).toNatClampNeg = i.toNatClampNeg - n.toNatClampNeg := by
          have : (n + (i - n)).toNatClampNeg = n.toNatClampNeg + (i - n).toNatClampNeg := xI_add (m := 1000) n0.1 (by grind) j0 (by grind) (by decide)
          rw [show n + (i - n) = i by grind] at this
          omega
        rw [hd, ej] at a1 a3
        rw [if_pos w, if_neg wn, gd_pos a2, a1, So _ _ (by omega), if_pos w, if_neg wn, gd_pos a4, a3, So _ _ (by omega), if_neg wn]
        refine ⟨rfl, rfl, fun T _ => ?_⟩
        rw [if_pos w]
      · have wn : i.toNatClampNeg < n.toNatClampNeg := (xI_lt q0 n0.1).mpr (Int32.not_le.mp w)
        rw [if_neg w, if_pos wn, gd_pos v1, k1, So _ _ (by omega), if_neg w, if_pos wn, gd_pos v1, So _ _ (by omega), if_pos wn]
        refine ⟨rfl, rfl, fun T hT => ?_⟩
        rw [if_neg w, gd_pos v1, hT _ _ (by omega)]
        split <;> rfl
    obtain ⟨t1, t2, t3⟩ := tail
    rw [if_neg (Int32.not_le.mpr q1), t1, bP_some, t2, bP_some, f_Mo_put_eq v2, bS_some, gd_pos v2, Int32.toInt32_toInt64, Int32.toInt32_toInt64, lz_eq]
    generalize hT : wrI (putM (102 + i) (hun d h i.toNatClampNeg) (hvn d h i.toNatClampNeg) S) 216 (102 + i).toNatClampNeg 0 = T
    have To : ∀ o k, 218 < o → rdI T o k = rdI h o k := fun o k ho => by
      rw [← hT]
      unfold putM
      rw [rdI_o (by omega), rdI_o (by omega), rdI_o (by omega), rdI_o (by omega), rdI_o (by omega)]
      exact So o k ho
    have w1 : hwn d h i.toNatClampNeg &&& 1 = hwn d h i.toNatClampNeg := by
      unfold hwn
      split
      · split <;> decide
      · decide
    rw [t3 T To, bP_some, gd_pos v3, w1, lz_eq, lz_eq, ← hT, ← hS]
    refine congrArg (fun H : hH => (some (.inl (i + 1, H)) : Option ((Int32 × hH) ⊕ hH))) ?_
    unfold putM
    exact hiC_s rfl rfl rfl k2
theorem hiC_i {d n i : Nat} {h B : hH} (hi : i < n) : rdI (hiC d h B n) 212 (102 + i) = hun d h i ∧ rdI (hiC d h B n) 213 (102 + i) = hvn d h i ∧ rdI (hiC d h B n) 214 (102 + i) = hun d h i ∧ rdI (hiC d h B n) 215 (102 + i) = hvn d h i ∧ rdI (hiC d h B n) 216 (102 + i) = 0 ∧ rdI (hiC d h B n) 217 i = hwn d h i := by
  obtain ⟨a, b, c, e⟩ := mt4_i (h := B) (o := 212) (p := 213) (q := 214) (r := 215) (b := 102) (u := hun d h) (v := hvn d h) (w := hun d h) (x := hvn d h) hi (by decide) (by decide) (by decide) (by decide) (by decide) (by decide)
  unfold hiC
  refine ⟨?_, ?_, ?_, ?_, ?_, ?_⟩
  · rw [rdI_mo (by decide), rdI_mo (by decide), a]
  · rw [rdI_mo (by decide), rdI_mo (by decide), b]
  · rw [rdI_mo (by decide), rdI_mo (by decide), c]
  · rw [rdI_mo (by decide), rdI_mo (by decide), e]
  · rw [rdI_mo (by decide), rdI_mi hi]
  · have := rdI_mi (h := mtI (mt4 B 212 213 214 215 102 n (hun d h) (hvn d h) (hun d h) (hvn d h)) 216 102 n (fun _ => 0)) (o := 217) (b := 0) (v := hwn d h) hi
    rw [Nat.zero_add] at this
    exact this
theorem Mo_hint_eq {h : hH} {x : Int32} (x0 : 0 ≤ x ∧ x ≤ 5) (n0 : 0 ≤ rdI h 236 x.toNatClampNeg ∧ rdI h 236 x.toNatClampNeg ≤ 100) (c0 : 0 ≤ rdI h 237 x.toNatClampNeg ∧ rdI h 237 x.toNatClampNeg ≤ 20) : f_Mo_hint x h = bS (f_Mo_runProgram 2 (hiE x.toNatClampNeg h)) fun _ h12 => hiK x (102 * x) (rdI h 236 x.toNatClampNeg) h12 := by
  have v6 : vp_in x 6 := vp_lt (n := 6) (m := 6) x0.1 (by grind) rfl
  obtain ⟨k1, v1⟩ := xI_12 (i := rdI h 236 x.toNatClampNeg) n0.1 (by grind)
  have e103 : 103 + rdI h 236 x.toNatClampNeg = 102 + (rdI h 236 x.toNatClampNeg + 1) := by grind
  obtain ⟨k2, v2⟩ := xI_12 (i := rdI h 236 x.toNatClampNeg + 1) (by grind) (by grind)
  have k3 : (rdI h 236 x.toNatClampNeg + 1).toNatClampNeg = (rdI h 236 x.toNatClampNeg).toNatClampNeg + 1 := xI_succ (m := 1000) n0.1 (by grind) (by decide)
  have w1 := hi1_eq x0 c0
  have w2 := hi2_eq (B := hiB x.toNatClampNeg h) x0 n0 (fun o k ho => hiB_o (by omega) (by omega))
  rw [Mo_hint_eq0, Mo_bring_eq, bS_some, lz_eq, gd_pos v6, bringM_o (by decide) (by decide), lz_eq, lz_eq, gd_pos v6, rdI_o (by decide), bringM_o (by decide) (by decide), lz_eq]
  have eA : wrI (wrI (bringM h) 192 52 (rdI h 236 x.toNatClampNeg + 2)) 192 53 (rdI h 237 x.toNatClampNeg) = hiA x.toNatClampNeg h := rfl
  rw [eA, w1, bP_some, w2, bP_some, e103, gd_pos v1, k1, k2, k3]
  have eN : hiC x.toNatClampNeg h (hiB x.toNatClampNeg h) ((rdI h 236 x.toNatClampNeg).toNatClampNeg + 2) = hiN x.toNatClampNeg h := rfl
  have i0 := (hiC_i (d := x.toNatClampNeg) (h := h) (B := hiB x.toNatClampNeg h) (n := (rdI h 236 x.toNatClampNeg).toNatClampNeg + 2) (i := (rdI h 236 x.toNatClampNeg).toNatClampNeg) (by omega)).2.2.1
  have i1 := (hiC_i (d := x.toNatClampNeg) (h := h) (B := hiB x.toNatClampNeg h) (n := (rdI h 236 x.toNatClampNeg).toNatClampNeg + 2) (i := (rdI h 236 x.toNatClampNeg).toNatClampNeg + 1) (by omega)).2.2.1
  have u0 : hun x.toNatClampNeg h (rdI h 236 x.toNatClampNeg).toNatClampNeg = rdI h 242 (4 * x.toNatClampNeg) := by
    unfold hun
    rw [if_neg (by omega), Nat.sub_self]
    rfl
  have u1 : hun x.toNatClampNeg h ((rdI h 236 x.toNatClampNeg).toNatClampNeg + 1) = rdI h 242 (4 * x.toNatClampNeg + 2) := by
    unfold hun
    rw [if_neg (by omega), Nat.add_sub_cancel_left]
  rw [eN] at i0 i1 ⊢
  rw [i0, u0, sn_M, bP_some, gd_pos v1, lz_eq, gd_pos v2, rdI_wrI, if_neg (by omega), i1, u1, sn_M, bP_some, gd_pos v2, lz_eq]
  have eD : wrI (wrI (hiN x.toNatClampNeg h) 214 (102 + (rdI h 236 x.toNatClampNeg).toNatClampNeg) (snV (rdI h 242 (4 * x.toNatClampNeg)))) 214 (102 + ((rdI h 236 x.toNatClampNeg).toNatClampNeg + 1)) (snV (rdI h 242 (4 * x.toNatClampNeg + 2))) = hiD x.toNatClampNeg h := by
    unfold hiD
    rw [show 102 + ((rdI h 236 x.toNatClampNeg).toNatClampNeg + 1) = 103 + (rdI h 236 x.toNatClampNeg).toNatClampNeg by omega]
  rw [eD, lz_eq, lz_eq, rdI_o (by decide)]
  have q : ∀ k, k = 31 ∨ k = 32 → rdI (hiD x.toNatClampNeg h) 192 k = rdI h 192 k := fun k hk => by
    unfold hiD hiN
    rw [rdI_o (by decide), rdI_o (by decide), hiC_o (by decide)]
    unfold hiB hiA
    rw [rdI_mo (by decide), rdI_wrI, if_neg (by omega), rdI_wrI, if_neg (by omega), bringM_192 (by omega)]
  rw [q 31 (Or.inl rfl), q 32 (Or.inr rfl)]
  rfl
/-- behind the program -/
def hiF (d : Nat) (n : Int32) (g : hH) : hH := mt3 g 238 239 240 (102 * d) n.toNatClampNeg (fun i => rdI g 214 (102 + i)) (fun i => rdI g 215 (102 + i)) (fun i => rdI g 217 i &&& 1)
def hgv (n : Int32) (g : hH) (j : Nat) : Int32 := if j % 2 = 0 then rdI g 214 (102 + n.toNatClampNeg + j / 2) else rdI g 215 (102 + n.toNatClampNeg + j / 2)
def hiG (d : Nat) (n : Int32) (g : hH) : hH := mtI (hiF d n g) 242 (4 * d) 4 (hgv n g)
def hiH (d : Nat) (n : Int32) (g : hH) : hH := if d = 0 then wrI (wrI (hiG d n g) 192 126 (rdI g 192 87)) 192 127 (rdI g 192 88) else hiG d n g
def hiZ (d : Nat) (n : Int32) (g : hH) : hH := wrI (wrI (hiH d n g) 192 52 0) 192 53 0
theorem hiF_o {d o k : Nat} {n : Int32} {g : hH} (ho : o < 238 ∨ 240 < o) : rdI (hiF d n g) o k = rdI g o k := by
  unfold hiF
  rw [mt3_o (by omega) (by omega) (by omega)]
theorem hiG_o {d o k : Nat} {n : Int32} {g : hH} (ho : o < 238 ∨ 242 < o) : rdI (hiG d n g) o k = rdI g o k := by
  unfold hiG
  rw [rdI_mo (by omega), hiF_o (by omega)]
theorem hgv_2 {n : Int32} {g : hH} {k : Nat} : hgv n g (2 * k) = rdI g 214 (102 + n.toNatClampNeg + k) ∧ hgv n g (2 * k + 1) = rdI g 215 (102 + n.toNatClampNeg + k) := by
  unfold hgv
  have a : (2 * k) % 2 = 0 := by omega
  have b : ¬ (2 * k + 1) % 2 = 0 := by omega
  have c : (2 * k) / 2 = k := by omega
  have e : (2 * k + 1) / 2 = k := by omega
  rw [if_pos a, if_neg b, c, e]
  exact ⟨rfl, rfl⟩
theorem hiK_eq {g : hH} {x n : Int32} (x0 : 0 ≤ x ∧ x ≤ 5) (n0 : 0 ≤ n ∧ n ≤ 100) : hiK x (102 * x) n g = some ((), hiZ x.toNatClampNeg n g) := by
  have ex : x = 0 ↔ x.toNatClampNeg = 0 := by
    constructor
    · intro e
      rw [e]
      rfl
    · intro e
      exact xI_inj x0.1 (by decide) e
  generalize hd : x.toNatClampNeg = d at ex
  have w3 : wh (hiL3 (102 * x) n) ((0 : Int32), g) = some (hiF d n g) := by
    refine wh_fill (n := n) ⟨n0.1, by grind⟩ (fun k => mt3 g 238 239 240 (102 * d) k (fun i => rdI g 214 (102 + i)) (fun i => rdI g 215 (102 + i)) (fun i => rdI g 217 i &&& 1)) mt3_0 ?_ ?_
    · unfold hiL3
      dsimp only
      rw [if_pos (Int32.le_refl _)]
      rfl
    · intro i q0 q1
      obtain ⟨k1, v1⟩ := xI_10 (i := i) x0.1 x0.2 q0 (by grind)
      obtain ⟨k2, v2⟩ := xI_12 (i := i) q0 (by grind)
      rw [hd] at k1
      have v3 : vp_in i 102 := vp_lt (n := 102) (m := 102) q0 (by grind) rfl
      unfold hiL3
      dsimp only
      generalize hS : mt3 g 238 239 240 (102 * d) i.toNatClampNeg (fun i => rdI g 214 (102 + i)) (fun i => rdI g 215 (102 + i)) (fun i => rdI g 217 i &&& 1) = S
      have So : ∀ o k, o < 238 → rdI S o k = rdI g o k := fun o k ho => by rw [← hS]; exact mt3_o (by omega) (by omega) (by omega)
      rw [if_neg (Int32.not_le.mpr q1), gd_pos ⟨v2, v1⟩, So 214 _ (by omega), lz_eq, gd_pos ⟨v2, v1⟩, rdI_o (by decide), So 215 _ (by omega), lz_eq, gd_pos ⟨v3, v1⟩, rdI_o (by decide), rdI_o (by decide), So 217 _ (by omega), lz_eq, lz_eq, k1, k2, ← hS]
      refine congrArg (fun H : hH => (some (.inl (i + 1, H)) : Option ((Int32 × hH) ⊕ hH))) ?_
      exact mt3_s rfl rfl rfl rfl (by decide) (by decide) (by decide)
  have w4 : wh (hiL4 x n) ((0 : Int32), hiF d n g) = some (hiG d n g) := by
    refine wh_fill (n := 2) (by decide) (fun k => mtI (hiF d n g) 242 (4 * d) (2 * k) (hgv n g)) mtI_0 ?_ ?_
    · unfold hiL4
      dsimp only
      rw [if_pos (Int32.le_refl _)]
      rfl
    · intro i q0 q1
      obtain ⟨⟨a1, a2⟩, ⟨a3, a4⟩⟩ := xI_9 (i := i) x0.1 x0.2 q0 q1
      rw [hd] at a1 a3
      obtain ⟨k2, v2⟩ := xI_12 (i := n + i) (by grind) (by grind)
      have k3 : (n + i).toNatClampNeg = n.toNatClampNeg + i.toNatClampNeg := xI_add (m := 1000) n0.1 (by grind) q0 (by grind) (by decide)
      have e3 : 102 + n + i = 102 + (n + i) := by grind
      obtain ⟨u1, u2⟩ := hgv_2 (n := n) (g := g) (k := i.toNatClampNeg)
      unfold hiL4
      dsimp only
      generalize hS : mtI (hiF d n g) 242 (4 * d) (2 * i.toNatClampNeg) (hgv n g) = S
      have So : ∀ o k, o < 238 → rdI S o k = rdI g o k := fun o k ho => by rw [← hS, rdI_mo (by omega)]; exact hiF_o (by omega)
      rw [e3, if_neg (Int32.not_le.mpr q1), gd_pos ⟨v2, a2⟩, So 214 _ (by omega), lz_eq, gd_pos ⟨v2, a4⟩, rdI_o (by decide), So 215 _ (by omega), lz_eq, lz_eq, a1, a3, k2, k3, ← Nat.add_assoc, ← hS]
      refine congrArg (fun H : hH => (some (.inl (i + 1, H)) : Option ((Int32 × hH) ⊕ hH))) ?_
      rw [mtI_s u1.symm rfl, mtI_s u2.symm (by omega), show 2 * (i.toNatClampNeg + 1) = 2 * i.toNatClampNeg + 1 + 1 from by omega]
  unfold hiK
  rw [w3, bP_some, w4, bP_some]
  unfold hiZ hiH
  by_cases q : d = 0
  · rw [if_pos (ex.mpr q), if_pos q, lz_eq, lz_eq, bP_some, lz_eq, lz_eq, hiG_o (by decide), rdI_wrI, if_neg (by omega), hiG_o (by decide)]
  · rw [if_neg (fun w => q (ex.mp w)), if_neg q, bP_some, lz_eq, lz_eq]
