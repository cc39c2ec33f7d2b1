/-! LAYER 3AZ: a glyph's program: before it and behind it, on the component's side -/
/-- four rows are filled -/
def mt4 (h : hH) (o p q r b n : Nat) (u v w x : Nat → Int32) : hH := mtI (mtI (mtI (mtI h o b n u) p b n v) q b n w) r b n x
theorem mt4_0 {h : hH} {o p q r b : Nat} {u v w x : Nat → Int32} : mt4 h o p q r b 0 u v w x = h := by
  unfold mt4
  rw [mtI_0, mtI_0, mtI_0, mtI_0]
theorem mt4_s {h : hH} {o p q r b n k : Nat} {u v w x : Nat → Int32} {a c e f : Int32} (ha : a = u n) (hc : c = v n) (he : e = w n) (hf : f = x n) (hk : k = b + n) (po : p ≠ o) (qo : q ≠ o) (ro : r ≠ o) (qp : q ≠ p) (rp : r ≠ p) (rq : r ≠ q) : wrI (wrI (wrI (wrI (mt4 h o p q r b n u v w x) o k a) p k c) q k e) r k f = mt4 h o p q r b (n + 1) u v w x := by
  unfold mt4
  rw [mtI_c ro, mtI_c qo, mtI_c po, mtI_s ha hk, mtI_c rp, mtI_c qp, mtI_s hc hk, mtI_c rq, mtI_s he hk, mtI_s hf hk]
theorem mt4_o {h : hH} {o p q r b n : Nat} {u v w x : Nat → Int32} {a c : Nat} (ho : a ≠ o) (hp : a ≠ p) (hq : a ≠ q) (hr : a ≠ r) : rdI (mt4 h o p q r b n u v w x) a c = rdI h a c := by
  unfold mt4
  rw [rdI_mo hr, rdI_mo hq, rdI_mo hp, rdI_mo ho]
theorem mt4_i {h : hH} {o p q r b n : Nat} {u v w x : Nat → Int32} {c : Nat} (hc : c < n) (po : p ≠ o) (qo : q ≠ o) (ro : r ≠ o) (qp : q ≠ p) (rp : r ≠ p) (rq : r ≠ q) : rdI (mt4 h o p q r b n u v w x) o (b + c) = u c ∧ rdI (mt4 h o p q r b n u v w x) p (b + c) = v c ∧ rdI (mt4 h o p q r b n u v w x) q (b + c) = w c ∧ rdI (mt4 h o p q r b n u v w x) r (b + c) = x c := by
  unfold mt4
  refine ⟨?_, ?_, ?_, ?_⟩
  · rw [rdI_mo (Ne.symm ro), rdI_mo (Ne.symm qo), rdI_mo (Ne.symm po), rdI_mi hc]
  · rw [rdI_mo (Ne.symm rp), rdI_mo (Ne.symm qp), rdI_mi hc]
  · rw [rdI_mo (Ne.symm rq), rdI_mi hc]
  · rw [rdI_mi hc]
theorem mt4_b {h : hH} {o p q r b n : Nat} {u v w x : Nat → Int32} {a c : Nat} (hc : c < b ∨ b + n ≤ c) : rdI (mt4 h o p q r b n u v w x) a c = rdI h a c := by
  unfold mt4
  rw [rdI_mtI, if_neg (by omega), rdI_mtI, if_neg (by omega), rdI_mtI, if_neg (by omega), rdI_mtI, if_neg (by omega)]
theorem stcp23_o {h : hH} {o k : Nat} (ho : o < 23 ∨ 33 < o) : rdI (stcp23 h) o k = rdI h o k := by
  unfold stcp23 secp33 zcp26
  rw [rdI_o (show o ≠ 33 by omega), rdI_o (show o ≠ 33 by omega), rdI_o (show o ≠ 33 by omega), rdI_o (show o ≠ 33 by omega), rdI_o (show o ≠ 33 by omega), rdI_o (show o ≠ 33 by omega), rdI_o (show o ≠ 33 by omega), rdI_o (show o ≠ 33 by omega), rdI_o (show o ≠ 33 by omega), rdI_fo (show o ≠ 32 by omega), rdI_fo (show o ≠ 31 by omega), rdI_fo (show o ≠ 30 by omega), rdI_fo (show o ≠ 29 by omega), rdI_fo (show o ≠ 28 by omega), rdI_fo (show o ≠ 27 by omega), rdI_o (show o ≠ 26 by omega), rdI_fo (show o ≠ 25 by omega), rdI_fo (show o ≠ 24 by omega), rdI_o (show o ≠ 23 by omega), rdI_o (show o ≠ 23 by omega)]
theorem stcp23_23 {g : hH} : rdI (stcp23 g) 23 1 = rdI g 57 1 ∧ rdI (stcp23 g) 23 3 = rdI g 57 3 ∧ rdI (stcp23 g) 26 6 = rdI g 60 6 := by
  unfold stcp23 secp33 zcp26
  refine ⟨?_, ?_, ?_⟩ <;> simp only [rdI_wrI, rdI_flI, rdI_wrP, Nat.reduceEqDiff, false_and, and_false, true_and, and_true, eq_self, reduceIte]
theorem stcp23_24 {g : hH} {i : Nat} (hi : i < (rdI g 57 1).toNatClampNeg) : rdI (stcp23 g) 24 i = rdI g 58 i := by
  unfold stcp23 secp33 zcp26
  simp only [rdI_wrI, rdI_flI, rdI_wrP, Nat.reduceEqDiff, false_and, and_false, true_and, and_true, eq_self, reduceIte, if_pos hi]
theorem stcp23_25 {g : hH} {i : Nat} (hi : i < (rdI g 57 3).toNatClampNeg) : rdI (stcp23 g) 25 i = rdI g 59 i := by
  unfold stcp23 secp33 zcp26
  simp only [rdI_wrI, rdI_flI, rdI_wrP, Nat.reduceEqDiff, false_and, and_false, true_and, and_true, eq_self, reduceIte, if_pos hi]
theorem stcp23_z {g : hH} {i : Nat} (hi : i < (rdI g 60 6).toNatClampNeg) : rdI (stcp23 g) 27 i = rdI g 61 i ∧ rdI (stcp23 g) 28 i = rdI g 62 i ∧ rdI (stcp23 g) 29 i = rdI g 63 i ∧ rdI (stcp23 g) 30 i = rdI g 64 i ∧ rdI (stcp23 g) 31 i = rdI g 65 i &&& 1 ∧ rdI (stcp23 g) 32 i = rdI g 66 i &&& 1 := by
  unfold stcp23 secp33 zcp26
  refine ⟨?_, ?_, ?_, ?_, ?_, ?_⟩ <;> simp only [rdI_wrI, rdI_flI, rdI_wrP, Nat.reduceEqDiff, false_and, and_false, true_and, and_true, eq_self, reduceIte, if_pos hi]
theorem stcp23_33 {g : hH} {j : Nat} (hj : j < 9) : rdI (stcp23 g) 33 j = rdI g 67 j := by
  unfold stcp23 secp33 zcp26
  rcases lt9 hj with rfl | rfl | rfl | rfl | rfl | rfl | rfl | rfl | rfl <;> simp only [rdI_wrI, rdI_flI, rdI_wrP, Nat.reduceEqDiff, false_and, and_false, true_and, and_true, eq_self, reduceIte]
theorem z34 : rf 34 0 = 35 ∧ rf 34 1 = 36 ∧ rf 34 2 = 37 ∧ rf 34 3 = 38 ∧ rf 34 4 = 39 ∧ rf 34 5 = 40 ∧ zr 34 = 102 := ⟨rfl, rfl, rfl, rfl, rfl, rfl, rfl⟩
def zc34 (h : hH) (n : Nat) : hH := flI (flI (flI (flI (flI (flI h 35 n (fun _ => 0)) 36 n (fun _ => 0)) 37 n (fun _ => 0)) 38 n (fun _ => 0)) 39 n (fun _ => 0)) 40 n (fun _ => 0)
theorem zc34_eq {h : hH} {n : Nat} : zclr 34 h n = zc34 h n := by
  obtain ⟨a0, a1, a2, a3, a4, a5, _⟩ := z34
  unfold zclr zc34
  rw [a0, a1, a2, a3, a4, a5]
theorem zc34_o {h : hH} {n o k : Nat} (ho : o < 35 ∨ 40 < o) : rdI (zc34 h n) o k = rdI h o k := by
  unfold zc34
  rw [rdI_fo (by omega), rdI_fo (by omega), rdI_fo (by omega), rdI_fo (by omega), rdI_fo (by omega), rdI_fo (by omega)]
theorem zc34_i {h : hH} {n k : Nat} (hk : k < n) : rdI (zc34 h n) 39 k = 0 ∧ rdI (zc34 h n) 40 k = 0 := by
  unfold zc34
  refine ⟨?_, ?_⟩
  · rw [rdI_fo (by omega), rdI_flI, if_pos ⟨rfl, hk⟩]
  · rw [rdI_flI, if_pos ⟨rfl, hk⟩]
/-- the number of points -/
def wn (d : Nat) (h : hH) : Int32 := rdI h (70 + 17 * d) 3
def wkA (d : Nat) (h : hH) : hH := zc34 (wrI (stcp23 h) 34 6 (wn d h + 2)) (wn d h + 2).toNatClampNeg
def wkB (d : Nat) (h A : hH) (k : Nat) : hH := mt4 A 35 36 37 38 0 k (fun i => rdI h (71 + 17 * d) i) (fun i => rdI h (72 + 17 * d) i) (fun i => rdI h (71 + 17 * d) i) (fun i => rdI h (72 + 17 * d) i)
noncomputable def wkC (d : Nat) (h A : hH) (k : Nat) : hH := mt4 A 35 36 37 38 (wn d h).toNatClampNeg k (fun i => rdI h (75 + 17 * d) i) (fun i => rdI h (76 + 17 * d) i) (fun i => snV (rdI h (75 + 17 * d) i)) (fun i => rdI h (76 + 17 * d) i)
noncomputable def wkD (d : Nat) (h : hH) : hH := wrP (wkC d h (wkB d h (wkA d h) (wn d h).toNatClampNeg) 2) 22 3 (70 + 17 * d)
theorem wkA_o {d o k : Nat} {h : hH} (ho : o < 23 ∨ 40 < o) : rdI (wkA d h) o k = rdI h o k := by
  unfold wkA
  rw [zc34_o (by omega), rdI_o (by omega), stcp23_o (by omega)]
theorem wkB_o {d o k n : Nat} {h A : hH} (ho : o < 35 ∨ 38 < o) : rdI (wkB d h A n) o k = rdI A o k := by
  unfold wkB
  rw [mt4_o (by omega) (by omega) (by omega) (by omega)]
theorem wkC_o {d o k n : Nat} {h A : hH} (ho : o < 35 ∨ 38 < o) : rdI (wkC d h A n) o k = rdI A o k := by
  unfold wkC
  rw [mt4_o (by omega) (by omega) (by omega) (by omega)]
noncomputable def wkL1 (x2 : Nat) (p1 : Int32 × hH) : Option (hH ⊕ ((Int32 × hH) ⊕ hH)) :=
  if (rdI p1.2 x2 3) ≤ p1.1 then (
    some (.inr (.inr p1.2))
  ) else (
    gd (vp_in p1.1 100) <|
    bS (f_Zo_place 34 p1.1 (rdI p1.2 (rf x2 0) (Int32.toNatClampNeg p1.1)) (rdI p1.2 (rf x2 1) (Int32.toNatClampNeg p1.1)) p1.2) fun _ h3 =>
    lz (A := Int32) (p1.1 + (1 : Int32)) fun v4 =>
    some (.inr (.inl (v4, h3)))
  )
noncomputable def wkL2 (x2 : Nat) (p6 : Int32 × hH) : Option (hH ⊕ ((Int32 × hH) ⊕ hH)) :=
  if (2 : Int32) ≤ p6.1 then (
    some (.inr (.inr p6.2))
  ) else (
    gd (vp_in p6.1 2) <|
    bS (f_Zo_place 34 ((rdI p6.2 x2 3) + p6.1) (rdI p6.2 (rf x2 6) (Int32.toNatClampNeg p6.1)) (rdI p6.2 (rf x2 7) (Int32.toNatClampNeg p6.1)) p6.2) fun _ h4 =>
    gd (vp_in p6.1 2) <|
    bP (f_HH_snapped (rdI h4 (rf x2 6) (Int32.toNatClampNeg p6.1))) fun a10 =>
    gd (vp_in ((rdI h4 x2 3) + p6.1) 102) <|
    lz (wrI h4 37 (Int32.toNatClampNeg ((rdI h4 x2 3) + p6.1)) a10) fun h5 =>
    lz (A := Int32) (p6.1 + (1 : Int32)) fun v12 =>
    some (.inr (.inl (v12, h5)))
  )
noncomputable def wkL3 (x2 : Nat) (p14 : Int32 × hH) : Option (hH ⊕ ((Int32 × hH) ⊕ hH)) :=
  if (rdI p14.2 x2 3) ≤ p14.1 then (
    some (.inr (.inr p14.2))
  ) else (
    gd (vp_in p14.1 102 ∧ vp_in p14.1 100) <|
    lz (wrI p14.2 (rf x2 0) (Int32.toNatClampNeg p14.1) (rdI p14.2 37 (Int32.toNatClampNeg p14.1))) fun h8 =>
    gd (vp_in p14.1 102 ∧ vp_in p14.1 100) <|
    lz (wrI h8 (rf x2 1) (Int32.toNatClampNeg p14.1) (rdI h8 38 (Int32.toNatClampNeg p14.1))) fun h9 =>
    lz (A := Int32) (p14.1 + (1 : Int32)) fun v18 =>
    some (.inr (.inl (v18, h9)))
  )
noncomputable def wkL4 (x2 : Nat) (p20 : Int32 × hH) : Option (hH ⊕ ((Int32 × hH) ⊕ hH)) :=
  if (2 : Int32) ≤ p20.1 then (
    some (.inr (.inr p20.2))
  ) else (
    gd (vp_in ((rdI p20.2 x2 3) + p20.1) 102 ∧ vp_in p20.1 2) <|
    lz (wrI p20.2 (rf x2 6) (Int32.toNatClampNeg p20.1) (rdI p20.2 37 (Int32.toNatClampNeg ((rdI p20.2 x2 3) + p20.1)))) fun h10 =>
    gd (vp_in ((rdI h10 x2 3) + p20.1) 102 ∧ vp_in p20.1 2) <|
    lz (wrI h10 (rf x2 7) (Int32.toNatClampNeg p20.1) (rdI h10 38 (Int32.toNatClampNeg ((rdI h10 x2 3) + p20.1)))) fun h11 =>
    lz (A := Int32) (p20.1 + (1 : Int32)) fun v24 =>
    some (.inr (.inl (v24, h11)))
  )
noncomputable def wkK (x2 : Nat) (h7 : hH) : Option (hH ⊕ (Unit × hH)) :=
  bJT (P := hH) (whT (wkL3 x2) ((0 : Int32), h7)) fun p15 =>
  bJT (P := hH) (whT (wkL4 x2) ((0 : Int32), p15)) fun p21 =>
  some (.inr ((), p21))
theorem Mk_work_eq0 {x1 x2 : Nat} {h : hH} : f_Mk_work x1 x2 h = bS (f_St_copy 23 57 h) fun _ h1 =>
  bS (f_Zo_clear 34 ((rdI h1 x2 3) + (2 : Int32)) h1) fun _ h2 =>
  bJT (P := hH) (whT (wkL1 x2) ((0 : Int32), h2)) fun p2 =>
  bJT (P := hH) (whT (wkL2 x2) ((0 : Int32), p2)) fun p7 =>
  lz (wrP p7 22 3 x2) fun h6 =>
  bT (f_Ma_run (2 : Int32) (rdI h6 x1 7) (rdI h6 x1 8) h6) fun _ h7 => wkK x2 h7 := rfl
theorem wk1_eq {d : Nat} {h A : hH} (hd : d < 6) (hn : 0 ≤ wn d h ∧ wn d h ≤ 100) (hA : ∀ o k, 40 < o → rdI A o k = rdI h o k) : whT (wkL1 (70 + 17 * d)) ((0 : Int32), A) = some (.inr (wkB d h A (wn d h).toNatClampNeg)) := by
  obtain ⟨_, ⟨r0, r1, _, _, _, _⟩, _, _, _, _⟩ := od_rf hd
  obtain ⟨a0, a1, a2, a3, a4, a5, a6⟩ := z34
  refine whT_fill (n := wn d h) ⟨hn.1, by grind⟩ (wkB d h A) mt4_0 ?_ ?_
  · unfold wkL1
    dsimp only
    rw [wkB_o (by omega), hA _ _ (by omega)]
    exact if_pos (Int32.le_refl _)
  · intro i q0 q1
    have v : vp_in i 100 := vp_lt (n := 100) (m := 100) q0 (by grind) rfl
    have v2 : vp_in i (zr 34) := by rw [a6]; exact vp_lt (n := 102) (m := 102) q0 (by grind) rfl
    unfold wkL1
    dsimp only
    generalize hS : wkB d h A i.toNatClampNeg = S
    have So : ∀ o k, 40 < o → rdI S o k = rdI h o k := fun o k ho => by rw [← hS, wkB_o (by omega)]; exact hA o k ho
    have e3 : rdI S (70 + 17 * d) 3 = wn d h := So _ _ (by omega)
    rw [e3, if_neg (Int32.not_le.mpr q1), gd_pos v, r0, r1, So (71 + 17 * d) _ (by omega), So (72 + 17 * d) _ (by omega), f_Zo_place_eq v2, bS_some, lz_eq, ← hS]
    refine congrArg (fun H : hH => (some (.inr (.inl (i + 1, H))) : Option (hH ⊕ ((Int32 × hH) ⊕ hH)))) ?_
    unfold putC wkB
    rw [a0, a1, a2, a3]
    exact mt4_s rfl rfl rfl rfl (by omega) (by decide) (by decide) (by decide) (by decide) (by decide) (by decide)
theorem lt2 {i : Int32} (q0 : 0 ≤ i) (q1 : i < 2) : i = 0 ∨ i = 1 := by grind
theorem wk2_eq {d : Nat} {h A : hH} (hd : d < 6) (hn : 0 ≤ wn d h ∧ wn d h ≤ 100) (hA : ∀ o k, 40 < o → rdI A o k = rdI h o k) : whT (wkL2 (70 + 17 * d)) ((0 : Int32), A) = some (.inr (wkC d h A 2)) := by
  obtain ⟨_, ⟨_, _, _, _, r6, r7⟩, _, _, _, _⟩ := od_rf hd
  obtain ⟨a0, a1, a2, a3, a4, a5, a6⟩ := z34
  refine whT_fill (n := 2) (by decide) (wkC d h A) mt4_0 ?_ ?_
  · unfold wkL2
    dsimp only
    exact if_pos (Int32.le_refl _)
  · intro i q0 q1
    have v : vp_in i 2 := vp_lt (n := 2) (m := 2) q0 q1 rfl
    have vn : vp_in (wn d h + i) 102 := vp_lt (n := 102) (m := 102) (by grind) (by grind) rfl
    have vn' : vp_in (wn d h + i) (zr 34) := by rw [a6]; exact vn
    have ei : (wn d h + i).toNatClampNeg = (wn d h).toNatClampNeg + i.toNatClampNeg := xI_add (m := 1000) hn.1 (by grind) q0 (by grind) (by decide)
    unfold wkL2
    dsimp only
    generalize hS : wkC d h A i.toNatClampNeg = S
    have So : ∀ o k, 40 < o → rdI S o k = rdI h o k := fun o k ho => by rw [← hS, wkC_o (by omega)]; exact hA o k ho
    have e3 : rdI S (70 + 17 * d) 3 = wn d h := So _ _ (by omega)
    rw [e3, if_neg (Int32.not_le.mpr q1), gd_pos v, r6, r7, So (75 + 17 * d) _ (by omega), So (76 + 17 * d) _ (by omega), f_Zo_place_eq vn', bS_some, gd_pos v]
    generalize hT : putC 34 (wn d h + i) (rdI h (75 + 17 * d) i.toNatClampNeg) (rdI h (76 + 17 * d) i.toNatClampNeg) S = T
    have To : ∀ o k, 40 < o → rdI T o k = rdI h o k := fun o k ho => by
      rw [← hT]
      unfold putC
      rw [a0, a1, a2, a3, rdI_o (by omega), rdI_o (by omega), rdI_o (by omega), rdI_o (by omega)]
      exact So o k ho
    have t3 : rdI T (70 + 17 * d) 3 = wn d h := To _ _ (by omega)
    rw [To (75 + 17 * d) _ (by omega), sn_C, bP_some, t3, gd_pos vn, lz_eq, lz_eq, ← hT, ← hS]
    refine congrArg (fun H : hH => (some (.inr (.inl (i + 1, H))) : Option (hH ⊕ ((Int32 × hH) ⊕ hH)))) ?_
    unfold putC wkC
    rw [a0, a1, a2, a3, ei, wrI_comm (o := 38) (o' := 37) (by omega), wrI_wrI]
    exact mt4_s rfl rfl rfl rfl rfl (by decide) (by decide) (by decide) (by decide) (by decide) (by decide)
/-- behind the program -/
def wkE (d : Nat) (g : hH) : hH := mt2 g (71 + 17 * d) (72 + 17 * d) 0 (wn d g).toNatClampNeg (fun i => rdI g 37 i) (fun i => rdI g 38 i)
def wkF (d : Nat) (g : hH) : hH := mt2 (wkE d g) (75 + 17 * d) (76 + 17 * d) 0 2 (fun i => rdI g 37 ((wn d g).toNatClampNeg + i)) (fun i => rdI g 38 ((wn d g).toNatClampNeg + i))
theorem wkK_eq {d : Nat} {g : hH} (hd : d < 6) (hn : 0 ≤ wn d g ∧ wn d g ≤ 100) : wkK (70 + 17 * d) g = some (.inr ((), wkF d g)) := by
  obtain ⟨_, ⟨r0, r1, _, _, r6, r7⟩, _, _, _, _⟩ := od_rf hd
  have w3 : whT (wkL3 (70 + 17 * d)) ((0 : Int32), g) = some (.inr (wkE d g)) := by
    refine whT_fill (n := wn d g) ⟨hn.1, by grind⟩ (fun k => mt2 g (71 + 17 * d) (72 + 17 * d) 0 k (fun i => rdI g 37 i) (fun i => rdI g 38 i)) mt2_0 ?_ ?_
    · unfold wkL3
      dsimp only
      rw [mt2_o (by omega) (by omega)]
      exact if_pos (Int32.le_refl _)
    · intro i q0 q1
      have v : vp_in i 102 ∧ vp_in i 100 := ⟨vp_lt (n := 102) (m := 102) q0 (by grind) rfl, vp_lt (n := 100) (m := 100) q0 (by grind) rfl⟩
      unfold wkL3
      dsimp only
      generalize hS : mt2 g (71 + 17 * d) (72 + 17 * d) 0 i.toNatClampNeg (fun i => rdI g 37 i) (fun i => rdI g 38 i) = S
      have So : ∀ o k, o ≠ 71 + 17 * d → o ≠ 72 + 17 * d → rdI S o k = rdI g o k := fun o k a b => by rw [← hS]; exact mt2_o a b
      have e3 : rdI S (70 + 17 * d) 3 = wn d g := So _ _ (by omega) (by omega)
      rw [e3, if_neg (Int32.not_le.mpr q1), gd_pos v, r0, r1, So 37 _ (by omega) (by omega), lz_eq, gd_pos v, rdI_o (by omega), So 38 _ (by omega) (by omega), lz_eq, lz_eq, ← hS]
      refine congrArg (fun H : hH => (some (.inr (.inl (i + 1, H))) : Option (hH ⊕ ((Int32 × hH) ⊕ hH)))) ?_
      exact mt2_s rfl rfl (by omega) (by omega)
  have Eo : ∀ o k, o ≠ 71 + 17 * d → o ≠ 72 + 17 * d → rdI (wkE d g) o k = rdI g o k := fun o k a b => by unfold wkE; exact mt2_o a b
  have w4 : whT (wkL4 (70 + 17 * d)) ((0 : Int32), wkE d g) = some (.inr (wkF d g)) := by
    refine whT_fill (n := 2) (by decide) (fun k => mt2 (wkE d g) (75 + 17 * d) (76 + 17 * d) 0 k (fun i => rdI g 37 ((wn d g).toNatClampNeg + i)) (fun i => rdI g 38 ((wn d g).toNatClampNeg + i))) mt2_0 ?_ ?_
    · unfold wkL4
      dsimp only
      exact if_pos (Int32.le_refl _)
    · intro i q0 q1
      have v : vp_in (wn d g + i) 102 ∧ vp_in i 2 := ⟨vp_lt (n := 102) (m := 102) (by grind) (by grind) rfl, vp_lt (n := 2) (m := 2) q0 q1 rfl⟩
      have ei : (wn d g + i).toNatClampNeg = (wn d g).toNatClampNeg + i.toNatClampNeg := xI_add (m := 1000) hn.1 (by grind) q0 (by grind) (by decide)
      unfold wkL4
      dsimp only
      generalize hS : mt2 (wkE d g) (75 + 17 * d) (76 + 17 * d) 0 i.toNatClampNeg (fun i => rdI g 37 ((wn d g).toNatClampNeg + i)) (fun i => rdI g 38 ((wn d g).toNatClampNeg + i)) = S
      have So : ∀ o k, o < 71 → rdI S o k = rdI g o k := fun o k a => by rw [← hS, mt2_o (by omega) (by omega)]; exact Eo o k (by omega) (by omega)
      have e3 : rdI S (70 + 17 * d) 3 = wn d g := by rw [← hS, mt2_o (by omega) (by omega)]; exact Eo _ _ (by omega) (by omega)
      rw [e3, if_neg (Int32.not_le.mpr q1), gd_pos v, r6, r7, So 37 _ (by omega), lz_eq, rdI_o (by omega), e3, gd_pos v, rdI_o (by omega), So 38 _ (by omega), lz_eq, lz_eq, ei, ← hS]
      refine congrArg (fun H : hH => (some (.inr (.inl (i + 1, H))) : Option (hH ⊕ ((Int32 × hH) ⊕ hH)))) ?_
      exact mt2_s rfl rfl (by omega) (by omega)
  unfold wkK
  rw [w3]
  show bJT (whT (wkL4 (70 + 17 * d)) ((0 : Int32), wkE d g)) _ = _
  rw [w4]
  rfl
theorem Mk_work_eq {d : Nat} {h : hH} (hd : d < 6) (hn : 0 ≤ wn d h ∧ wn d h ≤ 100) (hN : 0 ≤ rdI h 57 1 ∧ rdI h 57 1 ≤ 256) (hM : 0 ≤ rdI h 57 3 ∧ rdI h 57 3 ≤ 64) (hT : 0 ≤ rdI h 60 6 ∧ rdI h 60 6 ≤ 64) (hf : rdI h 67 4 = 0 ∨ rdI h 67 4 = 1) : f_Mk_work (77 + 17 * d) (70 + 17 * d) h = bT (f_Ma_run 2 (rdI h (77 + 17 * d) 7) (rdI h (77 + 17 * d) 8) (wkD d h)) fun _ h7 => wkK (70 + 17 * d) h7 := by
  have e3 : rdI (stcp23 h) (70 + 17 * d) 3 = wn d h := stcp23_o (by omega)
  have hA : ∀ o k, 40 < o → rdI (wkA d h) o k = rdI h o k := fun o k ho => wkA_o (by omega)
  have hB : ∀ o k, 40 < o → rdI (wkB d h (wkA d h) (wn d h).toNatClampNeg) o k = rdI h o k := fun o k ho => by rw [wkB_o (by omega)]; exact hA o k ho
  have eC : f_Zo_clear 34 (wn d h + 2) (stcp23 h) = some ((), wkA d h) := by
    rw [Zo_clear_eq (v := 1) (Or.inr ⟨rfl, rfl⟩) (by grind) (fun i q0 q1 => by rw [z34.2.2.2.2.2.2]; exact vp_lt (n := 102) (m := 102) q0 (by grind) rfl) (by grind), zc34_eq]
    rfl
  rw [Mk_work_eq0, St_copy23 hN hM hT hf, bS_some, e3, eC, bS_some, wk1_eq hd hn hA, bJT_inr, wk2_eq hd hn hB, bJT_inr, lz_eq]
  have D : ∀ o k, 40 < o → rdI (wrP (wkC d h (wkB d h (wkA d h) (wn d h).toNatClampNeg) 2) 22 3 (70 + 17 * d)) o k = rdI h o k := fun o k ho => by rw [rdI_wrP, wkC_o (by omega)]; exact hB o k ho
  rw [D _ _ (by omega), D _ _ (by omega)]
  rfl
