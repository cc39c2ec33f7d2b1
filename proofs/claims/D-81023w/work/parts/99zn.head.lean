/-! LAYER 3BV: head and maxp, on both sides -/
/-- only these fields of the font were written -/
def FC4 (ks : List Nat) (c g : hH) : Prop := (∀ o k, ¬ (o = 4 ∧ k ∈ ks) → rdI g o k = rdI c o k) ∧ (∀ o k, rdL g o k = rdL c o k) ∧ (∀ o k, rdP g o k = rdP c o k)
def FM4 (ks : List Nat) (m g : hH) : Prop := (∀ o k, ¬ (o = 192 ∧ k ∈ ks) → rdI g o k = rdI m o k) ∧ (∀ o k, rdL g o k = rdL m o k) ∧ (∀ o k, rdP g o k = rdP m o k)
theorem FC4_rfl {ks : List Nat} {c : hH} : FC4 ks c c := ⟨fun _ _ _ => rfl, fun _ _ => rfl, fun _ _ => rfl⟩
theorem FM4_rfl {ks : List Nat} {m : hH} : FM4 ks m m := ⟨fun _ _ _ => rfl, fun _ _ => rfl, fun _ _ => rfl⟩
theorem FC4_w {ks : List Nat} {c g : hH} {k : Nat} {v : Int32} (f : FC4 ks c g) (hk : k ∈ ks) : FC4 ks c (wrI g 4 k v) := ⟨fun o' k' w => by rw [rdI_wrI, if_neg (by rintro ⟨h1, h2⟩; exact w ⟨h1, by rw [h2]; exact hk⟩)]; exact f.1 o' k' w, f.2.1, f.2.2⟩
theorem FM4_w {ks : List Nat} {m g : hH} {k : Nat} {v : Int32} (f : FM4 ks m g) (hk : k ∈ ks) : FM4 ks m (wrI g 192 k v) := ⟨fun o' k' w => by rw [rdI_wrI, if_neg (by rintro ⟨h1, h2⟩; exact w ⟨h1, by rw [h2]; exact hk⟩)]; exact f.1 o' k' w, f.2.1, f.2.2⟩
theorem CB_4 {B : Nat → Int32} {s : Int32} {ks : List Nat} {c g : hH} (f : FC4 ks c g) (cb : CB B s c) : CB B s g := CB_e cb (f.1 5 1 (by omega)) (fun k => f.1 6 k (by omega))
theorem MB_4 {B : Nat → Int32} {s : Int32} {ks : List Nat} {m g : hH} (f : FM4 ks m g) (h3 : 3 ∉ ks) (mb : MB B s m) : MB B s g := MB_e mb (f.1 192 3 (fun w => h3 w.2)) (fun k => f.1 194 k (by omega))
theorem DR_4 {B : Nat → Int32} {s n : Int32} {ks ls : List Nat} {c g m p : hH} (f : FC4 ks c g) (h1 : 1 ∉ ks) (f' : FM4 ls m p) (h5 : 5 ∉ ls) (d : DR B s n c m) : DR B s n g p := by
  obtain ⟨⟨d1, d2⟩, d3, dc, dm⟩ := d
  refine ⟨⟨(f.1 4 1 (fun w => h1 w.2)).trans d1, (f'.1 192 5 (fun w => h5 w.2)).trans d2⟩, d3, fun i hi => ?_, fun i hi => ?_⟩
  · rw [f.2.1, f.2.1, f.2.1, f.2.1]
    exact dc i hi
  · rw [f'.1 195 i (by omega), f'.2.1, f'.2.1, f'.2.1]
    exact dm i hi
theorem s16_int {u : Int32} (h : 0 ≤ u ∧ u ≤ 65535) : (Int16.toInt32 (Int32.toInt16 u)).toInt = u.toInt.bmod 65536 := by
  rw [Int16.toInt_toInt32, Int32.toInt_toInt16]
theorem s16_small {u : Int32} (h : 0 ≤ u ∧ u ≤ 65535) : ((0 ≤ Int16.toInt32 (Int32.toInt16 u) ∧ Int16.toInt32 (Int32.toInt16 u) ≤ 1) ↔ u ≤ 1) ∧ (u ≤ 1 → Int16.toInt32 (Int32.toInt16 u) = u) ∧ (Int16.toInt32 (Int32.toInt16 u) = 0 ↔ u = 0) := by
  have e := s16_int h
  have z0 : (0 : Int32).toInt = 0 := rfl
  have z1 : (1 : Int32).toInt = 1 := rfl
  have z6 : (65535 : Int32).toInt = 65535 := rfl
  have a := Int32.le_iff_toInt_le.mp h.1
  have b := Int32.le_iff_toInt_le.mp h.2
  rw [z0] at a
  rw [z6] at b
  have bm : u.toInt.bmod 65536 = if u.toInt < 32768 then u.toInt else u.toInt - 65536 := by
    rw [Int.bmod_def]
    have : u.toInt % ((65536 : Nat) : Int) = u.toInt := Int.emod_eq_of_lt a (by omega)
    rw [this]
    by_cases q : u.toInt < 32768
    · rw [if_pos q, if_pos (by omega)]
    · rw [if_neg q, if_neg (by omega)]
      omega
  rw [bm] at e
  refine ⟨⟨fun w => ?_, fun w => ⟨?_, ?_⟩⟩, fun w => ?_, ⟨fun w => ?_, fun w => ?_⟩⟩
  · have w1 := Int32.le_iff_toInt_le.mp w.1
    have w2 := Int32.le_iff_toInt_le.mp w.2
    rw [z0, e] at w1
    rw [z1, e] at w2
    rw [Int32.le_iff_toInt_le, z1]
    split at w1 <;> omega
  · have w1 := Int32.le_iff_toInt_le.mp w
    rw [z1] at w1
    rw [Int32.le_iff_toInt_le, z0, e, if_pos (by omega)]
    exact a
  · have w1 := Int32.le_iff_toInt_le.mp w
    rw [z1] at w1
    rw [Int32.le_iff_toInt_le, z1, e, if_pos (by omega)]
    exact w1
  · have w1 := Int32.le_iff_toInt_le.mp w
    rw [z1] at w1
    apply Int32.toInt_inj.mp
    rw [e, if_pos (by omega)]
  · apply Int32.toInt_inj.mp
    rw [w, z0] at e
    rw [z0]
    split at e <;> omega
  · apply Int32.toInt_inj.mp
    rw [e, w, z0]
    decide
theorem mTs {B : Nat → Int32} {s p : Int32} {m : hH} (mb : MB B s m) (s1 : s ≤ 12000) : ∃ v, f_Mo_s2 p m = some v := by
  obtain ⟨a, ea⟩ := mT2 (p := p) mb s1
  unfold f_Mo_s2
  rw [ea]
  exact ⟨_, rfl⟩
theorem xI_bk {b k : Int32} {K : Nat} (b0 : 0 ≤ b) (b1 : b ≤ 12000) (k0 : 0 ≤ k) (k1 : k ≤ 1000) (hk : k.toNatClampNeg = K) : (b + k).toNatClampNeg = b.toNatClampNeg + K := by
  rw [← hk]
  exact xI_add (m := 20000) b0 (by grind) k0 (by grind) (by decide)
theorem L_head {B : Nat → Int32} {s n b l i : Int32} {c m : hH} (cb : CB B s c) (mb : MB B s m) (s0 : 0 ≤ s) (s1 : s ≤ 12000) (d : DR B s n c m) (tb : TB s c m 1751474532 b l i) : ∃ a c' m', f_Fo_isHead c = some (a, c') ∧ f_Mo_head m = some (a, m') ∧ FC4 [6, 7] c c' ∧ FM4 [10, 11] m m' ∧ (a = 0 ∨ (a = 1 ∧ (rdI m' 192 10 = rdI c' 4 6 ∧ 16 ≤ rdI c' 4 6 ∧ rdI c' 4 6 ≤ 16384) ∧ rdI m' 192 11 = rdI c' 4 7 ∧ (rdI c' 4 7 = 0 ∨ rdI c' 4 7 = 1))) := by
  obtain ⟨_, ⟨t1, t2, t3, t4⟩, ⟨b0, b1⟩, ⟨l0, l1⟩, bl, _, _⟩ := tb
  have n10 : ¬ (1 : Int32) = 0 := by decide
  have t1' : f_Fo_beginOf 1751474532 c = some b := t1
  have t2' : f_Fo_lengthOf 1751474532 c = some l := t2
  unfold f_Fo_isHead f_Mo_head
  obtain ⟨w18, e18⟩ := mT2 (p := b + 18) mb s1
  have mb1 : MB B s (wrI m 192 10 w18) := MB_w mb (by omega) (by decide)
  obtain ⟨w50, e50⟩ := mTs (p := b + 50) mb1 s1
  have mb2 : MB B s (wrI (wrI m 192 10 w18) 192 11 w50) := MB_w mb1 (by omega) (by decide)
  have fm2 : FM4 [10, 11] m (wrI (wrI m 192 10 w18) 192 11 w50) := FM4_w (FM4_w FM4_rfl (by decide)) (by decide)
  have lenM : f_Mo_lengthOf 1751474532 (wrI (wrI m 192 10 w18) 192 11 w50) = some l := by
    rw [lengthOf_loc (fm2.1 192 5 (by decide)) (fun k => fm2.1 195 k (by omega)) (fun k => fm2.2.1 198 k)]
    exact t4
  rw [t1', t2', bP_some, bP_some, t3, bP_some, e18, bP_some, lz_eq, e50, bP_some, lz_eq, lenM, bP_some]
  by_cases qn : ¬ (l = 54)
  · rw [if_neg qn, if_neg qn, bP_some, if_pos rfl]
    exact ⟨_, _, _, rfl, rfl, FC4_rfl, fm2, Or.inl rfl⟩
  have q : l = 54 := Decidable.not_not.mp qn
  have bs : b + 54 ≤ s := by rw [q] at bl; exact bl
  rw [if_pos q, if_pos q]
  have r10 : rdI (wrI (wrI m 192 10 w18) 192 11 w50) 192 10 = w18 := by simp only [rdI_wrI, rdP_wrI, rdL_wrI, Nat.reduceEqDiff, false_and, and_false, true_and, and_true, eq_self, reduceIte, ite_self]
  have r11 : rdI (wrI (wrI m 192 10 w18) 192 11 w50) 192 11 = w50 := by simp only [rdI_wrI, rdP_wrI, rdL_wrI, Nat.reduceEqDiff, false_and, and_false, true_and, and_true, eq_self, reduceIte, ite_self]
  have v18 : w18 = u2B B (b + 18).toNatClampNeg := by
    have := mU2 (p := b + 18) mb s0 s1 (by grind) (by grind)
    rw [e18] at this
    exact Option.some.inj this
  have v50 : w50 = s2B B (b + 50).toNatClampNeg := by
    have := mS2 (p := b + 50) mb1 s0 s1 (by grind) (by grind)
    rw [e50] at this
    exact Option.some.inj this
  generalize hM : wrI (wrI m 192 10 w18) 192 11 w50 = M at mb2 fm2 lenM r10 r11
  rw [cU4 (p := b) cb s0 s1 b0 (by grind), cU4 (p := b + 12) cb s0 s1 (by grind) (by grind), mU4 (p := b) mb2 s0 s1 b0 (by grind), mU4 (p := b + 12) mb2 s0 s1 (by grind) (by grind), cU2 (p := b + 18) cb s0 s1 (by grind) (by grind), r10, r11]
  simp only [bP_some]
  by_cases q1n : ¬ (u4B B b.toNatClampNeg = 65536)
  · rw [if_neg q1n, if_neg q1n]
    exact ⟨_, _, _, rfl, rfl, FC4_rfl, fm2, Or.inl rfl⟩
  have q1 : u4B B b.toNatClampNeg = 65536 := Decidable.not_not.mp q1n
  rw [if_pos q1, if_pos q1]
  by_cases q2n : ¬ (u4B B (b + 12).toNatClampNeg = 1594834165)
  · rw [if_neg q2n, if_neg q2n]
    exact ⟨_, _, _, rfl, rfl, FC4_rfl, fm2, Or.inl rfl⟩
  have q2 : u4B B (b + 12).toNatClampNeg = 1594834165 := Decidable.not_not.mp q2n
  rw [if_pos q2, if_pos q2, lz_eq, ← v18]
  have cb1 : CB B s (wrI c 4 6 w18) := CB_w cb (by omega) (by decide)
  rw [cU2 (p := b + 50) cb1 s0 s1 (by grind) (by grind), bP_some, lz_eq]
  generalize hu : u2B B (b + 50).toNatClampNeg = u
  have ur : 0 ≤ u ∧ u ≤ 65535 := by rw [← hu]; exact u2B_r B _
  have cb2 : CB B s (wrI (wrI c 4 6 w18) 4 7 u) := CB_w cb1 (by omega) (by decide)
  have fc2 : FC4 [6, 7] c (wrI (wrI c 4 6 w18) 4 7 u) := FC4_w (FC4_w FC4_rfl (by decide)) (by decide)
  have c46 : rdI (wrI (wrI c 4 6 w18) 4 7 u) 4 6 = w18 := by simp only [rdI_wrI, rdP_wrI, rdL_wrI, Nat.reduceEqDiff, false_and, and_false, true_and, and_true, eq_self, reduceIte, ite_self]
  have c47 : rdI (wrI (wrI c 4 6 w18) 4 7 u) 4 7 = u := by simp only [rdI_wrI, rdP_wrI, rdL_wrI, Nat.reduceEqDiff, false_and, and_false, true_and, and_true, eq_self, reduceIte, ite_self]
  generalize hC : wrI (wrI c 4 6 w18) 4 7 u = C at cb2 fc2 c46 c47
  have w16 : f_HH_within w18.toInt64 16 16384 = some (if 16 ≤ w18 ∧ w18 ≤ 16384 then 1 else 0) := wi_lit (a := 16) (b := 16384)
  have w01 : f_Mo_in w50.toInt64 0 1 = some (if 0 ≤ w50 ∧ w50 ≤ 1 then 1 else 0) := in_lit (a := 0) (b := 1)
  obtain ⟨S, e1, e2⟩ := C_sum (b := 0) (l := s) (x3 := b + 8) cb2 s1 (by decide) (by decide) s0 s1 (by grind) (by grind)
  have e3 := M_sum (b := 0) (l := s) (x3 := b + 8) (y3 := b + 8) mb2 s1 (by decide) (by decide) s0 s1 (by grind) (fun p h1 h2 => ⟨fun w => ⟨by grind, w.2⟩, fun w => ⟨by grind, w.2⟩⟩)
  rw [show (0 : Int32) + s = s by grind] at e3
  rw [cb2.1, e1, cU4 (p := b + 8) cb2 s0 s1 (by grind) (by grind), c46, c47, w16, cU2 (p := b + 52) cb2 s0 s1 (by grind) (by grind), ← wi_in, w16, w01, mS2 (p := b + 52) mb2 s0 s1 (by grind) (by grind), mb2.1, e3, mU4 (p := b + 8) mb2 s0 s1 (by grind) (by grind)]
  simp only [bP_some, lz]
  have sm := s16_small ur
  have w50e : w50 = Int16.toInt32 (Int32.toInt16 u) := by rw [v50, ← hu]; rfl
  have sm2 := s16_small (u2B_r B (b + 52).toNatClampNeg)
  by_cases q3n : ¬ (16 ≤ w18 ∧ w18 ≤ 16384)
  · simp only [if_neg q3n, reduceIte]
    exact ⟨_, _, _, rfl, rfl, fc2, fm2, Or.inl rfl⟩
  have q3 : 16 ≤ w18 ∧ w18 ≤ 16384 := Decidable.not_not.mp q3n
  by_cases q4n : ¬ (u ≤ 1)
  · have q4n' : 1 < u := Int32.not_le.mp q4n
    have q5 : ¬ (0 ≤ w50 ∧ w50 ≤ 1) := fun w => q4n (sm.1.mp (by rw [← w50e]; exact w))
    simp only [if_pos q3, if_pos q4n', if_neg q5, if_neg n10, reduceIte]
    exact ⟨_, _, _, rfl, rfl, fc2, fm2, Or.inl rfl⟩
  have q4 : u ≤ 1 := Decidable.not_not.mp q4n
  have q4' : ¬ 1 < u := Int32.not_lt.mpr q4
  have q5 : 0 ≤ w50 ∧ w50 ≤ 1 := by rw [w50e]; exact sm.1.mpr q4
  have eu : w50 = u := by rw [w50e]; exact sm.2.1 q4
  simp only [if_pos q3, if_neg q4', if_pos q5, if_neg n10]
  by_cases q6n : ¬ (u2B B (b + 52).toNatClampNeg = 0)
  · have q7 : ¬ s2B B (b + 52).toNatClampNeg = 0 := fun w => q6n (sm2.2.2.mp w)
    simp only [if_neg q6n, if_neg q7, reduceIte]
    exact ⟨_, _, _, rfl, rfl, fc2, fm2, Or.inl rfl⟩
  have q6 : u2B B (b + 52).toNatClampNeg = 0 := Decidable.not_not.mp q6n
  have q7 : s2B B (b + 52).toNatClampNeg = 0 := sm2.2.2.mpr q6
  simp only [if_pos q6, if_pos q7, if_neg n10]
  have mi := mk_iff (x := (S &&& 4294967295) + u4B B (b + 8).toNatClampNeg) (v := 2981146554) (by decide) (by decide)
  have ev : (2981146554 : Int64).toInt32 = -1313820742 := by decide
  rw [Int64.toInt32_add, mkt64, e2, ev] at mi
  by_cases q8 : (S &&& 4294967295) + u4B B (b + 8).toNatClampNeg &&& 4294967295 = 2981146554
  · rw [if_pos q8, if_pos (mi.mp q8)]
    refine ⟨_, _, _, rfl, rfl, fc2, fm2, Or.inr ⟨rfl, ?_, ?_, ?_⟩⟩
    · rw [r10, c46]; exact ⟨rfl, q3⟩
    · rw [r11, c47]; exact eu
    · rw [c47]
      have := ur.1
      grind
  · rw [if_neg q8, if_neg (fun w => q8 (mi.mpr w))]
    exact ⟨_, _, _, rfl, rfl, fc2, fm2, Or.inl rfl⟩
