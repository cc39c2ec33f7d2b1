/-! LAYER 3AH: a glyph that is read -/
theorem Mo_u1_fr {h g : hH} (f : FrN h g) (p : Int32) : f_Mo_u1 p g = f_Mo_u1 p h := by
  unfold f_Mo_u1
  rw [f.1 192 3 (by omega) (by omega), f.1 194 _ (by omega) (by omega)]
theorem Mo_u2_fr {h g : hH} (f : FrN h g) (p : Int32) : f_Mo_u2 p g = f_Mo_u2 p h := by
  unfold f_Mo_u2
  rw [Mo_u1_fr f, Mo_u1_fr f]
theorem Mo_u4_fr {h g : hH} (f : FrN h g) (p : Int32) : f_Mo_u4 p g = f_Mo_u4 p h := by
  unfold f_Mo_u4
  rw [Mo_u2_fr f, Mo_u2_fr f]
theorem Mo_s2_fr {h g : hH} (f : FrN h g) (p : Int32) : f_Mo_s2 p g = f_Mo_s2 p h := by
  unfold f_Mo_s2
  rw [Mo_u2_fr f]
theorem beginOf_fr {h g : hH} (f : FrN h g) (t : Int32) : f_Mo_beginOf t g = f_Mo_beginOf t h := beginOf_loc (f.1 192 5 (by omega) (by omega)) (fun k => f.1 195 k (by omega) (by omega)) (fun k => f.2.2 197 k)
theorem loca_fr {h g : hH} (f : FrN h g) (i : Int32) : f_Mo_loca i g = f_Mo_loca i h := by
  unfold f_Mo_loca
  rw [beginOf_fr f, f.1 192 11 (by omega) (by omega)]
  simp only [Mo_u2_fr f, Mo_u4_fr f]
theorem Mo_u1_tot {hc hm : hH} (hb : BY hc hm) (p : Int32) : ∃ c, f_Mo_u1 p hm = some c := by
  unfold f_Mo_u1
  by_cases q : p < 0
  · exact ⟨0, by rw [if_pos q]⟩
  · rw [if_neg q]
    by_cases w : rdI hm 192 3 ≤ p
    · exact ⟨0, by rw [if_pos w]⟩
    · rw [if_neg w]
      have h1 := hb.1
      have h2 := hb.2.2.1
      have v : vp_in p 12000 := vp_lt (n := 12000) (m := 12000) (Int32.not_lt.mp q) (by grind) rfl
      exact ⟨_, by rw [gd_pos v]⟩
theorem Mo_s2_tot {hc hm : hH} (hb : BY hc hm) (p : Int32) : ∃ c, f_Mo_s2 p hm = some c := by
  obtain ⟨a, ea⟩ := Mo_u1_tot hb p
  obtain ⟨b, eb⟩ := Mo_u1_tot hb (p + 1)
  unfold f_Mo_s2 f_Mo_u2
  rw [ea, eb]
  exact ⟨_, rfl⟩
def btM (h : hH) (a b c : Int32) : hH := wrI (wrI (wrI (wrI (wrI (wrI (wrI h 192 26 a) 192 27 b) 192 28 c) 192 29 0) 192 30 0) 192 31 b) 192 32 0
theorem btM_fr {h : hH} {a b c : Int32} : FrN h (btM h a b c) := FrN_w (FrN_w (FrN_w (FrN_w (FrN_w (FrN_w (FrN_w FrN_rfl (by omega)) (by omega)) (by omega)) (by omega)) (by omega)) (by omega)) (by omega)
/-- where the bytes of a glyph lie, on the model's side -/
def GB (hm : hH) (g a b : Int32) : Prop := ∃ B a' b', f_Mo_beginOf 1735162214 hm = some B ∧ f_Mo_loca g hm = some a' ∧ f_Mo_loca (g + 1) hm = some b' ∧ B + Int64.toInt32 a' = a ∧ B + Int64.toInt32 b' = b
theorem GB_fr {h g : hH} {i a b : Int32} (f : FrN h g) (k : GB h i a b) : GB g i a b := by
  obtain ⟨B, a', b', k1, k2, k3, k4, k5⟩ := k
  exact ⟨B, a', b', by rw [beginOf_fr f]; exact k1, by rw [loca_fr f]; exact k2, by rw [loca_fr f]; exact k3, k4, k5⟩
theorem Mo_bytes_eq {hc hm : hH} {g a b : Int32} (hb : BY hc hm) (k : GB hm g a b) : ∃ c, f_Mo_bytesOf g hm = some ((), btM hm a b c) ∧ (a = b → c = 0) ∧ (a ≠ b → 0 ≤ a → a + 1 < rdI hc 5 1 → a < rdI hc 5 1 → c = s2N hc a.toNatClampNeg) := by
  obtain ⟨B, a', b', k1, k2, k3, k4, k5⟩ := k
  unfold f_Mo_bytesOf
  have f1 : FrN hm (wrI hm 192 26 a) := FrN_w FrN_rfl (by omega)
  rw [k1, bP_some, k2, bP_some, k4, lz_eq, beginOf_fr f1, k1, bP_some, loca_fr f1, k3, bP_some, k5, lz_eq]
  have r26 : rdI (wrI (wrI hm 192 26 a) 192 27 b) 192 26 = a := by simp only [rdI_wrI, rdP_wrI, rdL_wrI, Nat.reduceEqDiff, false_and, and_false, true_and, and_true, eq_self, reduceIte, ite_self]
  have r27 : rdI (wrI (wrI hm 192 26 a) 192 27 b) 192 27 = b := by simp only [rdI_wrI, rdP_wrI, rdL_wrI, Nat.reduceEqDiff, false_and, and_false, true_and, and_true, eq_self, reduceIte, ite_self]
  have f2 : FrN hm (wrI (wrI hm 192 26 a) 192 27 b) := FrN_w f1 (by omega)
  rw [r26, r27, Mo_s2_fr f2]
  obtain ⟨c, ec⟩ := Mo_s2_tot hb a
  rw [ec]
  have r : ∀ d : Int32, rdI (wrI (wrI (wrI (wrI (wrI hm 192 26 a) 192 27 b) 192 28 d) 192 29 0) 192 30 0) 192 27 = b := fun d => by simp only [rdI_wrI, rdP_wrI, rdL_wrI, Nat.reduceEqDiff, false_and, and_false, true_and, and_true, eq_self, reduceIte, ite_self]
  by_cases q : a = b
  · refine ⟨0, ?_, fun _ => rfl, fun w => absurd q w⟩
    rw [if_pos q, bP_some, lz_eq, lz_eq, lz_eq, lz_eq, lz_eq, r 0]
    rfl
  · refine ⟨c, ?_, fun w => absurd w q, fun _ h0 h1 h2 => ?_⟩
    · rw [if_neg q, bP_some, bP_some, lz_eq, lz_eq, lz_eq, lz_eq, lz_eq, r c]
      rfl
    · rw [Mo_s2_eq hb h0 h1 h2] at ec
      exact (Option.some.inj ec).symm
theorem in12 (c : Int32) : f_Mo_in c.toInt64 0 12 = some (if 0 ≤ c ∧ c ≤ 12 then 1 else 0) := by
  unfold f_Mo_in
  have e : c.toInt64.toInt = c.toInt := Int32.toInt_toInt64 c
  have l0 : c.toInt64 < 0 ↔ c < 0 := by
    rw [Int64.lt_iff_toInt_lt, Int32.lt_iff_toInt_lt, e]
    exact Iff.rfl
  have l1 : (12 : Int64) < c.toInt64 ↔ 12 < c := by
    rw [Int64.lt_iff_toInt_lt, Int32.lt_iff_toInt_lt, e]
    exact Iff.rfl
  by_cases q : c < 0
  · rw [if_pos (l0.mpr q), if_neg (fun w => absurd w.1 (Int32.not_le.mpr q))]
  · rw [if_neg (fun w => q (l0.mp w))]
    by_cases w : 12 < c
    · rw [if_pos (l1.mpr w), if_neg (fun v => absurd v.2 (Int32.not_le.mpr w))]
    · rw [if_neg (fun v => w (l1.mp v)), if_pos ⟨Int32.not_lt.mp q, Int32.not_lt.mp w⟩]
theorem wi_in (a b c : Int64) : f_HH_within a b c = f_Mo_in a b c := rfl
