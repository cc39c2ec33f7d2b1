/-! LAYER 3BQ: numbers of a font's tables -/
theorem i64_nat {y : Int64} (h : 0 ≤ y.toInt) : ((y.toBitVec.toNat : Nat) : Int) = y.toInt := by
  have w : y.toBitVec.toInt = y.toInt := rfl
  rw [BitVec.toInt_eq_toNat_cond] at w
  split at w
  · exact w
  · have := y.toBitVec.isLt
    omega
theorem b64_mask : ∀ i : Fin 64, (4294967295#64).getLsbD i.val = decide (i.val < 32) := by decide
theorem mk_bv (b : BitVec 64) : ((b.signExtend 32).signExtend 64) &&& 4294967295#64 = b &&& 4294967295#64 := by
  apply BitVec.eq_of_getLsbD_eq
  intro i hi
  rw [BitVec.getLsbD_and, BitVec.getLsbD_and, b64_mask ⟨i, hi⟩, BitVec.getLsbD_signExtend, BitVec.getLsbD_signExtend]
  by_cases q : i < 32
  · simp [q, hi]
  · simp [q]
theorem mk64 (x : Int64) : x.toInt32.toInt64 &&& 4294967295 = x &&& 4294967295 := Int64.toBitVec_inj.mp (mk_bv x.toBitVec)
theorem mkt_bv (b : BitVec 64) : (b &&& 4294967295#64).signExtend 32 = b.signExtend 32 := by
  apply BitVec.eq_of_getLsbD_eq
  intro i hi
  have h64 : i < 64 := by omega
  rw [BitVec.getLsbD_signExtend, BitVec.getLsbD_signExtend, if_pos h64, if_pos h64, BitVec.getLsbD_and, b64_mask ⟨i, h64⟩]
  simp [hi]
theorem mkt64 (x : Int64) : (x &&& 4294967295).toInt32 = x.toInt32 := Int32.toBitVec_inj.mp (mkt_bv x.toBitVec)
theorem mv_bv (b : BitVec 64) (h : b.toNat < 2 ^ 32) : b &&& 4294967295#64 = b := by
  apply BitVec.eq_of_getLsbD_eq
  intro i hi
  rw [BitVec.getLsbD_and, b64_mask ⟨i, hi⟩]
  by_cases q : i < 32
  · simp [q]
  · have : b.getLsbD i = false := by
      show b.toNat.testBit i = false
      exact Nat.testBit_lt_two_pow (Nat.lt_of_lt_of_le h (Nat.pow_le_pow_right (by decide) (by omega)))
    rw [this]
    rfl
theorem mv64 {x : Int64} (h0 : 0 ≤ x.toInt) (h1 : x.toInt < 4294967296) : x &&& 4294967295 = x := by
  have := i64_nat h0
  exact Int64.toBitVec_inj.mp (mv_bv x.toBitVec (by omega))
theorem mk_iff {x v : Int64} (h0 : 0 ≤ v.toInt) (h1 : v.toInt < 4294967296) : x &&& 4294967295 = v ↔ x.toInt32 = v.toInt32 := by
  constructor
  · intro e
    rw [← e, mkt64]
  · intro e
    rw [← mk64, e, mk64, mv64 h0 h1]
theorem and3L {x : Int64} (h0 : 0 ≤ x.toInt) : x &&& 3 = 0 ↔ hx_rL x 4 = 0 := by
  have e := i64_nat h0
  have z : (0 : Int64).toInt = 0 := rfl
  have z4 : (4 : Int64).toInt = 4 := rfl
  have r : (hx_rL x 4).toInt = x.toInt.tmod 4 := by
    have := i64_rem (a := x) (b := 4) (by rw [z4]; decide) (by rw [z4]; decide)
    rw [z4] at this
    exact this
  have n : (x &&& 3).toBitVec.toNat = x.toBitVec.toNat % 4 := by
    show (x.toBitVec &&& 3#64).toNat = _
    rw [BitVec.toNat_and]
    exact Nat.and_two_pow_sub_one_eq_mod x.toBitVec.toNat 2
  have em : x.toInt.tmod 4 = x.toInt % 4 := Int.tmod_eq_emod_of_nonneg h0
  constructor
  · intro q
    apply Int64.toInt_inj.mp
    rw [r, z, em]
    rw [q] at n
    have : (0 : Int64).toBitVec.toNat = 0 := rfl
    omega
  · intro q
    rw [q, z, em] at r
    have k : (x &&& 3).toBitVec.toNat = 0 := by omega
    apply Int64.toBitVec_inj.mp
    apply BitVec.eq_of_toNat_eq
    rw [k]
    rfl
theorem u4_int {a b : Int32} (ha : 0 ≤ a ∧ a ≤ 65535) (hb : 0 ≤ b ∧ b ≤ 65535) : ((a.toInt64 <<< ((Int32.toInt64 (16 : Int32)) &&& 63)) ||| b.toInt64).toInt = a.toInt * 65536 + b.toInt := by
  have z0 : (0 : Int32).toInt = 0 := rfl
  have z65 : (65535 : Int32).toInt = 65535 := rfl
  have a0 := Int32.le_iff_toInt_le.mp ha.1
  have a1 := Int32.le_iff_toInt_le.mp ha.2
  have b0 := Int32.le_iff_toInt_le.mp hb.1
  have b1 := Int32.le_iff_toInt_le.mp hb.2
  rw [z0] at a0 b0
  rw [z65] at a1 b1
  have ea : a.toInt64.toInt = a.toInt := Int32.toInt_toInt64 a
  have eb : b.toInt64.toInt = b.toInt := Int32.toInt_toInt64 b
  have na := i64_nat (y := a.toInt64) (by omega)
  have nb := i64_nat (y := b.toInt64) (by omega)
  have e1 : ((a.toInt64 <<< ((Int32.toInt64 (16 : Int32)) &&& 63)) ||| b.toInt64).toBitVec = (a.toInt64.toBitVec <<< 16) ||| b.toInt64.toBitVec := rfl
  have e2 : ((a.toInt64.toBitVec <<< 16) ||| b.toInt64.toBitVec).toNat = a.toInt64.toBitVec.toNat * 65536 + b.toInt64.toBitVec.toNat := by
    rw [BitVec.toNat_or, BitVec.toNat_shiftLeft, Nat.mod_eq_of_lt (by rw [Nat.shiftLeft_eq]; omega), ← Nat.shiftLeft_add_eq_or_of_lt (by omega), Nat.shiftLeft_eq]
  show ((a.toInt64 <<< ((Int32.toInt64 (16 : Int32)) &&& 63)) ||| b.toInt64).toBitVec.toInt = _
  rw [e1, BitVec.toInt_eq_toNat_of_lt (by omega), e2]
  omega
/-- bytes of a font: the component's, the model's -/
def CB (B : Nat → Int32) (s : Int32) (c : hH) : Prop := rdI c 5 1 = s ∧ ∀ k, rdI c 6 k = B k
def MB (B : Nat → Int32) (s : Int32) (m : hH) : Prop := rdI m 192 3 = s ∧ ∀ k, k < s.toNatClampNeg → rdI m 194 k = B k
def u1B (B : Nat → Int32) (p : Nat) : Int32 := B p &&& 255
def u2B (B : Nat → Int32) (p : Nat) : Int32 := (u1B B p <<< ((8 : Int32) &&& 31)) ||| u1B B (p + 1)
def s2B (B : Nat → Int32) (p : Nat) : Int32 := Int16.toInt32 (Int32.toInt16 (u2B B p))
def u4B (B : Nat → Int32) (p : Nat) : Int64 := ((u2B B p).toInt64 <<< ((Int32.toInt64 (16 : Int32)) &&& 63)) ||| (u2B B (p + 2)).toInt64
theorem u2B_r (B : Nat → Int32) (p : Nat) : 0 ≤ u2B B p ∧ u2B B p ≤ 65535 := or_r (and255 _) (and255 _)
theorem u4B_r (B : Nat → Int32) (p : Nat) : 0 ≤ (u4B B p).toInt ∧ (u4B B p).toInt < 4294967296 := by
  have a := u2B_r B p
  have b := u2B_r B (p + 2)
  unfold u4B
  rw [u4_int a b]
  have z0 : (0 : Int32).toInt = 0 := rfl
  have z65 : (65535 : Int32).toInt = 65535 := rfl
  have a0 := Int32.le_iff_toInt_le.mp a.1
  have a1 := Int32.le_iff_toInt_le.mp a.2
  have b0 := Int32.le_iff_toInt_le.mp b.1
  have b1 := Int32.le_iff_toInt_le.mp b.2
  omega
theorem ar_p {p s : Int32} (p0 : 0 ≤ p) (p1 : p ≤ s - 2) (s0 : 0 ≤ s) (s1 : s ≤ 12000) : p < s ∧ p + 1 < s ∧ 0 ≤ p + 1 ∧ p < 12000 ∧ p + 1 < 12000 := by
  refine ⟨?_, ?_, ?_, ?_, ?_⟩ <;> grind
theorem ar_p4 {p s : Int32} (p0 : 0 ≤ p) (p1 : p ≤ s - 4) (s0 : 0 ≤ s) (s1 : s ≤ 12000) : p ≤ s - 2 ∧ 0 ≤ p + 2 ∧ p + 2 ≤ s - 2 := by
  refine ⟨?_, ?_, ?_⟩ <;> grind
theorem xI_2 {p : Int32} (p0 : 0 ≤ p) (p1 : p ≤ 12000) : (p + 2).toNatClampNeg = p.toNatClampNeg + 2 := xI_add (m := 20000) (y := 2) p0 (Int32.le_trans p1 (by decide)) (by decide) (by decide) (by decide)
theorem cU1 {B : Nat → Int32} {s p : Int32} {c : hH} (cb : CB B s c) (p0 : 0 ≤ p) (p1 : p < 12000) : f_By_u1 5 p c = some (u1B B p.toNatClampNeg) := by
  rw [By_u1_eq p0 p1, cb.2]
  rfl
theorem cU2 {B : Nat → Int32} {s p : Int32} {c : hH} (cb : CB B s c) (s0 : 0 ≤ s) (s1 : s ≤ 12000) (p0 : 0 ≤ p) (p1 : p ≤ s - 2) : f_By_u2 5 p c = some (u2B B p.toNatClampNeg) := by
  obtain ⟨a, b, d, e, f⟩ := ar_p p0 p1 s0 s1
  have ep : (p + 1).toNatClampNeg = p.toNatClampNeg + 1 := xI_succ (m := 12000) p0 (Int32.le_of_lt e) (by decide)
  unfold f_By_u2
  rw [cU1 cb p0 e, bP_some, cU1 cb d f, bP_some, ep]
  rfl
theorem cS2 {B : Nat → Int32} {s p : Int32} {c : hH} (cb : CB B s c) (s0 : 0 ≤ s) (s1 : s ≤ 12000) (p0 : 0 ≤ p) (p1 : p ≤ s - 2) : f_By_s2 5 p c = some (s2B B p.toNatClampNeg) := by
  unfold f_By_s2
  rw [cU2 cb s0 s1 p0 p1]
  rfl
theorem cU4 {B : Nat → Int32} {s p : Int32} {c : hH} (cb : CB B s c) (s0 : 0 ≤ s) (s1 : s ≤ 12000) (p0 : 0 ≤ p) (p1 : p ≤ s - 4) : f_By_u4 5 p c = some (u4B B p.toNatClampNeg) := by
  obtain ⟨a, b, d⟩ := ar_p4 p0 p1 s0 s1
  unfold f_By_u4
  rw [cU2 cb s0 s1 p0 a, bP_some, cU2 cb s0 s1 b d, bP_some, xI_2 p0 (by grind)]
  rfl
theorem mU1 {B : Nat → Int32} {s p : Int32} {m : hH} (mb : MB B s m) (s1 : s ≤ 12000) (p0 : 0 ≤ p) (p1 : p < s) : f_Mo_u1 p m = some (u1B B p.toNatClampNeg) := by
  have s0 : 0 ≤ s := Int32.le_trans p0 (Int32.le_of_lt p1)
  have v : vp_in p 12000 := vp_lt (n := 12000) (m := 12000) p0 (Int32.lt_of_lt_of_le p1 s1) rfl
  unfold f_Mo_u1
  rw [mb.1, if_neg (Int32.not_lt.mpr p0), if_neg (Int32.not_le.mpr p1), gd_pos v, mb.2 _ ((xI_lt p0 s0).mpr p1)]
  rfl
theorem mU2 {B : Nat → Int32} {s p : Int32} {m : hH} (mb : MB B s m) (s0 : 0 ≤ s) (s1 : s ≤ 12000) (p0 : 0 ≤ p) (p1 : p ≤ s - 2) : f_Mo_u2 p m = some (u2B B p.toNatClampNeg) := by
  obtain ⟨a, b, d, e, f⟩ := ar_p p0 p1 s0 s1
  have ep : (p + 1).toNatClampNeg = p.toNatClampNeg + 1 := xI_succ (m := 12000) p0 (Int32.le_of_lt e) (by decide)
  unfold f_Mo_u2
  rw [mU1 mb s1 p0 a, bP_some, mU1 mb s1 d b, bP_some, ep]
  rfl
theorem mS2 {B : Nat → Int32} {s p : Int32} {m : hH} (mb : MB B s m) (s0 : 0 ≤ s) (s1 : s ≤ 12000) (p0 : 0 ≤ p) (p1 : p ≤ s - 2) : f_Mo_s2 p m = some (s2B B p.toNatClampNeg) := by
  unfold f_Mo_s2
  rw [mU2 mb s0 s1 p0 p1]
  rfl
theorem mU4 {B : Nat → Int32} {s p : Int32} {m : hH} (mb : MB B s m) (s0 : 0 ≤ s) (s1 : s ≤ 12000) (p0 : 0 ≤ p) (p1 : p ≤ s - 4) : f_Mo_u4 p m = some (u4B B p.toNatClampNeg) := by
  obtain ⟨a, b, d⟩ := ar_p4 p0 p1 s0 s1
  unfold f_Mo_u4
  rw [mU2 mb s0 s1 p0 a, bP_some, mU2 mb s0 s1 b d, bP_some, xI_2 p0 (by grind)]
  rfl
/-- the model reads zeros behind the end: any read gives something -/
theorem mT1 {B : Nat → Int32} {s p : Int32} {m : hH} (mb : MB B s m) (s1 : s ≤ 12000) : ∃ v, f_Mo_u1 p m = some v := by
  unfold f_Mo_u1
  rw [mb.1]
  by_cases q : p < 0
  · exact ⟨_, by rw [if_pos q]⟩
  · by_cases w : s ≤ p
    · exact ⟨_, by rw [if_neg q, if_pos w]⟩
    · have v : vp_in p 12000 := vp_lt (n := 12000) (m := 12000) (Int32.not_lt.mp q) (by grind) rfl
      exact ⟨_, by rw [if_neg q, if_neg w, gd_pos v]⟩
theorem mT2 {B : Nat → Int32} {s p : Int32} {m : hH} (mb : MB B s m) (s1 : s ≤ 12000) : ∃ v, f_Mo_u2 p m = some v := by
  obtain ⟨a, ea⟩ := mT1 (p := p) mb s1
  obtain ⟨b, eb⟩ := mT1 (p := p + 1) mb s1
  unfold f_Mo_u2
  rw [ea, eb]
  exact ⟨_, rfl⟩
theorem mT4 {B : Nat → Int32} {s p : Int32} {m : hH} (mb : MB B s m) (s1 : s ≤ 12000) : ∃ v, f_Mo_u4 p m = some v := by
  obtain ⟨a, ea⟩ := mT2 (p := p) mb s1
  obtain ⟨b, eb⟩ := mT2 (p := p + 2) mb s1
  unfold f_Mo_u4
  rw [ea, eb]
  exact ⟨_, rfl⟩
