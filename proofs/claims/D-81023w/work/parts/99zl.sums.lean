/-! LAYER 3BT: sums of tables -/
theorem shl_bv {n : Nat} (hn : n = 0 ∨ n = 8 ∨ n = 16 ∨ n = 24) (b : BitVec 32) : ((b.signExtend 64) <<< n).signExtend 32 = b <<< n := by
  apply BitVec.eq_of_getLsbD_eq
  intro i hi
  have h64 : i < 64 := by omega
  rw [BitVec.getLsbD_signExtend, BitVec.getLsbD_shiftLeft, BitVec.getLsbD_shiftLeft, BitVec.getLsbD_signExtend]
  by_cases q : i < n
  · simp [hi, h64, q]
  · have h1 : i - n < 64 := by omega
    have h2 : i - n < 32 := by omega
    simp [hi, h64, q, h1, h2]
/-- the shift of a byte in its word -/
def shv (r : Nat) : Int32 := if r = 0 then 24 else if r = 1 then 16 else if r = 2 then 8 else 0
theorem shl_32 {r : Nat} (p : Int32) : (p.toInt64 <<< ((shv r).toInt64 &&& 63)).toInt32 = p <<< (shv r &&& 31) := by
  unfold shv
  split
  · exact Int32.toBitVec_inj.mp (shl_bv (n := 24) (by omega) p.toBitVec)
  · split
    · exact Int32.toBitVec_inj.mp (shl_bv (n := 16) (by omega) p.toBitVec)
    · split
      · exact Int32.toBitVec_inj.mp (shl_bv (n := 8) (by omega) p.toBitVec)
      · exact Int32.toBitVec_inj.mp (shl_bv (n := 0) (by omega) p.toBitVec)
theorem and3I {k : Int32} (k0 : 0 ≤ k) : (24 : Int32) - 8 * (k &&& 3) = shv (k.toNatClampNeg % 4) := by
  have n : (k &&& 3).toBitVec.toNat = k.toBitVec.toNat % 4 := by
    show (k.toBitVec &&& 3#32).toNat = _
    rw [BitVec.toNat_and]
    exact Nat.and_two_pow_sub_one_eq_mod k.toBitVec.toNat 2
  have z0 : (0 : Int32).toInt = 0 := rfl
  have a := Int32.le_iff_toInt_le.mp k0
  have e : k.toBitVec.toNat = k.toNatClampNeg := by
    have w : k.toBitVec.toInt = k.toInt := rfl
    rw [BitVec.toInt_eq_toNat_cond] at w
    have t : k.toNatClampNeg = k.toInt.toNat := rfl
    split at w
    · omega
    · have := k.toBitVec.isLt
      omega
  rw [e] at n
  have c : ∀ j : Fin 4, k.toNatClampNeg % 4 = j.val → k &&& 3 = Int32.ofNat j.val := fun j hj => by
    apply Int32.toBitVec_inj.mp
    apply BitVec.eq_of_toNat_eq
    rw [n, hj]
    have : ∀ j : Fin 4, j.val = (Int32.ofNat j.val).toBitVec.toNat := by decide
    exact this j
  have h4 : k.toNatClampNeg % 4 = 0 ∨ k.toNatClampNeg % 4 = 1 ∨ k.toNatClampNeg % 4 = 2 ∨ k.toNatClampNeg % 4 = 3 := by omega
  rcases h4 with h | h | h | h
  · rw [c ⟨0, by decide⟩ h, h]; decide
  · rw [c ⟨1, by decide⟩ h, h]; decide
  · rw [c ⟨2, by decide⟩ h, h]; decide
  · rw [c ⟨3, by decide⟩ h, h]; decide
/-- sums of bytes -/
def tS (f : Nat → Int32) : Nat → Int32
  | 0 => 0
  | k + 1 => tS f k + (f k <<< (shv (k % 4) &&& 31))
theorem tS_z {f : Nat → Int32} {n : Nat} (hz : ∀ k, n ≤ k → f k = 0) : ∀ m, tS f (n + m) = tS f n := by
  intro m
  induction m with
  | zero => rfl
  | succ m ih =>
    show tS f (n + m) + (f (n + m) <<< (shv ((n + m) % 4) &&& 31)) = _
    rw [ih, hz (n + m) (by omega)]
    have e : (0 : Int32) <<< (shv ((n + m) % 4) &&& 31) = 0 := by
      unfold shv
      split
      · decide
      · split
        · decide
        · split <;> decide
    rw [e]
    grind
/-- a byte, but for the four that are left out -/
def skp (x3 p : Int32) : Prop := 0 ≤ x3 ∧ x3 ≤ p ∧ p < x3 + 4
def bV (B : Nat → Int32) (x3 b : Int32) (L : Nat) (k : Nat) : Int32 := if k < L then (if 0 ≤ x3 ∧ x3 ≤ b + Int32.ofNat k ∧ b + Int32.ofNat k < x3 + 4 then 0 else u1B B (b.toNatClampNeg + k)) else 0
theorem xI_ofN {k : Nat} (h : k ≤ 20000) : (Int32.ofNat k).toNatClampNeg = k ∧ 0 ≤ Int32.ofNat k ∧ Int32.ofNat k ≤ 20000 := by
  have e : (Int32.ofNat k).toInt = k := by
    rw [Int32.toInt_ofNat']
    exact i32_bm (by omega) (by omega)
  have z0 : (0 : Int32).toInt = 0 := rfl
  have z2 : (20000 : Int32).toInt = 20000 := rfl
  refine ⟨?_, Int32.le_iff_toInt_le.mpr (by rw [e, z0]; omega), Int32.le_iff_toInt_le.mpr (by rw [e, z2]; omega)⟩
  show (Int32.ofNat k).toInt.toNat = k
  rw [e]
  omega
theorem xI_ofI {i : Int32} (h0 : 0 ≤ i) (h1 : i ≤ 20000) : Int32.ofNat i.toNatClampNeg = i := by
  have z2 : (20000 : Int32).toNatClampNeg = 20000 := rfl
  have := xI_mono h1
  obtain ⟨a, b, _⟩ := xI_ofN (k := i.toNatClampNeg) (by omega)
  exact xI_inj b h0 a
noncomputable def suC (x1 x2 x3 : Int32) (h : hH) (p1 : Int64 × Int32) : Option ((Int64 × Int32) ⊕ Int64) :=
  if x2 ≤ p1.2 then (
    some (.inr p1.1)
  ) else (
    lz (A := Int32) (x1 + p1.2) fun v3 =>
    bP (A := Int32) (
      cO (
        if x3 < 0 then (
          some false
        ) else (
          if (v3 < x3 ∨ (x3 + (4 : Int32)) ≤ v3) then (
            some false
          ) else (
            some true
          )
        )
      ) (
        some (0 : Int32)
      ) (
        bP (f_By_u1 5 v3 h) fun a17 =>
        some a17
      )
    ) fun p4 =>
    lz (A := Int64) (p1.1 + ((Int32.toInt64 p4) <<< ((Int32.toInt64 ((24 : Int32) - ((8 : Int32) * (p1.2 &&& (3 : Int32))))) &&& 63))) fun v18 =>
    lz (A := Int32) (p1.2 + (1 : Int32)) fun v19 =>
    some (.inl (v18, v19))
  )
theorem By_sum_eq0 {x1 x2 x3 : Int32} {h : hH} : f_By_sum 5 x1 x2 x3 h = bP (A := Int64) (wh (A := (Int64 × Int32)) (B := Int64) (suC x1 x2 x3 h) ((0 : Int64), (0 : Int32))) fun p2 => some (p2 &&& (4294967295 : Int64)) := rfl
noncomputable def suI (x2 x3 : Int32) (h : hH) (pos : Int32) (p3 : Int32 × Int32) : Option ((Int32 × Int32) ⊕ Int32) :=
  if (4 : Int32) ≤ p3.2 then (
    some (.inr p3.1)
  ) else (
    lz (A := Int32) (pos + p3.2) fun v5 =>
    bP (A := Int32) (
      if x2 ≤ v5 then (
        some (0 : Int32)
      ) else (
        cO (
          if x3 = (-1 : Int32) then (
            some true
          ) else (
            if (v5 < x3 ∨ ¬ (v5 < (x3 + (4 : Int32)))) then (
              some true
            ) else (
              some false
            )
          )
        ) (
          bP (f_Mo_u1 v5 h) fun a19 =>
          some a19
        ) (
          some (0 : Int32)
        )
      )
    ) fun p6 =>
    lz (A := Int32) (p3.1 + (p6 <<< (((24 : Int32) - ((8 : Int32) * p3.2)) &&& 31))) fun v21 =>
    lz (A := Int32) (p3.2 + (1 : Int32)) fun v22 =>
    some (.inl (v21, v22))
  )
noncomputable def suM (x2 x3 : Int32) (h : hH) (p1 : Int32 × Int32) : Option ((Int32 × Int32) ⊕ Int32) :=
  if x2 ≤ p1.2 then (
    some (.inr p1.1)
  ) else (
    bP (A := Int32) (wh (A := (Int32 × Int32)) (B := Int32) (suI x2 x3 h p1.2) (p1.1, (0 : Int32))) fun p4 =>
    lz (A := Int32) (p1.2 + (4 : Int32)) fun v24 =>
    some (.inl (p4, v24))
  )
theorem Mo_sum_eq0 {x1 x2 x3 : Int32} {h : hH} : f_Mo_sumOf x1 x2 x3 h = bP (A := Int32) (wh (A := (Int32 × Int32)) (B := Int32) (suM x2 x3 h) ((0 : Int32), x1)) fun p2 => some p2 := rfl
theorem C_sum {B : Nat → Int32} {s b l x3 : Int32} {c : hH} (cb : CB B s c) (s1 : s ≤ 12000) (b0 : 0 ≤ b) (b1 : b ≤ 12000) (l0 : 0 ≤ l) (l1 : l ≤ 12000) (bl : b + l ≤ s) (x0 : x3 ≤ 13000) : ∃ S : Int64, f_By_sum 5 b l x3 c = some (S &&& 4294967295) ∧ S.toInt32 = tS (bV B x3 b l.toNatClampNeg) l.toNatClampNeg := by
  have key : ∀ (r : Nat) (k : Int32) (a : Int64), 0 ≤ k → k ≤ l → l.toNatClampNeg - k.toNatClampNeg = r → a.toInt32 = tS (bV B x3 b l.toNatClampNeg) k.toNatClampNeg → ∃ S : Int64, wh (suC b l x3 c) (a, k) = some S ∧ S.toInt32 = tS (bV B x3 b l.toNatClampNeg) l.toNatClampNeg := by
    intro r
    induction r with
    | zero =>
      intro k a k0 k1 e ea
      have ek : k = l := by
        by_cases w : k = l
        · exact w
        · have := (xI_lt k0 l0).mpr (show k < l by grind)
          omega
      refine ⟨a, ?_, by rw [ea, ek]⟩
      rw [wh_eq]
      unfold suC
      dsimp only
      rw [if_pos (by rw [ek]; exact Int32.le_refl _)]
    | succ r ih =>
      intro k a k0 k1 e ea
      have lt : k < l := by
        by_cases w : k = l
        · rw [w] at e; omega
        · grind
      have lt' := (xI_lt k0 l0).mpr lt
      have kk : (k + 1).toNatClampNeg = k.toNatClampNeg + 1 := xI_succ (m := 20000) k0 (by grind) (by decide)
      have ebk : (b + k).toNatClampNeg = b.toNatClampNeg + k.toNatClampNeg := xI_add (m := 20000) b0 (by grind) k0 (by grind) (by decide)
      have by' : (cO (if x3 < 0 then some false else (if (b + k < x3 ∨ (x3 + (4 : Int32)) ≤ b + k) then some false else some true)) (some (0 : Int32)) (bP (f_By_u1 5 (b + k) c) fun a17 => some a17)) = some (bV B x3 b l.toNatClampNeg k.toNatClampNeg) := by
        unfold bV
        rw [if_pos lt', xI_ofI k0 (by grind), cU1 cb (by grind) (by grind), bP_some, ebk]
        by_cases q1 : x3 < 0
        · rw [if_pos q1, cO_f, if_neg (fun w => absurd w.1 (by grind))]
        · rw [if_neg q1]
          by_cases q2 : b + k < x3 ∨ x3 + 4 ≤ b + k
          · rw [if_pos q2, cO_f, if_neg (fun w => by
              rcases q2 with q | q
              · exact absurd w.2.1 (Int32.not_le.mpr q)
              · exact absurd w.2.2 (Int32.not_lt.mpr q))]
          · rw [if_neg q2, cO_t, if_pos ⟨Int32.not_lt.mp q1, Int32.not_lt.mp (fun w => q2 (Or.inl w)), Int32.not_le.mp (fun w => q2 (Or.inr w))⟩]
      obtain ⟨S, eS, hS⟩ := ih (k + 1) (a + ((bV B x3 b l.toNatClampNeg k.toNatClampNeg).toInt64 <<< ((shv (k.toNatClampNeg % 4)).toInt64 &&& 63))) (by grind) (by grind) (by omega) (by
        rw [kk, Int64.toInt32_add, ea, shl_32]
        rfl)
      refine ⟨S, ?_, hS⟩
      rw [wh_eq]
      have : suC b l x3 c (a, k) = some (.inl (a + ((bV B x3 b l.toNatClampNeg k.toNatClampNeg).toInt64 <<< ((shv (k.toNatClampNeg % 4)).toInt64 &&& 63)), k + 1)) := by
        unfold suC
        dsimp only
        rw [if_neg (Int32.not_le.mpr lt), lz_eq, by', bP_some, lz_eq, lz_eq, and3I k0]
      rw [this]
      exact eS
  obtain ⟨S, eS, hS⟩ := key _ 0 0 (by decide) l0 rfl rfl
  exact ⟨S, by rw [By_sum_eq0, eS, bP_some], hS⟩
theorem M_sum {B : Nat → Int32} {s b l x3 y3 : Int32} {m : hH} (mb : MB B s m) (s1 : s ≤ 12000) (b0 : 0 ≤ b) (b1 : b ≤ 12000) (l0 : 0 ≤ l) (l1 : l ≤ 12000) (bl : b + l ≤ s) (sk : ∀ p, b ≤ p → p < b + l → ((0 ≤ x3 ∧ x3 ≤ p ∧ p < x3 + 4) ↔ (y3 ≠ -1 ∧ y3 ≤ p ∧ p < y3 + 4))) : f_Mo_sumOf b (b + l) y3 m = some (tS (bV B x3 b l.toNatClampNeg) l.toNatClampNeg) := by
  have hz : ∀ k, l.toNatClampNeg ≤ k → bV B x3 b l.toNatClampNeg k = 0 := fun k hk => by
    unfold bV
    rw [if_neg (by omega)]
  have eb : ∀ k : Int32, 0 ≤ k → k ≤ 13000 → (b + k).toNatClampNeg = b.toNatClampNeg + k.toNatClampNeg := fun k k0 k1 => xI_add (m := 20000) b0 (by grind) k0 (by grind) (by decide)
  have byte : ∀ k : Int32, 0 ≤ k → k ≤ 13000 → (if b + l ≤ b + k then some (0 : Int32) else cO (if y3 = (-1 : Int32) then some true else (if (b + k < y3 ∨ ¬ (b + k < (y3 + (4 : Int32)))) then some true else some false)) (bP (f_Mo_u1 (b + k) m) fun a19 => some a19) (some (0 : Int32))) = some (bV B x3 b l.toNatClampNeg k.toNatClampNeg) := fun k k0 k1 => by
    by_cases q : b + l ≤ b + k
    · have : l ≤ k := by grind
      rw [if_pos q, hz _ (xI_mono this)]
    · have lt : k < l := by grind
      have lt' := (xI_lt k0 l0).mpr lt
      have sk' := sk (b + k) (by grind) (by grind)
      unfold bV
      rw [if_neg q, if_pos lt', xI_ofI k0 (by grind), mU1 mb s1 (by grind) (by grind), bP_some, eb k k0 k1]
      by_cases q1 : y3 = -1
      · rw [if_pos q1, cO_t, if_neg (fun w => (sk'.mp w).1 q1)]
      · rw [if_neg q1]
        by_cases q2 : b + k < y3 ∨ ¬ b + k < y3 + 4
        · rw [if_pos q2, cO_t, if_neg (fun w => by
            have := sk'.mp w
            rcases q2 with q | q
            · exact absurd this.2.1 (Int32.not_le.mpr q)
            · exact q this.2.2)]
        · rw [if_neg q2, cO_f, if_pos (sk'.mpr ⟨q1, Int32.not_lt.mp (fun w => q2 (Or.inl w)), Decidable.not_not.mp (fun w => q2 (Or.inr w))⟩)]
  have sh : (24 : Int32) - 8 * 0 = shv 0 ∧ (24 : Int32) - 8 * 1 = shv 1 ∧ (24 : Int32) - 8 * 2 = shv 2 ∧ (24 : Int32) - 8 * 3 = shv 3 := by decide
  have a01 : (0 : Int32) + 1 = 1 := by decide
  have a12 : (1 : Int32) + 1 = 2 := by decide
  have a23 : (2 : Int32) + 1 = 3 := by decide
  have a34 : (3 : Int32) + 1 = 4 := by decide
  have inner : ∀ (t : Int32) (a : Int32), 0 ≤ t → t ≤ 12000 → t.toNatClampNeg % 4 = 0 → a = tS (bV B x3 b l.toNatClampNeg) t.toNatClampNeg → wh (suI (b + l) y3 m (b + t)) (a, 0) = some (tS (bV B x3 b l.toNatClampNeg) (t.toNatClampNeg + 4)) := fun t a t0 t1 t4 ea => by
    have st : ∀ (j : Int32) (J : Nat) (x : Int32), j.toNatClampNeg = J → 0 ≤ j → j < 4 → (24 : Int32) - 8 * j = shv ((t.toNatClampNeg + J) % 4) → x = tS (bV B x3 b l.toNatClampNeg) (t.toNatClampNeg + J) → suI (b + l) y3 m (b + t) (x, j) = some (.inl (tS (bV B x3 b l.toNatClampNeg) (t.toNatClampNeg + J + 1), j + 1)) := fun j J x ej j0 j1 es ex => by
      have ebt : b + t + j = b + (t + j) := by grind
      have etj : (t + j).toNatClampNeg = t.toNatClampNeg + J := by
        rw [← ej]
        exact xI_add (m := 20000) t0 (by grind) j0 (by grind) (by decide)
      unfold suI
      dsimp only
      rw [if_neg (Int32.not_le.mpr j1), lz_eq, ebt, byte (t + j) (by grind) (by grind), bP_some, lz_eq, lz_eq, etj, es, ex]
      rfl
    rw [wh_eq, st 0 0 a rfl (by decide) (by decide) (by rw [Nat.add_zero, t4]; exact sh.1) ea, a01]
    dsimp only
    rw [wh_eq, st 1 1 _ rfl (by decide) (by decide) (by rw [show (t.toNatClampNeg + 1) % 4 = 1 by omega]; exact sh.2.1) rfl, a12]
    dsimp only
    rw [wh_eq, st 2 2 _ rfl (by decide) (by decide) (by rw [show (t.toNatClampNeg + 2) % 4 = 2 by omega]; exact sh.2.2.1) rfl, a23]
    dsimp only
    rw [wh_eq, st 3 3 _ rfl (by decide) (by decide) (by rw [show (t.toNatClampNeg + 3) % 4 = 3 by omega]; exact sh.2.2.2) rfl, a34]
    dsimp only
    rw [wh_eq]
    unfold suI
    dsimp only
    rw [if_pos (Int32.le_refl _)]
  have key : ∀ (r : Nat) (t : Int32) (a : Int32), 0 ≤ t → t ≤ 12003 → t.toNatClampNeg % 4 = 0 → l.toNatClampNeg - t.toNatClampNeg ≤ r → a = tS (bV B x3 b l.toNatClampNeg) t.toNatClampNeg → wh (suM (b + l) y3 m) (a, b + t) = some (tS (bV B x3 b l.toNatClampNeg) l.toNatClampNeg) := by
    intro r
    induction r with
    | zero =>
      intro t a t0 t1 t4 e ea
      have le : l ≤ t := by
        by_cases w : l ≤ t
        · exact w
        · have := (xI_lt t0 l0).mpr (Int32.not_le.mp w)
          omega
      have : tS (bV B x3 b l.toNatClampNeg) t.toNatClampNeg = tS (bV B x3 b l.toNatClampNeg) l.toNatClampNeg := by
        have w := xI_mono le
        have := tS_z hz (t.toNatClampNeg - l.toNatClampNeg)
        rw [show l.toNatClampNeg + (t.toNatClampNeg - l.toNatClampNeg) = t.toNatClampNeg by omega] at this
        exact this
      rw [wh_eq]
      unfold suM
      dsimp only
      rw [if_pos (by grind), ea, this]
    | succ r ih =>
      intro t a t0 t1 t4 e ea
      by_cases le : l ≤ t
      · exact ih t a t0 t1 t4 (by have := xI_mono le; omega) ea
      · have lt : t < l := Int32.not_le.mp le
        have t44 : (t + 4).toNatClampNeg = t.toNatClampNeg + 4 := xI_add (m := 20000) (y := 4) t0 (by grind) (by decide) (by decide) (by decide)
        have nx := ih (t + 4) _ (by grind) (by grind) (by omega) (by omega) (by rw [t44])
        rw [wh_eq]
        have : suM (b + l) y3 m (a, b + t) = some (.inl (tS (bV B x3 b l.toNatClampNeg) (t.toNatClampNeg + 4), b + (t + 4))) := by
          unfold suM
          dsimp only
          rw [if_neg (by grind), inner t a t0 (by grind) t4 ea, bP_some, lz_eq, show b + t + 4 = b + (t + 4) by grind]
        rw [this]
        exact nx
  have k0 := key _ 0 0 (by decide) (by decide) rfl (Nat.le_refl _) rfl
  rw [show b + 0 = b by grind] at k0
  rw [Mo_sum_eq0, k0, bP_some]
