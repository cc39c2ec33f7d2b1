/-! LAYER 3BR: the directory of a font, on both sides -/
/-- the first n cells of a row of longs are set -/
def flL (h : hH) (o n : Nat) (v : Nat → Int64) : hH := (h.1, (fun a b => if a = o ∧ b < n then v b else h.2.1 a b), h.2.2)
theorem rdL_flL {h : hH} {o n : Nat} {v : Nat → Int64} {a b : Nat} : rdL (flL h o n v) a b = if a = o ∧ b < n then v b else rdL h a b := rfl
theorem flL_0 {h : hH} {o : Nat} {v : Nat → Int64} : flL h o 0 v = h := by
  unfold flL
  refine Prod.ext rfl (Prod.ext ?_ rfl)
  funext a b
  dsimp only
  rw [if_neg (fun q => absurd q.2 (Nat.not_lt_zero _))]
theorem flL_s {h : hH} {o n : Nat} {v : Nat → Int64} {w : Int64} (e : w = v n) : wrL (flL h o n v) o n w = flL h o (n + 1) v := by
  unfold flL wrL up2
  refine Prod.ext rfl (Prod.ext ?_ rfl)
  funext a b
  dsimp only
  by_cases e1 : a = o
  · by_cases e2 : b = n
    · rw [if_pos ⟨e1, e2⟩, if_pos ⟨e1, by omega⟩, e2, e]
    · rw [if_neg (fun q => e2 q.2)]
      by_cases e3 : b < n
      · rw [if_pos ⟨e1, e3⟩, if_pos ⟨e1, by omega⟩]
      · rw [if_neg (fun q => e3 q.2), if_neg (fun q => by have := q.2; omega)]
  · rw [if_neg (fun q => e1 q.1), if_neg (fun q => e1 q.1), if_neg (fun q => e1 q.1)]
theorem flL_c {h : hH} {o n o' k : Nat} {v : Nat → Int64} {w : Int64} (ne : o ≠ o') : wrL (flL h o n v) o' k w = flL (wrL h o' k w) o n v := by
  unfold flL wrL up2
  refine Prod.ext rfl (Prod.ext ?_ rfl)
  funext a b
  dsimp only
  by_cases e : a = o' ∧ b = k
  · rw [if_pos e, if_neg (fun q => ne (q.1.symm.trans e.1)), if_pos e]
  · rw [if_neg e]
    by_cases e2 : a = o ∧ b < n
    · rw [if_pos e2, if_pos e2]
    · rw [if_neg e2, if_neg e2, if_neg e]
theorem flL_w {h : hH} {o n o' k : Nat} {v : Nat → Int64} {w : Int32} : wrI (flL h o n v) o' k w = flL (wrI h o' k w) o n v := rfl
def drC (B : Nat → Int32) (h : hH) (n : Nat) : hH := flL (flL (flL (flL h 7 n (fun i => u4B B (12 + 16 * i))) 8 n (fun i => u4B B (16 + 16 * i))) 9 n (fun i => u4B B (20 + 16 * i))) 10 n (fun i => u4B B (24 + 16 * i))
def drM (B : Nat → Int32) (h : hH) (n : Nat) : hH := flL (flL (flL (flI h 195 n (fun i => (u4B B (12 + 16 * i)).toInt32)) 196 n (fun i => u4B B (16 + 16 * i))) 197 n (fun i => u4B B (20 + 16 * i))) 198 n (fun i => u4B B (24 + 16 * i))
theorem CB_w {B : Nat → Int32} {s : Int32} {c : hH} {o k : Nat} {v : Int32} (cb : CB B s c) (h5 : ¬ (o = 5 ∧ k = 1)) (h6 : o ≠ 6) : CB B s (wrI c o k v) := ⟨by rw [rdI_wrI, if_neg (by omega)]; exact cb.1, fun i => by rw [rdI_o (Ne.symm h6)]; exact cb.2 i⟩
theorem CB_e {B : Nat → Int32} {s : Int32} {c g : hH} (cb : CB B s c) (h5 : rdI g 5 1 = rdI c 5 1) (h6 : ∀ k, rdI g 6 k = rdI c 6 k) : CB B s g := ⟨h5.trans cb.1, fun i => (h6 i).trans (cb.2 i)⟩
theorem MB_w {B : Nat → Int32} {s : Int32} {m : hH} {o k : Nat} {v : Int32} (mb : MB B s m) (h5 : ¬ (o = 192 ∧ k = 3)) (h6 : o ≠ 194) : MB B s (wrI m o k v) := ⟨by rw [rdI_wrI, if_neg (by omega)]; exact mb.1, fun i hi => by rw [rdI_o (Ne.symm h6)]; exact mb.2 i hi⟩
theorem MB_e {B : Nat → Int32} {s : Int32} {m g : hH} (mb : MB B s m) (h5 : rdI g 192 3 = rdI m 192 3) (h6 : ∀ k, rdI g 194 k = rdI m 194 k) : MB B s g := ⟨h5.trans mb.1, fun i hi => (h6 i).trans (mb.2 i hi)⟩
/-- the two directories -/
def DR (B : Nat → Int32) (s n : Int32) (c m : hH) : Prop := (rdI c 4 1 = n ∧ rdI m 192 5 = n) ∧ (1 ≤ n ∧ n ≤ 16 ∧ 12 + 16 * n ≤ s) ∧ (∀ i, i < n.toNatClampNeg → rdL c 7 i = u4B B (12 + 16 * i) ∧ rdL c 8 i = u4B B (16 + 16 * i) ∧ rdL c 9 i = u4B B (20 + 16 * i) ∧ rdL c 10 i = u4B B (24 + 16 * i)) ∧ (∀ i, i < n.toNatClampNeg → rdI m 195 i = (u4B B (12 + 16 * i)).toInt32 ∧ rdL m 196 i = u4B B (16 + 16 * i) ∧ rdL m 197 i = u4B B (20 + 16 * i) ∧ rdL m 198 i = u4B B (24 + 16 * i))
theorem srchN {n : Int32} (n0 : 1 ≤ n) (n1 : n ≤ 16) : ∃ r, wh (A := Int32) (B := Int32) (fun p4 =>
              if n < ((2 : Int32) <<< (p4 &&& 31)) then (
                some (.inr p4)
              ) else (
                lz (A := Int32) (p4 + (1 : Int32)) fun v6 =>
                some (.inl v6)
              )
          ) (0 : Int32) = some r := by
  have e0 : (2 : Int32) <<< ((0 : Int32) &&& 31) = 2 := by decide
  have e1 : (2 : Int32) <<< ((1 : Int32) &&& 31) = 4 := by decide
  have e2 : (2 : Int32) <<< ((2 : Int32) &&& 31) = 8 := by decide
  have e3 : (2 : Int32) <<< ((3 : Int32) &&& 31) = 16 := by decide
  have e4 : (2 : Int32) <<< ((4 : Int32) &&& 31) = 32 := by decide
  have a1 : (0 : Int32) + 1 = 1 := by decide
  have a2 : (1 : Int32) + 1 = 2 := by decide
  have a3 : (2 : Int32) + 1 = 3 := by decide
  have a4 : (3 : Int32) + 1 = 4 := by decide
  by_cases q0 : n < 2
  · refine ⟨0, ?_⟩
    rw [wh_eq, e0, if_pos q0]
  by_cases q1 : n < 4
  · refine ⟨1, ?_⟩
    rw [wh_eq, e0, if_neg q0, lz_eq, a1]
    dsimp only
    rw [wh_eq, e1, if_pos q1]
  by_cases q2 : n < 8
  · refine ⟨2, ?_⟩
    rw [wh_eq, e0, if_neg q0, lz_eq, a1]
    dsimp only
    rw [wh_eq, e1, if_neg q1, lz_eq, a2]
    dsimp only
    rw [wh_eq, e2, if_pos q2]
  by_cases q3 : n < 16
  · refine ⟨3, ?_⟩
    rw [wh_eq, e0, if_neg q0, lz_eq, a1]
    dsimp only
    rw [wh_eq, e1, if_neg q1, lz_eq, a2]
    dsimp only
    rw [wh_eq, e2, if_neg q2, lz_eq, a3]
    dsimp only
    rw [wh_eq, e3, if_pos q3]
  · refine ⟨4, ?_⟩
    have q4 : n < 32 := by grind
    rw [wh_eq, e0, if_neg q0, lz_eq, a1]
    dsimp only
    rw [wh_eq, e1, if_neg q1, lz_eq, a2]
    dsimp only
    rw [wh_eq, e2, if_neg q2, lz_eq, a3]
    dsimp only
    rw [wh_eq, e3, if_neg q3, lz_eq, a4]
    dsimp only
    rw [wh_eq, e4, if_pos q4]
noncomputable def drL (p12 : Int32 × hH) : Option ((Int32 × hH) ⊕ hH) :=
  if (rdI p12.2 4 1) ≤ p12.1 then (
    some (.inr p12.2)
  ) else (
    lz (A := Int32) ((12 : Int32) + ((16 : Int32) * p12.1)) fun v14 =>
    bP (f_By_u4 5 v14 p12.2) fun a15 =>
    gd (vp_in p12.1 16) <|
    lz (wrL p12.2 7 (Int32.toNatClampNeg p12.1) a15) fun h2 =>
    bP (f_By_u4 5 (v14 + (4 : Int32)) h2) fun a17 =>
    gd (vp_in p12.1 16) <|
    lz (wrL h2 8 (Int32.toNatClampNeg p12.1) a17) fun h3 =>
    bP (f_By_u4 5 (v14 + (8 : Int32)) h3) fun a19 =>
    gd (vp_in p12.1 16) <|
    lz (wrL h3 9 (Int32.toNatClampNeg p12.1) a19) fun h4 =>
    bP (f_By_u4 5 (v14 + (12 : Int32)) h4) fun a21 =>
    gd (vp_in p12.1 16) <|
    lz (wrL h4 10 (Int32.toNatClampNeg p12.1) a21) fun h5 =>
    lz (A := Int32) (p12.1 + (1 : Int32)) fun v23 =>
    some (.inl (v23, h5))
  )
noncomputable def drN (a1 : Int32) (p11 : Int32 × hH) : Option ((Int32 × hH) ⊕ hH) :=
  if a1 ≤ p11.1 then (
    some (.inr p11.2)
  ) else (
    lz (A := Int32) ((12 : Int32) + ((16 : Int32) * p11.1)) fun v13 =>
    bP (f_Mo_u4 v13 p11.2) fun a14 =>
    gd (vp_in p11.1 16) <|
    lz (wrI p11.2 195 (Int32.toNatClampNeg p11.1) (Int64.toInt32 a14)) fun h2 =>
    bP (f_Mo_u4 (v13 + (4 : Int32)) h2) fun a16 =>
    gd (vp_in p11.1 16) <|
    lz (wrL h2 196 (Int32.toNatClampNeg p11.1) a16) fun h3 =>
    bP (f_Mo_u4 (v13 + (8 : Int32)) h3) fun a18 =>
    gd (vp_in p11.1 16) <|
    lz (wrL h3 197 (Int32.toNatClampNeg p11.1) a18) fun h4 =>
    bP (f_Mo_u4 (v13 + (12 : Int32)) h4) fun a20 =>
    gd (vp_in p11.1 16) <|
    lz (wrL h4 198 (Int32.toNatClampNeg p11.1) a20) fun h5 =>
    lz (A := Int32) (p11.1 + (1 : Int32)) fun v22 =>
    some (.inl (v22, h5))
  )
theorem ar_dd {i n s : Int32} (i0 : 0 ≤ i) (i1 : i < n) (n1 : n ≤ 16) (sn : 12 + 16 * n ≤ s) (s1 : s ≤ 12000) : (0 ≤ 12 + 16 * i ∧ 12 + 16 * i ≤ s - 4) ∧ (0 ≤ 12 + 16 * i + 4 ∧ 12 + 16 * i + 4 ≤ s - 4) ∧ (0 ≤ 12 + 16 * i + 8 ∧ 12 + 16 * i + 8 ≤ s - 4) ∧ (0 ≤ 12 + 16 * i + 12 ∧ 12 + 16 * i + 12 ≤ s - 4) := by
  refine ⟨⟨?_, ?_⟩, ⟨?_, ?_⟩, ⟨?_, ?_⟩, ⟨?_, ?_⟩⟩ <;> grind
theorem xI_d {i : Int32} (i0 : 0 ≤ i) (i1 : i < 16) : (12 + 16 * i).toNatClampNeg = 12 + 16 * i.toNatClampNeg ∧ (12 + 16 * i + 4).toNatClampNeg = 16 + 16 * i.toNatClampNeg ∧ (12 + 16 * i + 8).toNatClampNeg = 20 + 16 * i.toNatClampNeg ∧ (12 + 16 * i + 12).toNatClampNeg = 24 + 16 * i.toNatClampNeg := by
  have hi : i = 0 ∨ i = 1 ∨ i = 2 ∨ i = 3 ∨ i = 4 ∨ i = 5 ∨ i = 6 ∨ i = 7 ∨ i = 8 ∨ i = 9 ∨ i = 10 ∨ i = 11 ∨ i = 12 ∨ i = 13 ∨ i = 14 ∨ i = 15 := by grind
  rcases hi with rfl | rfl | rfl | rfl | rfl | rfl | rfl | rfl | rfl | rfl | rfl | rfl | rfl | rfl | rfl | rfl <;> exact ⟨rfl, rfl, rfl, rfl⟩
theorem drL_eq {B : Nat → Int32} {s n : Int32} {c : hH} (cb : CB B s c) (s0 : 0 ≤ s) (s1 : s ≤ 12000) (e4 : rdI c 4 1 = n) (n0 : 1 ≤ n) (n1 : n ≤ 16) (sn : 12 + 16 * n ≤ s) : wh drL ((0 : Int32), c) = some (drC B c n.toNatClampNeg) := by
  have cS : ∀ k, CB B s (drC B c k) := fun k => CB_e cb rfl (fun _ => rfl)
  refine wh_fill (n := n) ⟨by grind, by grind⟩ (drC B c) (by unfold drC; rw [flL_0, flL_0, flL_0, flL_0]) ?_ ?_
  · unfold drL
    dsimp only
    have : rdI (drC B c n.toNatClampNeg) 4 1 = n := e4
    rw [this, if_pos (Int32.le_refl _)]
  · intro i i0 i1
    obtain ⟨⟨a0, a1⟩, ⟨b0, b1⟩, ⟨c0, c1⟩, ⟨d0, d1⟩⟩ := ar_dd i0 i1 n1 sn s1
    obtain ⟨x0, x1, x2, x3⟩ := xI_d i0 (by grind)
    have v : vp_in i 16 := vp_lt (n := 16) (m := 16) i0 (by grind) rfl
    unfold drL
    dsimp only
    have e41 : rdI (drC B c i.toNatClampNeg) 4 1 = n := e4
    have cW : ∀ (g : hH) (o k : Nat) (w : Int64), CB B s g → CB B s (wrL g o k w) := fun g o k w q => CB_e q rfl (fun _ => rfl)
    rw [e41, if_neg (Int32.not_le.mpr i1), lz_eq, cU4 (cS _) s0 s1 a0 a1, bP_some, gd_pos v, lz_eq, cU4 (cW _ _ _ _ (cS _)) s0 s1 b0 b1, bP_some, gd_pos v, lz_eq, cU4 (cW _ _ _ _ (cW _ _ _ _ (cS _))) s0 s1 c0 c1, bP_some, gd_pos v, lz_eq, cU4 (cW _ _ _ _ (cW _ _ _ _ (cW _ _ _ _ (cS _)))) s0 s1 d0 d1, bP_some, gd_pos v, lz_eq, lz_eq, x0, x1, x2, x3]
    refine congrArg (fun H : hH => (some (.inl (i + 1, H)) : Option ((Int32 × hH) ⊕ hH))) ?_
    unfold drC
    rw [flL_c (o := 10) (o' := 7) (by decide), flL_c (o := 9) (o' := 7) (by decide), flL_c (o := 8) (o' := 7) (by decide), flL_s (o := 7) rfl, flL_c (o := 10) (o' := 8) (by decide), flL_c (o := 9) (o' := 8) (by decide), flL_s (o := 8) rfl, flL_c (o := 10) (o' := 9) (by decide), flL_s (o := 9) rfl, flL_s (o := 10) rfl]
theorem drN_eq {B : Nat → Int32} {s n : Int32} {m : hH} (mb : MB B s m) (s0 : 0 ≤ s) (s1 : s ≤ 12000) (n0 : 1 ≤ n) (n1 : n ≤ 16) (sn : 12 + 16 * n ≤ s) : wh (drN n) ((0 : Int32), m) = some (drM B m n.toNatClampNeg) := by
  have rr : ∀ k o j, rdI (drM B m k) o j = rdI (flI m 195 k (fun i => (u4B B (12 + 16 * i)).toInt32)) o j := fun _ _ _ => rfl
  have cS : ∀ k, MB B s (drM B m k) := fun k => MB_e mb (by rw [rr, rdI_fo (by decide)]) (fun j => by rw [rr, rdI_fo (by decide)])
  refine wh_fill (n := n) ⟨by grind, by grind⟩ (drM B m) (by unfold drM; rw [flI_0, flL_0, flL_0, flL_0]) ?_ ?_
  · unfold drN
    dsimp only
    rw [if_pos (Int32.le_refl _)]
  · intro i i0 i1
    obtain ⟨⟨a0, a1⟩, ⟨b0, b1⟩, ⟨c0, c1⟩, ⟨d0, d1⟩⟩ := ar_dd i0 i1 n1 sn s1
    obtain ⟨x0, x1, x2, x3⟩ := xI_d i0 (by grind)
    have v : vp_in i 16 := vp_lt (n := 16) (m := 16) i0 (by grind) rfl
    unfold drN
    dsimp only
    have cW : ∀ (g : hH) (o k : Nat) (w : Int64), MB B s g → MB B s (wrL g o k w) := fun g o k w q => MB_e q rfl (fun _ => rfl)
    have cV : ∀ (g : hH) (k : Nat) (w : Int32), MB B s g → MB B s (wrI g 195 k w) := fun g k w q => MB_w q (by omega) (by decide)
    rw [if_neg (Int32.not_le.mpr i1), lz_eq, mU4 (cS _) s0 s1 a0 a1, bP_some, gd_pos v, lz_eq, mU4 (cV _ _ _ (cS _)) s0 s1 b0 b1, bP_some, gd_pos v, lz_eq, mU4 (cW _ _ _ _ (cV _ _ _ (cS _))) s0 s1 c0 c1, bP_some, gd_pos v, lz_eq, mU4 (cW _ _ _ _ (cW _ _ _ _ (cV _ _ _ (cS _)))) s0 s1 d0 d1, bP_some, gd_pos v, lz_eq, lz_eq, x0, x1, x2, x3]
    refine congrArg (fun H : hH => (some (.inl (i + 1, H)) : Option ((Int32 × hH) ⊕ hH))) ?_
    unfold drM
    rw [flL_w, flL_w, flL_w, flI_s' rfl, flL_c (o := 198) (o' := 196) (by decide), flL_c (o := 197) (o' := 196) (by decide), flL_s (o := 196) rfl, flL_c (o := 198) (o' := 197) (by decide), flL_s (o := 197) rfl, flL_s (o := 198) rfl]
/-- what the reading of a directory leaves -/
def FrD (c g : hH) : Prop := (∀ o k, ¬ (o = 4 ∧ k = 1) → rdI g o k = rdI c o k) ∧ (∀ o k, o < 7 ∨ 10 < o → rdL g o k = rdL c o k) ∧ (∀ o k, rdP g o k = rdP c o k)
def FrE (m g : hH) : Prop := (∀ o k, ¬ (o = 192 ∧ k = 5) → o ≠ 195 → rdI g o k = rdI m o k) ∧ (∀ o k, o < 196 ∨ 198 < o → rdL g o k = rdL m o k) ∧ (∀ o k, rdP g o k = rdP m o k)
theorem L_dir {B : Nat → Int32} {s : Int32} {c m : hH} (cb : CB B s c) (mb : MB B s m) (s0 : 0 ≤ s) (s1 : s ≤ 12000) : ∃ a c' m', f_Fo_isDirectory c = some (a, c') ∧ f_Mo_directory m = some (a, m') ∧ FrD c c' ∧ FrE m m' ∧ (a = 0 ∨ (a = 1 ∧ ∃ n, DR B s n c' m')) := by
  have n10 : ¬ (1 : Int32) = 0 := by decide
  have frC : FrD c c := ⟨fun _ _ _ => rfl, fun _ _ _ => rfl, fun _ _ => rfl⟩
  have frM : FrE m m := ⟨fun _ _ _ _ => rfl, fun _ _ _ => rfl, fun _ _ => rfl⟩
  obtain ⟨w4, ew4⟩ := mT2 (p := 4) mb s1
  unfold f_Fo_isDirectory f_Mo_directory
  rw [cb.1, mb.1, ew4, bP_some]
  by_cases q : s < 12
  · rw [if_pos q, if_pos q]
    exact ⟨_, _, _, rfl, rfl, frC, frM, Or.inl rfl⟩
  have e4 : w4 = u2B B 4 := by
    have := mU2 (p := 4) mb s0 s1 (by decide) (by grind)
    rw [ew4] at this
    exact Option.some.inj this
  rw [if_neg q, if_neg q, cU4 (p := 0) cb s0 s1 (by decide) (by grind), mU4 (p := 0) mb s0 s1 (by decide) (by grind), bP_some, bP_some]
  have z0 : (0 : Int32).toNatClampNeg = 0 := rfl
  rw [z0]
  by_cases q2n : ¬ (u4B B 0 = 65536)
  · rw [if_neg q2n, if_neg q2n]
    exact ⟨_, _, _, rfl, rfl, frC, frM, Or.inl rfl⟩
  have q2 : u4B B 0 = 65536 := Decidable.not_not.mp q2n
  have e42 := cU2 (p := 4) cb s0 s1 (by decide) (by grind)
  have z4 : (4 : Int32).toNatClampNeg = 4 := rfl
  rw [z4] at e42
  rw [if_pos q2, if_pos q2, e42, bP_some, lz_eq, e4]
  generalize hn : u2B B 4 = n
  have r41 : rdI (wrI c 4 1 n) 4 1 = n := by rw [rdI_wrI, if_pos ⟨rfl, rfl⟩]
  have cb1 : CB B s (wrI c 4 1 n) := CB_w cb (by omega) (by decide)
  have fr1 : FrD c (wrI c 4 1 n) := ⟨fun o k w => by rw [rdI_wrI, if_neg w], fun _ _ _ => rfl, fun _ _ => rfl⟩
  have w1 : f_HH_within n.toInt64 1 16 = some (if 1 ≤ n ∧ n ≤ 16 then 1 else 0) := wi_lit (a := 1) (b := 16)
  rw [r41, ← wi_in, w1, bP_some, bP_some]
  by_cases q3n : ¬ (1 ≤ n ∧ n ≤ 16)
  · rw [if_neg q3n, if_pos rfl, if_pos rfl]
    exact ⟨_, _, _, rfl, rfl, fr1, frM, Or.inl rfl⟩
  have q3 : 1 ≤ n ∧ n ≤ 16 := Decidable.not_not.mp q3n
  obtain ⟨r, er⟩ := srchN q3.1 q3.2
  rw [if_pos q3, if_neg n10, if_neg n10, er, bP_some, bP_some, lz_eq, cb1.1]
  have m6 := mU2 (p := 6) mb s0 s1 (by decide) (by grind)
  have m8 := mU2 (p := 8) mb s0 s1 (by decide) (by grind)
  have m10 := mU2 (p := 10) mb s0 s1 (by decide) (by grind)
  have c6 := cU2 (p := 6) cb1 s0 s1 (by decide) (by grind)
  have c8 := cU2 (p := 8) cb1 s0 s1 (by decide) (by grind)
  have c10 := cU2 (p := 10) cb1 s0 s1 (by decide) (by grind)
  rw [m6, m8, m10, c6, c8, c10]
  simp only [bP_some]
  by_cases t1n : ¬ (u2B B (6 : Int32).toNatClampNeg = 16 <<< (r &&& 31))
  · rw [if_neg t1n, if_neg t1n]
    refine ⟨0, _, _, rfl, ?_, fr1, frM, Or.inl rfl⟩
    split <;> rfl
  have t1 : u2B B (6 : Int32).toNatClampNeg = 16 <<< (r &&& 31) := Decidable.not_not.mp t1n
  rw [if_pos t1, if_pos t1]
  by_cases t2n : ¬ (u2B B (8 : Int32).toNatClampNeg = r)
  · rw [if_neg t2n, if_neg t2n]
    refine ⟨0, _, _, rfl, ?_, fr1, frM, Or.inl rfl⟩
    split <;> rfl
  have t2 : u2B B (8 : Int32).toNatClampNeg = r := Decidable.not_not.mp t2n
  rw [if_pos t2, if_pos t2]
  by_cases t3n : ¬ (u2B B (10 : Int32).toNatClampNeg = (16 : Int32) * n - (16 : Int32) <<< (r &&& 31))
  · rw [if_neg t3n, if_neg t3n]
    refine ⟨0, _, _, rfl, ?_, fr1, frM, Or.inl rfl⟩
    split <;> rfl
  have t3 : u2B B (10 : Int32).toNatClampNeg = (16 : Int32) * n - (16 : Int32) <<< (r &&& 31) := Decidable.not_not.mp t3n
  rw [if_pos t3, if_pos t3]
  by_cases t4n : ¬ (12 + 16 * n ≤ s)
  · rw [if_neg t4n, if_neg t4n]
    exact ⟨0, _, _, rfl, rfl, fr1, frM, Or.inl rfl⟩
  have t4 : 12 + 16 * n ≤ s := Decidable.not_not.mp t4n
  have mb1 : MB B s (wrI m 192 5 n) := MB_w mb (by omega) (by decide)
  have wC := drL_eq cb1 s0 s1 r41 q3.1 q3.2 t4
  have wM := drN_eq mb1 s0 s1 q3.1 q3.2 t4
  rw [if_pos t4, if_pos t4, lz_eq]
  change ∃ a c' m', bP (wh drL ((0 : Int32), wrI c 4 1 n)) (fun p13 => some ((1 : Int32), p13)) = some (a, c') ∧ bP (wh (drN n) ((0 : Int32), wrI m 192 5 n)) (fun p12 => some ((1 : Int32), p12)) = some (a, m') ∧ _
  rw [wC, wM, bP_some, bP_some]
  have rM : ∀ o k, rdI (drM B (wrI m 192 5 n) n.toNatClampNeg) o k = rdI (flI (wrI m 192 5 n) 195 n.toNatClampNeg (fun i => (u4B B (12 + 16 * i)).toInt32)) o k := fun _ _ => rfl
  refine ⟨_, _, _, rfl, rfl, ⟨fun o k w => fr1.1 o k w, fun o k w => ?_, fun _ _ => rfl⟩, ⟨fun o k w w2 => ?_, fun o k w => ?_, fun _ _ => rfl⟩, Or.inr ⟨rfl, n, ⟨r41, ?_⟩, ⟨q3.1, q3.2, t4⟩, fun i hi => ?_, fun i hi => ?_⟩⟩
  · unfold drC
    rw [rdL_flL, if_neg (by omega), rdL_flL, if_neg (by omega), rdL_flL, if_neg (by omega), rdL_flL, if_neg (by omega)]
    rfl
  · rw [rM, rdI_fo w2, rdI_wrI, if_neg w]
  · unfold drM
    rw [rdL_flL, if_neg (by omega), rdL_flL, if_neg (by omega), rdL_flL, if_neg (by omega)]
    rfl
  · rw [rM, rdI_fo (by decide), rdI_wrI, if_pos ⟨rfl, rfl⟩]
  · unfold drC
    refine ⟨?_, ?_, ?_, ?_⟩
    · rw [rdL_flL, if_neg (by omega), rdL_flL, if_neg (by omega), rdL_flL, if_neg (by omega), rdL_flL, if_pos ⟨rfl, hi⟩]
    · rw [rdL_flL, if_neg (by omega), rdL_flL, if_neg (by omega), rdL_flL, if_pos ⟨rfl, hi⟩]
    · rw [rdL_flL, if_neg (by omega), rdL_flL, if_pos ⟨rfl, hi⟩]
    · rw [rdL_flL, if_pos ⟨rfl, hi⟩]
  · refine ⟨?_, ?_, ?_, ?_⟩
    · rw [rM, rdI_flI, if_pos ⟨rfl, hi⟩]
    · unfold drM
      rw [rdL_flL, if_neg (by omega), rdL_flL, if_neg (by omega), rdL_flL, if_pos ⟨rfl, hi⟩]
    · unfold drM
      rw [rdL_flL, if_neg (by omega), rdL_flL, if_pos ⟨rfl, hi⟩]
    · unfold drM
      rw [rdL_flL, if_pos ⟨rfl, hi⟩]
