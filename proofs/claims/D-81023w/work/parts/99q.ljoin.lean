/-! LAYER 3AY: the joining, on both sides -/
theorem ar_j {n n' e : Int32} (n0 : 0 ≤ n ∧ n ≤ 100) (n1 : 0 ≤ n' ∧ n' ≤ 100) : (0 ≤ e → e < n → e < n + n') ∧ (0 ≤ e → e < n' → 0 ≤ n + e ∧ n + e < n + n' ∧ n - 1 < n + e) ∧ (n + (n' - 1) = n + n' - 1) ∧ (n' = 0 → n - 1 = n + n' - 1) := by
  refine ⟨fun a b => ?_, fun a b => ⟨?_, ?_, ?_⟩, ?_, fun a => ?_⟩ <;> grind
theorem ar_j2 {n e e' : Int32} (n0 : 0 ≤ n ∧ n ≤ 100) (a : 0 ≤ e) (b : e < e') (c : e' ≤ 100) : n + e < n + e' := by grind
theorem EN_join {e e0 e1 : Nat → Int32} {c n c' n' : Int32} (h0 : EN e0 c n) (h1 : EN e1 c' n') (s1 : n + n' ≤ 100) (s2 : c + c' ≤ 20) (b0 : ∀ i, i < c.toNatClampNeg → e i = e0 i) (b1 : ∀ i, i < c'.toNatClampNeg → e (c.toNatClampNeg + i) = n + e1 i) : EN e (c + c') (n + n') := by
  obtain ⟨p1, p2, p3, p4, p5, p6, p7, p8⟩ := h0
  obtain ⟨q1, q2, q3, q4, q5, q6, q7, q8⟩ := h1
  have ec : (c + c').toNatClampNeg = c.toNatClampNeg + c'.toNatClampNeg := xI_add (m := 1000) p1 (by grind) q1 (by grind) (by decide)
  have A := fun e => ar_j (n := n) (n' := n') (e := e) ⟨p3, p4⟩ ⟨q3, q4⟩
  refine ⟨by grind, s2, by grind, s1, ?_, ?_, ?_, ?_⟩
  · constructor
    · intro w
      have a : c = 0 := by grind
      have b : c' = 0 := by grind
      rw [p5.mp a, q5.mp b]
      decide
    · intro w
      have a : n = 0 := by grind
      have b : n' = 0 := by grind
      rw [p5.mpr a, q5.mpr b]
      decide
  · intro k hk
    rw [ec] at hk
    by_cases w : k < c.toNatClampNeg
    · rw [b0 k w]
      exact ⟨(p6 k w).1, (A _).1 (p6 k w).1 (p6 k w).2⟩
    · have hi : k - c.toNatClampNeg < c'.toNatClampNeg := by omega
      have ek : k = c.toNatClampNeg + (k - c.toNatClampNeg) := by omega
      rw [ek, b1 _ hi]
      have := (A (e1 (k - c.toNatClampNeg))).2.1 (q6 _ hi).1 (q6 _ hi).2
      exact ⟨this.1, this.2.1⟩
  · intro k hk
    rw [ec] at hk
    by_cases w : k + 1 < c.toNatClampNeg
    · rw [b0 k (by omega), b0 (k + 1) w]
      exact p7 k w
    · by_cases w2 : k + 1 = c.toNatClampNeg
      · have h0' : 0 < c'.toNatClampNeg := by omega
        have cp : 0 < c := (xI_lt (x := 0) (y := c) (by decide) p1).mp (by show 0 < c.toNatClampNeg; omega)
        have e1' := b1 0 h0'
        rw [Nat.add_zero] at e1'
        rw [b0 k (by omega), w2, e1', show k = c.toNatClampNeg - 1 by omega, p8 cp]
        exact ((A (e1 0)).2.1 (q6 0 h0').1 (q6 0 h0').2).2.2
      · have hi : k - c.toNatClampNeg + 1 < c'.toNatClampNeg := by omega
        have ek : k = c.toNatClampNeg + (k - c.toNatClampNeg) := by omega
        have ek1 : k + 1 = c.toNatClampNeg + (k - c.toNatClampNeg + 1) := by omega
        rw [ek1, b1 _ hi]
        rw [show e k = e (c.toNatClampNeg + (k - c.toNatClampNeg)) from congrArg e ek, b1 _ (by omega)]
        exact ar_j2 ⟨p3, p4⟩ (q6 _ (by omega)).1 (q7 _ hi) (by have := (q6 _ hi).2; grind)
  · intro w
    show e ((c + c').toNatClampNeg - 1) = n + n' - 1
    rw [ec]
    by_cases w1 : 0 < c'.toNatClampNeg
    · have cp : 0 < c' := (xI_lt (x := 0) (y := c') (by decide) q1).mp w1
      rw [show c.toNatClampNeg + c'.toNatClampNeg - 1 = c.toNatClampNeg + (c'.toNatClampNeg - 1) by omega, b1 _ (by omega), q8 cp]
      exact (A 0).2.2.1
    · have z : c'.toNatClampNeg = 0 := by omega
      have cz : c' = 0 := xI_inj q1 (by decide) z
      have cp : 0 < c := by rw [cz] at w; grind
      have cp' := (xI_lt (x := 0) (y := c) (by decide) p1).mpr cp
      have z0 : (0 : Int32).toNatClampNeg = 0 := rfl
      rw [z, Nat.add_zero, b0 _ (by omega), p8 cp]
      exact (A 0).2.2.2 (q5.mp cz)
theorem L_join {d J : Nat} {hc hm : hH} (o0 : OD d hc hm) (o1 : OD (d + 1) hc hm) (p0 : PH d hc hm) (p1 : PH (d + 1) hc hm) (fl : rdI hm 203 J = rdI hc (82 + 17 * d) J) (a1 : rdI hm 205 J = rdI hc (84 + 17 * d) J) (a2 : rdI hm 206 J = rdI hc (85 + 17 * d) J) (mx : ∀ i, i < 4 → rdI hm 207 (4 * J + i) = rdI hc (86 + 17 * d) (4 * J + i)) (s1 : rdI hc (70 + 17 * d) 3 + rdI hc (87 + 17 * d) 3 ≤ 100) (s2 : rdI hc (70 + 17 * d) 5 + rdI hc (87 + 17 * d) 5 ≤ 20) (ok : ¬ (jfl d hc J &&& 2 = 0 ∧ (rdI hc (70 + 17 * d) 3 ≤ rdI hc (84 + 17 * d) J ∨ rdI hc (87 + 17 * d) 3 ≤ rdI hc (85 + 17 * d) J))) (nn : jfl d hc J &&& 2 = 0 → 0 ≤ rdI hc (84 + 17 * d) J ∧ 0 ≤ rdI hc (85 + 17 * d) J) : OD d (jnF d hc J) (mJF hc hm d J) ∧ PH d (jnF d hc J) (mJF hc hm d J) := by
  obtain ⟨⟨o1a, o1b⟩, o1c, o1d, o1e⟩ := o1
  obtain ⟨⟨o0a, o0b⟩, o0c, o0d, o0e⟩ := o0
  obtain ⟨k0, k1, k2, k3, k4, k5, k6⟩ := od_k (d := d)
  rw [k0] at o1a o1b
  rw [k0, k4] at o1c
  simp only [k0, k1, k2, k3] at o1d
  simp only [k0, k4] at o1e
  have m0 : rdI hm 207 (4 * J) = rdI hc (86 + 17 * d) (4 * J) := mx 0 (by decide)
  have jxe : ∀ i, i < (rdI hc (87 + 17 * d) 3).toNatClampNeg → mjx hm d (rdI hm 207 (4 * J)) (rdI hm 207 (4 * J + 2)) i = jx d hc J i ∧ mjx hm d (rdI hm 207 (4 * J + 1)) (rdI hm 207 (4 * J + 3)) i = jy d hc J i := fun i hi => by
    obtain ⟨x1, x2, _, _⟩ := o1d i hi
    unfold mjx jx jy
    rw [m0, mx 1 (by decide), mx 2 (by decide), mx 3 (by decide), show 102 * d + 102 + i = 102 * (d + 1) + i by omega, x1, x2]
    exact ⟨rfl, rfl⟩
  have eD : mJD hc hm d J = jD d hc J := by
    unfold mJD jD
    have fe : rdI hm 203 J = jfl d hc J := fl
    rw [fe, a1, a2]
    by_cases q : jfl d hc J &&& 2 = 0
    · obtain ⟨z1, z2⟩ := nn q
      have l1 : rdI hc (84 + 17 * d) J < rdI hc (70 + 17 * d) 3 := Int32.not_le.mp (fun w => ok ⟨q, Or.inl w⟩)
      have l2 : rdI hc (85 + 17 * d) J < rdI hc (87 + 17 * d) 3 := Int32.not_le.mp (fun w => ok ⟨q, Or.inr w⟩)
      have i1 := (xI_lt z1 o0c.2.2.1).mpr l1
      have i2 := (xI_lt z2 o1c.2.2.1).mpr l2
      obtain ⟨x1, x2, _, _⟩ := o0d _ i1
      obtain ⟨y1, y2⟩ := jxe _ i2
      rw [if_pos q, if_pos q, mJX_b (o := 238) (k := 102 * d + (rdI hc (84 + 17 * d) J).toNatClampNeg) (by rw [o0a]; omega), mJX_b (o := 239) (k := 102 * d + (rdI hc (84 + 17 * d) J).toNatClampNeg) (by rw [o0a]; omega), x1, x2]
      obtain ⟨w1, w2, _⟩ := mJX_i (h := hm) (d := d) (J := J) (i := (rdI hc (85 + 17 * d) J).toNatClampNeg) (by rw [o1a]; exact i2)
      rw [w1, w2, y1, y2]
    · rw [if_neg q, if_neg q]
  have en : (rdI hc (70 + 17 * d) 3 + rdI hc (87 + 17 * d) 3).toNatClampNeg = (rdI hc (70 + 17 * d) 3).toNatClampNeg + (rdI hc (87 + 17 * d) 3).toNatClampNeg := xI_add (m := 1000) o0c.2.2.1 (Int32.le_trans o0c.2.2.2.1 (by decide)) o1c.2.2.1 (Int32.le_trans o1c.2.2.2.1 (by decide)) (by decide)
  have ec : (rdI hc (70 + 17 * d) 5 + rdI hc (87 + 17 * d) 5).toNatClampNeg = (rdI hc (70 + 17 * d) 5).toNatClampNeg + (rdI hc (87 + 17 * d) 5).toNatClampNeg := xI_add (m := 1000) o0c.1 (Int32.le_trans o0c.2.1 (by decide)) o1c.1 (Int32.le_trans o1c.2.1 (by decide)) (by decide)
  refine ⟨⟨⟨?_, ?_⟩, ?_, ?_, ?_⟩, ?_⟩
  · rw [mJF_6, jnF_3, o0a, o1a]
  · rw [mJF_7, jnF_5, o0b, o1b]
  · rw [jnF_3, jnF_5]
    exact EN_join o0c o1c s1 s2 (fun i hi => jnF_e.1 hi) (fun i hi => jnF_e.2 hi)
  · intro i hi
    rw [jnF_3, en] at hi
    by_cases w : i < (rdI hc (70 + 17 * d) 3).toNatClampNeg
    · rw [jnF_b w (by omega), jnF_b w (by omega), jnF_b w (by omega), mJF_b (by omega) (by rw [o0a]; omega), mJF_b (by omega) (by rw [o0a]; omega), mJF_b (by omega) (by rw [o0a]; omega)]
      exact o0d i w
    · have hk : i - (rdI hc (70 + 17 * d) 3).toNatClampNeg < (rdI hc (87 + 17 * d) 3).toNatClampNeg := by omega
      have ei : i = (rdI hc (70 + 17 * d) 3).toNatClampNeg + (i - (rdI hc (70 + 17 * d) 3).toNatClampNeg) := by omega
      have em : 102 * d + i = 102 * d + (rdI hm 236 d).toNatClampNeg + (i - (rdI hc (70 + 17 * d) 3).toNatClampNeg) := by rw [o0a]; omega
      obtain ⟨u1, u2, u3⟩ := jnF_i (J := J) hk
      obtain ⟨v1, v2, v3⟩ := mJF_i (hc := hc) (h := hm) (d := d) (J := J) (i := i - (rdI hc (70 + 17 * d) 3).toNatClampNeg) (by rw [o1a]; exact hk)
      obtain ⟨x1, x2⟩ := jxe _ hk
      obtain ⟨_, _, y3, y4⟩ := o1d _ hk
      rw [em, v1, v2, v3]
      have r1 : ∀ o, rdI (jnF d hc J) o i = rdI (jnF d hc J) o ((rdI hc (70 + 17 * d) 3).toNatClampNeg + (i - (rdI hc (70 + 17 * d) 3).toNatClampNeg)) := fun o => congrArg _ ei
      rw [r1, r1, r1, u1, u2, u3, x1, x2, eD, show 102 * d + 102 + (i - (rdI hc (70 + 17 * d) 3).toNatClampNeg) = 102 * (d + 1) + (i - (rdI hc (70 + 17 * d) 3).toNatClampNeg) by omega, y3]
      refine ⟨rfl, rfl, rfl, ?_⟩
      rcases y4 with y | y <;> rw [y] <;> decide
  · intro i hi
    rw [jnF_5, ec] at hi
    by_cases w : i < (rdI hc (70 + 17 * d) 5).toNatClampNeg
    · rw [jnF_e.1 w, mJF_e.1 (by rw [o0b]; exact w)]
      exact o0e i w
    · have hk : i - (rdI hc (70 + 17 * d) 5).toNatClampNeg < (rdI hc (87 + 17 * d) 5).toNatClampNeg := by omega
      have ei : i = (rdI hc (70 + 17 * d) 5).toNatClampNeg + (i - (rdI hc (70 + 17 * d) 5).toNatClampNeg) := by omega
      have em : 20 * d + i = 20 * d + (rdI hm 237 d).toNatClampNeg + (i - (rdI hc (70 + 17 * d) 5).toNatClampNeg) := by rw [o0b]; omega
      have r1 : rdI (jnF d hc J) (74 + 17 * d) i = rdI (jnF d hc J) (74 + 17 * d) ((rdI hc (70 + 17 * d) 5).toNatClampNeg + (i - (rdI hc (70 + 17 * d) 5).toNatClampNeg)) := congrArg _ ei
      rw [em, mJF_e.2 (by rw [o1b]; exact hk), r1, jnF_e.2 hk, o0a, show 20 * d + 20 + (i - (rdI hc (70 + 17 * d) 5).toNatClampNeg) = 20 * (d + 1) + (i - (rdI hc (70 + 17 * d) 5).toNatClampNeg) by omega, o1e _ hk]
  · have W : ∀ k, rdI (mJU hc hm d J) 242 k = rdI hm 242 k := fun k => by
      unfold mJU
      rw [rdI_o (by decide), rdI_o (by decide)]
      exact mJW_o (by decide) (by decide) (by decide) (by decide)
    have V : ∀ o k, o = 75 + 17 * d ∨ o = 76 + 17 * d ∨ o = 92 + 17 * d ∨ o = 93 + 17 * d → rdI (jU d hc J) o k = rdI hc o k := fun o k ho => by
      unfold jU
      rw [rdI_o (by omega), rdI_o (by omega)]
      exact jW_o (by omega)
    unfold jnF mJF
    have fe : rdI hm 203 J = jfl d hc J := fl
    rw [fe]
    by_cases q : jfl d hc J &&& 512 = 0
    · rw [if_pos q, if_pos q]
      unfold PH
      rw [W, W, W, W, V _ _ (by omega), V _ _ (by omega), V _ _ (by omega), V _ _ (by omega)]
      exact p0
    · rw [if_neg q, if_neg q]
      obtain ⟨t1, t2, t3, t4⟩ := p1
      rw [k5] at t1 t3
      rw [k6] at t2 t4
      have C : ∀ i, i < 2 → rdI (cpP d (jU d hc J)) (75 + 17 * d) i = rdI hc (92 + 17 * d) i ∧ rdI (cpP d (jU d hc J)) (76 + 17 * d) i = rdI hc (93 + 17 * d) i := fun i hi => by
        have := mt2_i (h := jU d hc J) (o := 75 + 17 * d) (p := 76 + 17 * d) (b := 0) (u := fun i => rdI (jU d hc J) (92 + 17 * d) i) (v := fun i => rdI (jU d hc J) (93 + 17 * d) i) hi (by omega)
        rw [Nat.zero_add] at this
        refine ⟨this.1.trans (V _ _ (by omega)), this.2.trans (V _ _ (by omega))⟩
      have M : ∀ i, i < 4 → rdI (mj4 (mJU hc hm d J) d 4) 242 (4 * d + i) = rdI hm 242 (4 * d + 4 + i) := fun i hi => by
        unfold mj4
        rw [rdI_mi hi, W]
      unfold PH
      have M0 := M 0 (by decide)
      rw [Nat.add_zero, Nat.add_zero] at M0
      rw [M0, M 1 (by decide), M 2 (by decide), M 3 (by decide), (C 0 (by decide)).1, (C 0 (by decide)).2, (C 1 (by decide)).1, (C 1 (by decide)).2]
      refine ⟨t1, t2, t3, t4⟩
