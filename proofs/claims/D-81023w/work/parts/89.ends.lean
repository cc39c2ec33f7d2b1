/-! LAYER 3Y: ends of contours, on both sides -/
/-- the state of the reading of ends -/
def IE (z : Nat) (hc hm : hH) (at' c : Int32) (s : Int32 × Int32 × hH) (t : Int32 × Int32 × Int32 × hH) : Prop := s.1 = t.2.1 ∧ s.2.1 = t.2.2.1 ∧ rdI s.2.2 z 16 = t.1 ∧ FrG z hc s.2.2 ∧ FrN hm t.2.2.2 ∧ (∀ k, k ≠ 16 → rdI s.2.2 z k = rdI hc z k) ∧ (∀ k, rdI t.2.2.2 192 k = rdI hm 192 k) ∧ 0 ≤ s.2.1 ∧ s.2.1 ≤ c ∧ t.1 = at' + 2 * s.2.1 ∧ (∀ i, i < s.2.1.toNatClampNeg → rdI t.2.2.2 199 i = rdI s.2.2 (z + 1) i) ∧ EE2 (fun i => rdI s.2.2 (z + 1) i) s.2.1.toNatClampNeg s.1
def RE (z : Nat) (hc hm : hH) (at' c : Int32) (y : (Int32 × hH) ⊕ (Int32 × hH)) (w : (Int32 × Int32 × hH) ⊕ (Int32 × hH)) : Prop := match y, w with
  | .inl s, .inl t => IE z hc hm at' c (s.1, c, s.2) (t.1, t.2.1, c, t.2.2)
  | .inr s, .inr t => s.1 = 0 ∧ t.1 = 0 ∧ FrG z hc s.2 ∧ FrN hm t.2
  | _, _ => False
theorem L_ends {z : Nat} {hc hm : hH} {at' c en : Int32} (hz : isGl z) (hP : rdP hc z 15 = 5) (hb : BY hc hm) (e0 : rdI hc z 0 = c) (e28 : rdI hm 192 28 = c) (hc0 : 0 ≤ c ∧ c ≤ 12) (e16 : rdI hc z 16 = at') (ha : 0 ≤ at') (hen : at' + 2 * c ≤ en) (hen2 : en ≤ rdI hc 5 1) (ha2 : at' ≤ 12000) : OK2 (wh (endC z) ((-1 : Int32), (0 : Int32), hc)) (wh endM (at', (-1 : Int32), (0 : Int32), hm)) (RE z hc hm at' c) := by
  obtain ⟨⟨r3, _, _, _, _⟩, _, _, z10, z180, _, _⟩ := gl_rf hz
  have b3 := hb.2.2.1
  refine OK2_wh (IE z hc hm at' c) (fun s => c.toNatClampNeg - s.2.1.toNatClampNeg) ?_ (s := ((-1 : Int32), (0 : Int32), hc)) (t := (at', (-1 : Int32), (0 : Int32), hm)) ⟨rfl, rfl, e16, FrG_rfl, FrN_rfl, fun _ _ => rfl, fun _ => rfl, by show (0 : Int32) ≤ 0; decide, hc0.1, by show at' = at' + 2 * 0; grind, fun i hi => absurd hi (Nat.not_lt_zero _), ⟨fun i hi => absurd hi (Nat.not_lt_zero _), fun i hi => absurd hi (Nat.not_lt_zero _), fun _ => rfl, fun q => absurd q (Nat.lt_irrefl 0), by show (-1 : Int32) ≤ -1; decide, by show (-1 : Int32) < 100; decide⟩⟩
  rintro ⟨b, k, g⟩ ⟨p, l, k', m⟩ ⟨h1, h2, h3, h4, h5, h6, h7, h8, h9, h10, h11, h12⟩
  dsimp only at h1 h2 h3 h4 h5 h6 h7 h8 h9 h10 h11 h12
  subst h1
  subst h2
  have g0 : rdI g z 0 = c := (h6 0 (by decide)).trans e0
  have m28 : rdI m 192 28 = c := (h7 28).trans e28
  have gP : rdP g z 15 = 5 := (h4.2.1 _ _).trans hP
  unfold endC endM
  dsimp only
  rw [g0, m28]
  by_cases q : c ≤ k
  · rw [if_pos q, if_pos q]
    have e : k = c := by grind
    subst e
    exact OK2_of rfl rfl ⟨rfl, rfl, h3, h4, h5, h6, h7, h8, h9, h10, h11, h12⟩
  · have kc := Int32.not_le.mp q
    have v12 : vp_in k 12 := vp_lt (n := 12) (m := 12) h8 (by grind) rfl
    have p0 : 0 ≤ p := by rw [h10]; grind
    have p1 : p + 1 < rdI hc 5 1 := by rw [h10]; grind
    have p2 : p < rdI hc 5 1 := by rw [h10]; grind
    have hbg : BY hc m := BY_fr z10 FrG_rfl h5 hb
    rw [if_neg q, if_neg q, gP, gd_pos isA1, h3, By_u2_eq p0 (by grind) (by grind), Mo_u2_eq hbg p0 p1 p2, u2N_fr z10 h4]
    have ur := u2N_r hc p.toNatClampNeg
    generalize u2N hc p.toNatClampNeg = u at ur ⊢
    simp only [bP_some, lz, gd_pos v12, r3]
    have e1 : rdI (wrI (wrI g (z + 1) k.toNatClampNeg u) z 16 (rdI (wrI g (z + 1) k.toNatClampNeg u) z 16 + 2)) (z + 1) k.toNatClampNeg = u := by
      rw [rdI_o (by omega), rdI_wrI, if_pos ⟨rfl, rfl⟩]
    have e2 : rdI (wrI g (z + 1) k.toNatClampNeg u) z 16 = p := by rw [rdI_o (by omega)]; exact h3
    rw [e1, e2]
    have fG : FrG z hc (wrI (wrI g (z + 1) k.toNatClampNeg u) z 16 (p + 2)) := FrG_w (FrG_w h4 (by omega)) (by omega)
    by_cases w : u ≤ b
    · rw [if_pos w, if_pos w]
      exact OK2_of rfl rfl ⟨rfl, rfl, fG, h5⟩
    · rw [if_neg w, if_neg w]
      by_cases w2 : u < 100
      · rw [if_pos w2, if_pos w2]
        have ii : (k + 1).toNatClampNeg = k.toNatClampNeg + 1 := xI_succ (m := 12) h8 (by grind) (by decide)
        have i2 := (xI_lt h8 hc0.1).mpr kc
        have ga : ∀ i, i ≠ k.toNatClampNeg → rdI (wrI (wrI g (z + 1) k.toNatClampNeg u) z 16 (p + 2)) (z + 1) i = rdI g (z + 1) i := fun i hi => by
          rw [rdI_o (by omega), rdI_wrI, if_neg (fun q => hi q.2)]
        have gk : rdI (wrI (wrI g (z + 1) k.toNatClampNeg u) z 16 (p + 2)) (z + 1) k.toNatClampNeg = u := by
          rw [rdI_o (by omega), rdI_wrI, if_pos ⟨rfl, rfl⟩]
        refine OK2_of rfl rfl ⟨⟨rfl, rfl, ?_, fG, FrN_w h5 (by omega), ?_, ?_, by show 0 ≤ k + 1; grind, by show k + 1 ≤ c; grind, by show p + 2 = at' + 2 * (k + 1); rw [h10]; grind, ?_, ?_⟩, ?_⟩
        · show rdI (wrI (wrI g (z + 1) k.toNatClampNeg u) z 16 (p + 2)) z 16 = p + 2
          rw [rdI_wrI, if_pos ⟨rfl, rfl⟩]
        · intro j hj
          show rdI (wrI (wrI g (z + 1) k.toNatClampNeg u) z 16 (p + 2)) z j = _
          rw [rdI_wrI, if_neg (fun q => hj q.2), rdI_o (by omega)]
          exact h6 j hj
        · intro j
          show rdI (wrI m 199 k.toNatClampNeg u) 192 j = _
          rw [rdI_o (by decide)]
          exact h7 j
        · intro i hi
          show rdI (wrI m 199 k.toNatClampNeg u) 199 i = rdI (wrI (wrI g (z + 1) k.toNatClampNeg u) z 16 (p + 2)) (z + 1) i
          have hi' : i < k.toNatClampNeg + 1 := by rw [← ii]; exact hi
          by_cases e : i = k.toNatClampNeg
          · rw [e, gk, rdI_wrI, if_pos ⟨rfl, rfl⟩]
          · rw [ga i e, rdI_wrI, if_neg (fun q => e q.2)]
            exact h11 i (by omega)
        · show EE2 (fun i => rdI (wrI (wrI g (z + 1) k.toNatClampNeg u) z 16 (p + 2)) (z + 1) i) (k + 1).toNatClampNeg u
          rw [ii]
          exact EE2_s h12 (Int32.not_le.mp w) w2 (fun i hi => ga i (by omega)) gk
        · show c.toNatClampNeg - (k + 1).toNatClampNeg < c.toNatClampNeg - k.toNatClampNeg
          omega
      · rw [if_neg w2, if_neg w2]
        exact OK2_of rfl rfl ⟨rfl, rfl, fG, h5⟩
/-- the component's loop alone -/
theorem O_ends {z : Nat} {hc : hH} {at' c en : Int32} (hz : isGl z) (hP : rdP hc z 15 = 5) (e0 : rdI hc z 0 = c) (hc0 : 0 ≤ c ∧ c ≤ 12) (e16 : rdI hc z 16 = at') (ha : 0 ≤ at') (hen : at' + 2 * c ≤ en) (hen2 : en ≤ 12000) (ha2 : at' ≤ 12000) : OK (wh (endC z) ((-1 : Int32), (0 : Int32), hc)) (fun y => match y with
    | .inl s => rdI s.2 z 16 = at' + 2 * c ∧ rdI s.2 z 17 = rdI hc z 17 ∧ FrG z hc s.2
    | .inr s => s.1 = 0 ∧ FrG z hc s.2) := by
  obtain ⟨⟨r3, _, _, _, _⟩, _, _, z10, z180, _, _⟩ := gl_rf hz
  refine OK_wh (fun s => FrG z hc s.2.2 ∧ (∀ k, k ≠ 16 → rdI s.2.2 z k = rdI hc z k) ∧ 0 ≤ s.2.1 ∧ s.2.1 ≤ c ∧ rdI s.2.2 z 16 = at' + 2 * s.2.1) (fun s => c.toNatClampNeg - s.2.1.toNatClampNeg) ?_ (s := ((-1 : Int32), (0 : Int32), hc)) ⟨FrG_rfl, fun _ _ => rfl, by show (0 : Int32) ≤ 0; decide, hc0.1, by show rdI hc z 16 = at' + 2 * 0; rw [e16]; grind⟩
  rintro ⟨b, k, g⟩ ⟨h4, h6, h8, h9, h10⟩
  dsimp only at h4 h6 h8 h9 h10
  have g0 : rdI g z 0 = c := (h6 0 (by decide)).trans e0
  have gP : rdP g z 15 = 5 := (h4.2.1 _ _).trans hP
  unfold endC
  dsimp only
  rw [g0]
  by_cases q : c ≤ k
  · rw [if_pos q]
    have e : k = c := by grind
    subst e
    exact OK_some ⟨h10, h6 17 (by decide), h4⟩
  · have kc := Int32.not_le.mp q
    have v12 : vp_in k 12 := vp_lt (n := 12) (m := 12) h8 (by grind) rfl
    rw [if_neg q, gP, gd_pos isA1, h10, By_u2_eq (by grind) (by grind) (by grind)]
    generalize u2N g (at' + 2 * k).toNatClampNeg = u
    simp only [bP_some, lz, gd_pos v12, r3]
    have e2 : rdI (wrI g (z + 1) k.toNatClampNeg u) z 16 = at' + 2 * k := by rw [rdI_o (by omega)]; exact h10
    rw [e2]
    have fG : FrG z hc (wrI (wrI g (z + 1) k.toNatClampNeg u) z 16 (at' + 2 * k + 2)) := FrG_w (FrG_w h4 (by omega)) (by omega)
    refine OK_ite (fun _ => OK_some ⟨rfl, fG⟩) (fun _ => OK_ite (fun _ => OK_some ?_) (fun _ => OK_some ⟨rfl, fG⟩))
    have ii : (k + 1).toNatClampNeg = k.toNatClampNeg + 1 := xI_succ (m := 12) h8 (by grind) (by decide)
    have i2 := (xI_lt h8 hc0.1).mpr kc
    refine ⟨⟨fG, ?_, by show 0 ≤ k + 1; grind, by show k + 1 ≤ c; grind, ?_⟩, ?_⟩
    · intro j hj
      show rdI (wrI (wrI g (z + 1) k.toNatClampNeg u) z 16 (at' + 2 * k + 2)) z j = _
      rw [rdI_wrI, if_neg (fun q => hj q.2), rdI_o (by omega)]
      exact h6 j hj
    · show rdI (wrI (wrI g (z + 1) k.toNatClampNeg u) z 16 (at' + 2 * k + 2)) z 16 = at' + 2 * (k + 1)
      rw [rdI_wrI, if_pos ⟨rfl, rfl⟩]
      grind
    · show c.toNatClampNeg - (k + 1).toNatClampNeg < c.toNatClampNeg - k.toNatClampNeg
      omega
