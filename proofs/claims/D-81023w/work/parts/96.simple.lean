/-! LAYER 3AE: a simple glyph that is read -/
theorem ar_prg {p en : Int32} (p0 : 0 ≤ p) (p1 : p ≤ en) (e : en ≤ 12000) : (p + 2 ≤ en ∧ ¬ en - p < 2 ∧ p + 1 < 12000 ∧ p < 12000) ∨ (¬ p + 2 ≤ en ∧ en - p < 2) := by
  by_cases q : p + 2 ≤ en
  · exact Or.inl ⟨q, by grind, by grind, by grind⟩
  · exact Or.inr ⟨q, by grind⟩
theorem C_prg {z : Nat} {g : hH} {p en : Int32} (hP : rdP g z 15 = 5) (e16 : rdI g z 16 = p) (e17 : rdI g z 17 = en) (hp : 0 ≤ p ∧ p ≤ en) (en12 : en ≤ 12000) : f_Gl_readProgram z g = if p + 2 ≤ en then some (if 400 < u2N g p.toNatClampNeg ∨ en < p + (2 + u2N g p.toNatClampNeg) then 0 else 1, wrI (wrI (wrI g z 8 (u2N g p.toNatClampNeg)) z 7 (p + 2)) z 16 (p + (2 + u2N g p.toNatClampNeg))) else some (0, g) := by
  unfold f_Gl_readProgram
  rw [has_eq e16 e17, bP_some]
  rcases ar_prg hp.1 hp.2 en12 with ⟨q1, q2, q3, q4⟩ | ⟨q1, q2⟩
  · rw [if_neg q2, if_pos q1, if_neg (show ¬ (1 : Int32) = 0 by decide), hP, gd_pos isA1, e16, By_u2_eq hp.1 q3 q4, bP_some]
    generalize u2N g p.toNatClampNeg = u
    simp only [lz]
    simp only [rdI_wrI, rdP_wrI, rdL_wrI, Nat.reduceEqDiff, false_and, and_false, true_and, and_true, eq_self, reduceIte, ite_self]
    rw [e16, e17]
    by_cases w1 : 400 < u
    · rw [if_pos w1, if_pos (Or.inl w1)]
    · rw [if_neg w1]
      by_cases w2 : en < p + (2 + u)
      · rw [if_pos w2, if_pos (Or.inr w2)]
      · rw [if_neg w2, if_neg (fun w => w.elim w1 w2)]
  · rw [if_pos q2, if_neg q1, if_pos rfl]
theorem Gl_readEnds_eq {z : Nat} {h : hH} : f_Gl_readEnds z h = bP (f_Gl_has z ((2 : Int32) * (rdI h z 0)) h) fun a1 => if a1 = 0 then some ((0 : Int32), h) else bE (wh (endC z) ((-1 : Int32), (0 : Int32), h)) fun p3 => lz (wrI p3.2 z 2 (p3.1 + (1 : Int32))) fun h3 => some ((1 : Int32), h3) := rfl
theorem Gl_readFlags_eq {z : Nat} {h : hH} : f_Gl_readFlags z h = bE (wh (flC z) ((0 : Int32), h)) fun p2 => some ((1 : Int32), p2) := rfl
theorem Gl_readPlaces_eq {z a : Nat} {x2 x3 : Int32} {h : hH} : f_Gl_readPlaces z a x2 x3 h = bE (wh (plC z a x2 x3) ((0 : Int32), (0 : Int32), h)) fun p2 => some ((1 : Int32), p2) := rfl
theorem Mo_coord_eq {p x3 x4 : Int32} {b : Nat} {h : hH} : f_Mo_coordinates p b x3 x4 h = bE (wh (coM b x3 x4) (p, (0 : Int32), (0 : Int32), h)) fun p2 => some (p2.1, p2.2) := rfl
noncomputable def smM2 (p14 : Int32 × hH) : Option (Int32 × hH) :=
  bS (f_Mo_coordinates p14.1 200 (2 : Int32) (16 : Int32) p14.2) fun a31 h6 =>
  bP (A := (Int32 × hH)) (
    if a31 = (-1 : Int32) then (
      some ((-1 : Int32), h6)
    ) else (
      bS (f_Mo_coordinates a31 201 (4 : Int32) (32 : Int32) h6) fun a33 h7 =>
      some (a33, h7)
    )
  ) fun p32 =>
  if p32.1 = (-1 : Int32) then (
    some ((0 : Int32), p32.2)
  ) else (
    some ((1 : Int32), p32.2)
  )
noncomputable def smM (p3 : Int32 × Int32 × hH) : Option (Int32 × hH) :=
  lz (wrI p3.2.2 192 29 (p3.2.1 + (1 : Int32))) fun h2 =>
  bP (f_Mo_u2 p3.1 h2) fun a11 =>
  lz (wrI h2 192 32 a11) fun h3 =>
  lz (wrI h3 192 31 (p3.1 + (2 : Int32))) fun h4 =>
  lz (A := Int32) (p3.1 + ((2 : Int32) + (rdI h4 192 32))) fun v12 =>
  if (400 : Int32) < (rdI h4 192 32) then (
    some ((0 : Int32), h4)
  ) else (
    if v12 ≤ (rdI h4 192 27) then (
      bE (P := (Int32 × hH)) (X := (Int32 × hH)) (wh flM (v12, (0 : Int32), h4)) fun p14 => smM2 p14
    ) else (
      some ((0 : Int32), h4)
    )
  )
theorem Mo_simple_eq {h : hH} : f_Mo_simple h = lz (A := Int32) ((rdI h 192 26) + (10 : Int32)) fun v1 => if ((v1 + ((2 : Int32) * (rdI h 192 28))) + (2 : Int32)) ≤ (rdI h 192 27) then bE (wh endM (v1, (-1 : Int32), (0 : Int32), h)) (fun p3 => smM p3) else some ((0 : Int32), h) := rfl
noncomputable def smC2 (z : Nat) (h14 : hH) : Option (Int32 × hH) :=
  bS (f_Gl_readPlaces z (rf z 4) (2 : Int32) (16 : Int32) h14) fun a9 h15 =>
  if a9 = 0 then (
    some ((0 : Int32), h15)
  ) else (
    bS (f_Gl_readPlaces z (rf z 5) (4 : Int32) (32 : Int32) h15) fun a10 h16 =>
    if a10 = 0 then (
      some ((0 : Int32), h16)
    ) else (
      some ((1 : Int32), h16)
    )
  )
noncomputable def smC (z : Nat) (h11 : hH) : Option (Int32 × hH) :=
  bS (f_Gl_readEnds z h11) fun a6 h12 =>
  if a6 = 0 then (
    some ((0 : Int32), h12)
  ) else (
    bS (f_Gl_readProgram z h12) fun a7 h13 =>
    if a7 = 0 then (
      some ((0 : Int32), h13)
    ) else (
      bS (f_Gl_readFlags z h13) fun a8 h14 =>
      if a8 = 0 then (
        some ((0 : Int32), h14)
      ) else (
        smC2 z h14
      )
    )
  )
/-- places that were read, on both sides -/
def PLs (z : Nat) (g m : hH) (n : Int32) : Prop := ∀ i, i < n.toNatClampNeg → rdI m 200 i = rdI g (z + 2) i ∧ rdI m 201 i = rdI g (z + 3) i ∧ rdI m 202 i = rdI g (z + 4) i
/-- results of reading: two answers -/
def RA (z : Nat) (hc hm : hH) (Q : hH → hH → Prop) (y w : Int32 × hH) : Prop := w.1 = y.1 ∧ FrG z hc y.2 ∧ FrN hm w.2 ∧ (y.1 = 0 ∨ (y.1 = 1 ∧ Q y.2 w.2))
theorem L_sm2 {z : Nat} {hc hm : hH} {n en p0 : Int32} (hz : isGl z) (hP : rdP hc z 15 = 5) (hb : BY hc hm) (e2 : rdI hc z 2 = n) (e29 : rdI hm 192 29 = n) (hn : 0 ≤ n ∧ n ≤ 100) (e17 : rdI hc z 17 = en) (e27 : rdI hm 192 27 = en) (hen2 : en ≤ rdI hc 5 1) (hp : 0 ≤ p0 ∧ p0 ≤ en) (e16 : rdI hc z 16 = p0) (fl : ∀ i, i < n.toNatClampNeg → rdI hm 202 i = rdI hc (z + 4) i) : OK2 (smC2 z hc) (smM2 (p0, hm)) (RA z hc hm (fun g m => PLs z g m n ∧ (∀ k, k ≠ 16 → rdI g z k = rdI hc z k) ∧ (∀ k, rdI m 192 k = rdI hm 192 k) ∧ (∀ i, rdI g (z + 1) i = rdI hc (z + 1) i) ∧ (∀ i, rdI m 199 i = rdI hm 199 i))) := by
  obtain ⟨⟨_, r4, r5, _, _⟩, _, _, z10, z180, _, _⟩ := gl_rf hz
  unfold smC2 smM2
  rw [r4, r5, Gl_readPlaces_eq]
  dsimp only
  rw [Mo_coord_eq]
  obtain ⟨y, w, ey, ew, r⟩ := L_places (sm := 2) (sa := 16) hz (Or.inl ⟨rfl, rfl⟩) hP hb e2 e29 hn e17 e27 hen2 hp e16 fl
  rw [ey, ew]
  rcases y with g | y <;> rcases w with ⟨p, m⟩ | w
  · obtain ⟨_, _, h3, h4, h5, _, _, h8, h9, h10⟩ := r
    dsimp only at h3 h4 h5 h8 h9 h10
    rw [bE_inl, bE_inl, bS_some, bS_some, if_neg (show ¬ (1 : Int32) = 0 by decide)]
    dsimp only
    have pn : ¬ p = -1 := by
      intro q
      rw [q] at h8
      exact absurd h8 (by decide)
    rw [if_neg pn, Gl_readPlaces_eq, Mo_coord_eq]
    obtain ⟨y, w, ey, ew, r⟩ := L_places (sm := 4) (sa := 32) (hc := g) (hm := m) (n := n) (en := en) (p0 := p) hz (Or.inr ⟨rfl, rfl⟩) ((h4.1.2.1 _ _).trans hP) (BY_fr z10 h4.1 h5.1 hb) ((h4.2.1 2 (by decide)).trans e2) ((h5.2 192 29 (by decide)).trans e29) hn ((h4.2.1 17 (by decide)).trans e17) ((h5.2 192 27 (by decide)).trans e27) (by rw [h4.1.1 5 1 (by omega)]; exact hen2) ⟨h8, h9⟩ h3 (fun i hi => by rw [h5.2 202 i (by decide), h4.2.2 (z + 4) i (by omega) (by omega)]; exact fl i hi)
    rw [ey, ew]
    rcases y with g' | y <;> rcases w with ⟨p', m'⟩ | w
    · obtain ⟨_, _, k3, k4, k5, _, _, k8, k9, k10⟩ := r
      dsimp only at k3 k4 k5 k8 k9 k10
      have pn : ¬ p' = -1 := by
        intro q
        rw [q] at k8
        exact absurd k8 (by decide)
      rw [bE_inl, bE_inl, bS_some, bS_some, bP_some, if_neg (show ¬ (1 : Int32) = 0 by decide)]
      dsimp only
      rw [if_neg pn]
      refine OK2_of rfl rfl ⟨rfl, FrG_t h4.1 k4.1, FrN_t h5.1 k5.1, Or.inr ⟨rfl, ?_, ?_, ?_, ?_, ?_⟩⟩
      · intro i hi
        refine ⟨?_, k10 i hi, ?_⟩
        · show rdI m' 200 i = rdI g' (z + 2) i
          rw [k5.2 200 i (by decide), k4.2.2 (z + 2) i (by omega) (by omega)]
          exact h10 i hi
        · show rdI m' 202 i = rdI g' (z + 4) i
          rw [k5.2 202 i (by decide), k4.2.2 (z + 4) i (by omega) (by omega), h5.2 202 i (by decide), h4.2.2 (z + 4) i (by omega) (by omega)]
          exact fl i hi
      · intro k hk
        exact (k4.2.1 k hk).trans (h4.2.1 k hk)
      · intro k
        exact (k5.2 192 k (by decide)).trans (h5.2 192 k (by decide))
      · intro i
        exact (k4.2.2 (z + 1) i (by omega) (by omega)).trans (h4.2.2 (z + 1) i (by omega) (by omega))
      · intro i
        exact (k5.2 199 i (by decide)).trans (h5.2 199 i (by decide))
    · exact absurd r id
    · exact absurd r id
    · obtain ⟨k1, k2, k3, k4⟩ := r
      rw [bE_inr, bE_inr]
      rcases y with ⟨y1, y2⟩
      rcases w with ⟨w1, w2⟩
      dsimp only at k1 k2 k3 k4
      subst k1
      subst k2
      rw [bS_some, bS_some, bP_some, if_pos rfl]
      dsimp only
      rw [if_pos rfl]
      exact OK2_of rfl rfl ⟨rfl, FrG_t h4.1 k3.1, FrN_t h5.1 k4.1, Or.inl rfl⟩
  · exact absurd r id
  · exact absurd r id
  · obtain ⟨k1, k2, k3, k4⟩ := r
    rw [bE_inr, bE_inr]
    rcases y with ⟨y1, y2⟩
    rcases w with ⟨w1, w2⟩
    dsimp only at k1 k2 k3 k4
    subst k1
    subst k2
    rw [bS_some, bS_some, if_pos rfl, if_pos rfl, bP_some]
    dsimp only
    rw [if_pos rfl]
    exact OK2_of rfl rfl ⟨rfl, k3.1, k4.1, Or.inl rfl⟩
