/-! LAYER 3AG: a composed glyph that is read -/
theorem Gl_readParts_eq {z : Nat} {gl : Int32} {h : hH} : f_Gl_readParts z gl h = bE (wh (ptC z gl) ((1 : Int32), (0 : Int32), h)) fun p2 => if (p2.1 &&& (256 : Int32)) = 0 then some ((1 : Int32), p2.2) else bS (f_Gl_readProgram z p2.2) fun a21 h7 => if a21 = 0 then some ((0 : Int32), h7) else some ((1 : Int32), h7) := rfl
noncomputable def cmM2 (p3 : Int32 × Int32 × hH) : Option (Int32 × hH) :=
  if (p3.2.1 &&& (256 : Int32)) = 0 then (
    some ((1 : Int32), p3.2.2)
  ) else (
    if (p3.1 + (2 : Int32)) ≤ (rdI p3.2.2 192 27) then (
      bP (f_Mo_u2 p3.1 p3.2.2) fun a75 =>
      lz (wrI p3.2.2 192 32 a75) fun h11 =>
      lz (wrI h11 192 31 (p3.1 + (2 : Int32))) fun h12 =>
      if (400 : Int32) < (rdI h12 192 32) then (
        some ((0 : Int32), h12)
      ) else (
        if ((rdI h12 192 31) + (rdI h12 192 32)) ≤ (rdI h12 192 27) then (
          some ((1 : Int32), h12)
        ) else (
          some ((0 : Int32), h12)
        )
      )
    ) else (
      some ((0 : Int32), p3.2.2)
    )
  )
theorem Mo_composed_eq {h : hH} : f_Mo_composed h = lz (A := Int32) ((rdI h 192 26) + (10 : Int32)) fun v1 => bE (wh cmM (v1, (1 : Int32), (0 : Int32), h)) (fun p3 => cmM2 p3) := rfl
theorem PA_fr {z : Nat} {g m g' m' : hH} {k gl : Int32} (eg : ∀ o i, z < o → rdI g' o i = rdI g o i) (em : ∀ o i, 192 < o → rdI m' o i = rdI m o i) (h : PA z g m k gl) : PA z g' m' k gl := by
  refine ⟨fun i hi => ?_, fun i hi => ?_⟩
  · rw [eg _ _ (by omega), eg _ _ (by omega), eg _ _ (by omega), eg _ _ (by omega), em _ _ (by decide), em _ _ (by decide), em _ _ (by decide), em _ _ (by decide)]
    exact h.1 i hi
  · rw [eg _ _ (by omega), em _ _ (by decide)]
    exact h.2 i hi
theorem L_comp {z : Nat} {hc hm : hH} {gl en p0 : Int32} (hz : isGl z) (hP : rdP hc z 15 = 5) (hb : BY hc hm) (br : BR hc) (e9 : rdI hc z 9 = 0) (e30 : rdI hm 192 30 = 0) (e8 : rdI hc z 8 = 0) (e32 : rdI hm 192 32 = 0) (e17 : rdI hc z 17 = en) (e27 : rdI hm 192 27 = en) (e12 : rdI hm 192 12 = gl) (hen2 : en ≤ rdI hc 5 1) (hp : 0 ≤ p0 ∧ p0 ≤ en) (e16 : rdI hc z 16 = p0) (e26 : rdI hm 192 26 + 10 = p0) : OK2 (f_Gl_readParts z gl hc) (f_Mo_composed hm) (RA z hc hm (fun g m => (1 ≤ rdI g z 9 ∧ rdI g z 9 ≤ 8) ∧ PA z g m (rdI g z 9) gl ∧ GLp z g m en ∧ rdI m 192 30 = rdI g z 9 ∧ (∀ k, k = 0 ∨ k = 1 ∨ k = 2 → rdI g z k = rdI hc z k) ∧ (∀ k, k = 26 ∨ k = 27 ∨ k = 28 ∨ k = 29 → rdI m 192 k = rdI hm 192 k))) := by
  obtain ⟨_, _, _, z10, z180, _, _⟩ := gl_rf hz
  have b3 := hb.2.2.1
  have en12 : en ≤ 12000 := Int32.le_trans hen2 b3
  rw [Gl_readParts_eq, Mo_composed_eq, lz_eq, e26]
  obtain ⟨y, w, ey, ew, r⟩ := L_parts hz hP hb br e9 e30 e17 e27 e12 hen2 hp e16
  rw [ey, ew]
  rcases y with ⟨f, g⟩ | ⟨y1, y2⟩ <;> rcases w with ⟨p, f', m⟩ | ⟨w1, w2⟩
  · obtain ⟨⟨_, h1, h2⟩, h3, h4, h5, h6, _, h8, h9, h10, h11, h12⟩ := r
    dsimp only at h1 h2 h3 h4 h5 h6 h8 h9 h10 h11 h12
    subst h1
    have k1 : 1 ≤ rdI g z 9 := h12.elim (fun q => absurd q (by decide)) (fun q => q.2)
    rw [bE_inl, bE_inl]
    unfold cmM2
    dsimp only
    by_cases q : f &&& 256 = 0
    · rw [if_pos q, if_pos q]
      refine OK2_of rfl rfl ⟨rfl, h3, h4, Or.inr ⟨rfl, ⟨k1, h9.2⟩, h11, ?_, h8, fun k hk => h5 k (by omega) (by omega), fun k hk => h6 k (by omega)⟩⟩
      dsimp only
      unfold GLp
      rw [h5 8 (by decide) (by decide), h6 32 (by decide), e8, e32]
      exact ⟨rfl, by decide, fun q => absurd rfl q⟩
    · rw [if_neg q, if_neg q]
      have gP : rdP g z 15 = 5 := (h3.2.1 _ _).trans hP
      have g17 : rdI g z 17 = en := (h5 17 (by decide) (by decide)).trans e17
      have m27 : rdI m 192 27 = en := (h6 27 (by decide)).trans e27
      have mb : BY hc m := BY_fr z10 FrG_rfl h4 hb
      rw [C_prg gP h2 g17 h10 en12, m27, u2N_fr z10 h3]
      by_cases qn : ¬ p + 2 ≤ en
      · rw [if_neg qn, if_neg qn, bS_some, if_pos rfl]
        exact OK2_of rfl rfl ⟨rfl, h3, h4, Or.inl rfl⟩
      have q2 : p + 2 ≤ en := Decidable.not_not.mp qn
      have ur := u2N_r hc p.toNatClampNeg
      obtain ⟨⟨a1, a2⟩, a3, a4, a5, a6⟩ := ar_f h10.1 q2 h10.2 hen2 b3 ur.1 ur.2
      rw [if_pos q2, if_pos q2, bS_some, Mo_u2_eq mb h10.1 a1 a2, bP_some]
      generalize u2N hc p.toNatClampNeg = u at ur a3 a6 ⊢
      generalize hG : wrI (wrI (wrI g z 8 u) z 7 (p + 2)) z 16 (p + (2 + u)) = G
      rw [lz_eq, lz_eq]
      generalize hM : wrI (wrI m 192 32 u) 192 31 (p + 2) = M
      have M32 : rdI M 192 32 = u := by rw [← hM]; simp only [rdI_wrI, rdP_wrI, rdL_wrI, Nat.reduceEqDiff, false_and, and_false, true_and, and_true, eq_self, reduceIte, ite_self]
      have M31 : rdI M 192 31 = p + 2 := by rw [← hM]; simp only [rdI_wrI, rdP_wrI, rdL_wrI, Nat.reduceEqDiff, false_and, and_false, true_and, and_true, eq_self, reduceIte, ite_self]
      have Mk : ∀ k, k ≠ 31 → k ≠ 32 → rdI M 192 k = rdI m 192 k := fun k k2 k3 => by
        rw [← hM, rdI_wrI, if_neg (fun w => k2 w.2), rdI_wrI, if_neg (fun w => k3 w.2)]
      have Mf : FrN hm M := by rw [← hM]; exact FrN_w (FrN_w h4 (by omega)) (by omega)
      have Mo' : ∀ o i, 192 < o → rdI M o i = rdI m o i := fun o i ho => by rw [← hM, rdI_o (by omega), rdI_o (by omega)]
      have Gf : FrG z hc G := by rw [← hG]; exact FrG_w (FrG_w (FrG_w h3 (by omega)) (by omega)) (by omega)
      have G8 : rdI G z 8 = u := by rw [← hG]; simp only [rdI_wrI, rdP_wrI, rdL_wrI, Nat.reduceEqDiff, false_and, and_false, true_and, and_true, eq_self, reduceIte, ite_self]
      have G7 : rdI G z 7 = p + 2 := by rw [← hG]; simp only [rdI_wrI, rdP_wrI, rdL_wrI, Nat.reduceEqDiff, false_and, and_false, true_and, and_true, eq_self, reduceIte, ite_self]
      have Gk : ∀ k, k ≠ 16 → k ≠ 7 → k ≠ 8 → rdI G z k = rdI g z k := fun k k1 k3 k4 => by
        rw [← hG, rdI_wrI, if_neg (fun w => k1 w.2), rdI_wrI, if_neg (fun w => k3 w.2), rdI_wrI, if_neg (fun w => k4 w.2)]
      have Go : ∀ o i, z < o → rdI G o i = rdI g o i := fun o i ho => by rw [← hG, rdI_o (by omega), rdI_o (by omega), rdI_o (by omega)]
      rw [M32, M31, Mk 27 (by decide) (by decide), m27, ← a6]
      by_cases w1 : 400 < u
      · rw [if_pos w1, if_pos (Or.inl w1), if_pos rfl]
        exact OK2_of rfl rfl ⟨rfl, Gf, Mf, Or.inl rfl⟩
      rw [if_neg w1]
      have u4 : u ≤ 400 := Int32.not_lt.mp w1
      by_cases w2 : ¬ p + (2 + u) ≤ en
      · rw [if_neg w2, if_pos (Or.inr (Int32.not_le.mp w2)), if_pos rfl]
        exact OK2_of rfl rfl ⟨rfl, Gf, Mf, Or.inl rfl⟩
      have w3 : p + (2 + u) ≤ en := Decidable.not_not.mp w2
      have w4 : ¬ (400 < u ∨ en < p + (2 + u)) := fun w => w.elim w1 (fun q => w2 (Int32.not_le.mpr q))
      rw [if_pos w3, if_neg w4, if_neg (show ¬ (1 : Int32) = 0 by decide)]
      have e9' : rdI G z 9 = rdI g z 9 := Gk 9 (by decide) (by decide) (by decide)
      refine OK2_of rfl rfl ⟨rfl, Gf, Mf, Or.inr ⟨rfl, ?_, ?_, ?_, ?_, ?_, ?_⟩⟩
      · dsimp only
        rw [e9']
        exact ⟨k1, h9.2⟩
      · dsimp only
        rw [e9']
        exact PA_fr Go Mo' h11
      · dsimp only
        unfold GLp
        rw [M32, M31, G8, G7]
        exact ⟨rfl, ⟨ur.1, u4⟩, fun _ => ⟨rfl, a4, a5, by rw [← a6]; exact w3⟩⟩
      · dsimp only
        rw [e9', Mk 30 (by decide) (by decide)]
        exact h8
      · intro k hk
        dsimp only
        rw [Gk k (by omega) (by omega) (by omega)]
        exact h5 k (by omega) (by omega)
      · intro k hk
        dsimp only
        rw [Mk k (by omega) (by omega)]
        exact h6 k (by omega)
  · exact absurd r id
  · exact absurd r id
  · obtain ⟨k1, k2, k3, k4⟩ := r
    rw [bE_inr, bE_inr]
    dsimp only at k1 k2 k3 k4
    subst k1
    subst k2
    exact OK2_of rfl rfl ⟨rfl, k3, k4, Or.inl rfl⟩
