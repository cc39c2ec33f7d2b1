/-! LAYER 3AI: a glyph that is read, on both sides -/
/-- the relation of a glyph that was read -/
def GL (z : Nat) (gl en : Int32) (g m : hH) : Prop := (rdI m 192 28 = rdI g z 0 ∧ rdI m 192 29 = rdI g z 2 ∧ rdI m 192 30 = rdI g z 9) ∧ GLp z g m en ∧ ((rdI g z 0 = -1 ∧ rdI g z 2 = 0 ∧ (1 ≤ rdI g z 9 ∧ rdI g z 9 ≤ 8) ∧ PA z g m (rdI g z 9) gl) ∨ (rdI g z 9 = 0 ∧ GLs z g m))
def lfN (h : hH) (a b : Int32) : Int32 := if a = b then 0 else s2N h (a + 2).toNatClampNeg
def g0C (hc : hH) (z : Nat) (a b : Int32) : hH := wrI (wrI (wrI (wrI (wrI (wrI (wrI (wrP hc z 15 5) z 16 a) z 17 b) z 0 0) z 1 0) z 2 0) z 8 0) z 9 0
def g1C (hc : hH) (z : Nat) (a b c l : Int32) : hH := wrI (wrI (wrI (g0C hc z a b) z 0 c) z 1 l) z 16 (a + 10)
theorem g0C_fr {hc : hH} {z : Nat} {a b : Int32} : FrG z (wrP hc z 15 5) (g0C hc z a b) := FrG_w (FrG_w (FrG_w (FrG_w (FrG_w (FrG_w (FrG_w FrG_rfl (by omega)) (by omega)) (by omega)) (by omega)) (by omega)) (by omega)) (by omega)
theorem ar_h {a b sz : Int32} (a0 : 0 ≤ a) (ab : a ≤ b) (bs : b ≤ sz) (s : sz ≤ 12000) (q : 10 ≤ b - a) : (a + 1 < 12000 ∧ a < 12000 ∧ a + 1 < sz ∧ a < sz) ∧ (0 ≤ a + 2 ∧ a + 2 + 1 < 12000 ∧ a + 2 < 12000 ∧ a + 2 + 1 < sz ∧ a + 2 < sz) ∧ 0 ≤ a + 10 ∧ a + 10 ≤ b := by
  refine ⟨⟨?_, ?_, ?_, ?_⟩, ⟨?_, ?_, ?_, ?_, ?_⟩, ?_, ?_⟩ <;> grind
theorem Gl_read_eq {z : Nat} {hc : hH} {gl a b : Int32} : f_Gl_read z 5 a b gl hc = lz (g0C hc z a b) fun h8 =>
    if a = b then (
      some ((1 : Int32), h8)
    ) else (
      if (10 : Int32) ≤ ((rdI h8 z 17) - (rdI h8 z 16)) then (
        gd (isA 1 (rdP h8 z 15)) <|
        bP (f_By_s2 (rdP h8 z 15) (rdI h8 z 16) h8) fun a2 =>
        lz (wrI h8 z 0 a2) fun h9 =>
        gd (isA 1 (rdP h9 z 15)) <|
        bP (f_By_s2 (rdP h9 z 15) ((rdI h9 z 16) + (2 : Int32)) h9) fun a4 =>
        lz (wrI h9 z 1 a4) fun h10 =>
        lz (wrI h10 z 16 ((rdI h10 z 16) + (10 : Int32))) fun h11 =>
        if (rdI h11 z 0) = (-1 : Int32) then (
          bS (f_Gl_readParts z gl h11) fun a17 h17 =>
          gd ((a17 = 0 ∨ a17 = 1)) <|
          some (a17, h17)
        ) else (
          bP (f_HH_within (Int32.toInt64 (rdI h11 z 0)) (0 : Int64) (12 : Int64)) fun a5 =>
          if a5 = 0 then (
            some ((0 : Int32), h11)
          ) else (
            smC z h11
          )
        )
      ) else (
        some ((0 : Int32), h8)
      )
    ) := by
  unfold f_Gl_read smC smC2 g0C
  rw [lz_eq, lz_eq, lz_eq, lz_eq, lz_eq, lz_eq, lz_eq, lz_eq]
theorem L_read {z : Nat} {hc hm : hH} {gl g a b : Int32} (hz : isGl z) (hb : BY hc hm) (br : BR hc) (e12 : rdI hm 192 12 = gl) (k : GB hm g a b) (ha : 0 ≤ a) (hab : a ≤ b) (hbs : b ≤ rdI hc 5 1) : OK2 (f_Gl_read z 5 a b gl hc) (f_Mo_isGlyph g hm) (RA z (wrP hc z 15 5) hm (fun x m => GL z gl b x m ∧ rdI x z 1 = lfN hc a b ∧ rdI m 192 26 = a ∧ rdI m 192 27 = b)) := by
  obtain ⟨_, _, _, z10, z180, _, _⟩ := gl_rf hz
  have b3 := hb.2.2.1
  obtain ⟨c, ec, c0, c1⟩ := Mo_bytes_eq hb k
  unfold f_Mo_isGlyph
  rw [ec, bS_some]
  have fm : FrN hm (btM hm a b c) := btM_fr
  generalize hM : btM hm a b c = M at fm
  have M26 : rdI M 192 26 = a := by rw [← hM]; unfold btM; simp only [rdI_wrI, rdP_wrI, rdL_wrI, Nat.reduceEqDiff, false_and, and_false, true_and, and_true, eq_self, reduceIte, ite_self]
  have M27 : rdI M 192 27 = b := by rw [← hM]; unfold btM; simp only [rdI_wrI, rdP_wrI, rdL_wrI, Nat.reduceEqDiff, false_and, and_false, true_and, and_true, eq_self, reduceIte, ite_self]
  have M28 : rdI M 192 28 = c := by rw [← hM]; unfold btM; simp only [rdI_wrI, rdP_wrI, rdL_wrI, Nat.reduceEqDiff, false_and, and_false, true_and, and_true, eq_self, reduceIte, ite_self]
  have M29 : rdI M 192 29 = 0 := by rw [← hM]; unfold btM; simp only [rdI_wrI, rdP_wrI, rdL_wrI, Nat.reduceEqDiff, false_and, and_false, true_and, and_true, eq_self, reduceIte, ite_self]
  have M30 : rdI M 192 30 = 0 := by rw [← hM]; unfold btM; simp only [rdI_wrI, rdP_wrI, rdL_wrI, Nat.reduceEqDiff, false_and, and_false, true_and, and_true, eq_self, reduceIte, ite_self]
  have M32 : rdI M 192 32 = 0 := by rw [← hM]; unfold btM; simp only [rdI_wrI, rdP_wrI, rdL_wrI, Nat.reduceEqDiff, false_and, and_false, true_and, and_true, eq_self, reduceIte, ite_self]
  rw [M26, M27, M28]
  rw [Gl_read_eq]
  have f0 : FrG z (wrP hc z 15 5) (g0C hc z a b) := g0C_fr
  generalize hN : g0C hc z a b = N at f0
  have N16 : rdI N z 16 = a := by rw [← hN]; unfold g0C; simp only [rdI_wrI, rdP_wrI, rdL_wrI, Nat.reduceEqDiff, false_and, and_false, true_and, and_true, eq_self, reduceIte, ite_self]
  have N17 : rdI N z 17 = b := by rw [← hN]; unfold g0C; simp only [rdI_wrI, rdP_wrI, rdL_wrI, Nat.reduceEqDiff, false_and, and_false, true_and, and_true, eq_self, reduceIte, ite_self]
  have N0 : rdI N z 0 = 0 := by rw [← hN]; unfold g0C; simp only [rdI_wrI, rdP_wrI, rdL_wrI, Nat.reduceEqDiff, false_and, and_false, true_and, and_true, eq_self, reduceIte, ite_self]
  have N1 : rdI N z 1 = 0 := by rw [← hN]; unfold g0C; simp only [rdI_wrI, rdP_wrI, rdL_wrI, Nat.reduceEqDiff, false_and, and_false, true_and, and_true, eq_self, reduceIte, ite_self]
  have N2 : rdI N z 2 = 0 := by rw [← hN]; unfold g0C; simp only [rdI_wrI, rdP_wrI, rdL_wrI, Nat.reduceEqDiff, false_and, and_false, true_and, and_true, eq_self, reduceIte, ite_self]
  have N8 : rdI N z 8 = 0 := by rw [← hN]; unfold g0C; simp only [rdI_wrI, rdP_wrI, rdL_wrI, Nat.reduceEqDiff, false_and, and_false, true_and, and_true, eq_self, reduceIte, ite_self]
  have N9 : rdI N z 9 = 0 := by rw [← hN]; unfold g0C; simp only [rdI_wrI, rdP_wrI, rdL_wrI, Nat.reduceEqDiff, false_and, and_false, true_and, and_true, eq_self, reduceIte, ite_self]
  have NP : rdP N z 15 = 5 := by rw [f0.2.1, rdP_wrP, if_pos ⟨rfl, rfl⟩]
  have NB : ∀ i, rdI N 6 i = rdI hc 6 i := fun i => (f0.1 6 i (by omega)).trans rdI_wrP
  have N5 : rdI N 5 1 = rdI hc 5 1 := (f0.1 5 1 (by omega)).trans rdI_wrP
  rw [lz_eq]
  by_cases q : a = b
  · rw [if_pos q, if_pos q]
    refine OK2_of rfl rfl ⟨rfl, f0, fm, Or.inr ⟨rfl, ?_, ?_, M26, M27⟩⟩
    · dsimp only
      refine ⟨⟨?_, ?_, ?_⟩, ?_, Or.inr ⟨N9, ?_⟩⟩
      · rw [M28, N0]; exact c0 q
      · rw [M29, N2]
      · rw [M30, N9]
      · unfold GLp
        rw [M32, N8]
        exact ⟨rfl, by decide, fun w => absurd rfl w⟩
      · unfold GLs
        rw [N0, N2]
        exact ⟨by decide, ⟨fun i hi => absurd hi (Nat.not_lt_zero _), fun i hi => absurd hi (Nat.not_lt_zero _), fun _ => rfl, fun w => absurd w (Nat.lt_irrefl 0), by decide, by decide⟩, by decide, fun i hi => absurd hi (Nat.not_lt_zero _), fun i hi => absurd hi (Nat.not_lt_zero _)⟩
    · dsimp only
      unfold lfN
      rw [N1, if_pos q]
  rw [if_neg q, if_neg q, N16, N17]
  by_cases w : ¬ 10 ≤ b - a
  · rw [if_neg w, if_neg w]
    exact OK2_of rfl rfl ⟨rfl, f0, fm, Or.inl rfl⟩
  have w' : 10 ≤ b - a := Decidable.not_not.mp w
  obtain ⟨⟨a1, a2, a3, a4⟩, ⟨a5, a6, a7, a8, a9⟩, a10, a11⟩ := ar_h ha hab hbs b3 w'
  have ecs := c1 q ha a3 a4
  have sN : ∀ i, s2N N i = s2N hc i := fun i => by unfold s2N; rw [NB, NB]
  rw [if_pos w', if_pos w', NP, gd_pos isA1, By_s2_eq ha a1 a2, bP_some, sN, ← ecs, lz_eq]
  have h1 : rdP (wrI N z 0 c) z 15 = 5 := NP
  have h2 : rdI (wrI N z 0 c) z 16 = a := by rw [rdI_wrI, if_neg (by omega)]; exact N16
  have sN' : ∀ i, s2N (wrI N z 0 c) i = s2N hc i := fun i => by unfold s2N; rw [rdI_o (by omega), rdI_o (by omega), NB, NB]
  rw [h1, gd_pos isA1, h2, By_s2_eq a5 a6 a7, bP_some, sN', lz_eq]
  have el : s2N hc (a + 2).toNatClampNeg = lfN hc a b := by unfold lfN; rw [if_neg q]
  rw [el]
  have h3 : rdI (wrI (wrI N z 0 c) z 1 (lfN hc a b)) z 16 = a := by rw [rdI_wrI, if_neg (by omega)]; exact h2
  rw [h3, lz_eq]
  generalize hG : wrI (wrI (wrI N z 0 c) z 1 (lfN hc a b)) z 16 (a + 10) = G
  have Gf : FrG z (wrP hc z 15 5) G := by rw [← hG]; exact FrG_w (FrG_w (FrG_w f0 (by omega)) (by omega)) (by omega)
  have G0 : rdI G z 0 = c := by rw [← hG]; simp only [rdI_wrI, rdP_wrI, rdL_wrI, Nat.reduceEqDiff, false_and, and_false, true_and, and_true, eq_self, reduceIte, ite_self]
  have G1 : rdI G z 1 = lfN hc a b := by rw [← hG]; simp only [rdI_wrI, rdP_wrI, rdL_wrI, Nat.reduceEqDiff, false_and, and_false, true_and, and_true, eq_self, reduceIte, ite_self]
  have G16 : rdI G z 16 = a + 10 := by rw [← hG]; simp only [rdI_wrI, rdP_wrI, rdL_wrI, Nat.reduceEqDiff, false_and, and_false, true_and, and_true, eq_self, reduceIte, ite_self]
  have Gk : ∀ k, k ≠ 0 → k ≠ 1 → k ≠ 16 → rdI G z k = rdI N z k := fun k k1 k2 k3 => by rw [← hG, rdI_wrI, if_neg (fun w => k3 w.2), rdI_wrI, if_neg (fun w => k2 w.2), rdI_wrI, if_neg (fun w => k1 w.2)]
  have GP : rdP G z 15 = 5 := by rw [← hG]; exact NP
  have G2 : rdI G z 2 = 0 := (Gk 2 (by decide) (by decide) (by decide)).trans N2
  have G8 : rdI G z 8 = 0 := (Gk 8 (by decide) (by decide) (by decide)).trans N8
  have G9 : rdI G z 9 = 0 := (Gk 9 (by decide) (by decide) (by decide)).trans N9
  have G17 : rdI G z 17 = b := (Gk 17 (by decide) (by decide) (by decide)).trans N17
  have hq : BY (wrP hc z 15 5) hm := hb
  have GB' : BY G M := BY_fr z10 Gf fm hq
  have G5 : rdI G 5 1 = rdI hc 5 1 := (Gf.1 5 1 (by omega)).trans rdI_wrP
  have GR : BR G := by
    intro i hi
    rw [G5] at hi
    rw [(Gf.1 6 i (by omega)).trans rdI_wrP]
    exact br i hi
  have bs' : b ≤ rdI G 5 1 := by rw [G5]; exact hbs
  rw [G0]
  by_cases cn : c = -1
  · have i12 : ¬ (0 ≤ c ∧ c ≤ 12) := fun v => by rw [cn] at v; exact absurd v.1 (by decide)
    rw [if_pos cn, in12, bP_some, if_neg i12, if_pos rfl, if_pos cn]
    obtain ⟨y, v, ey, ev, r⟩ := L_comp hz GP GB' GR G9 M30 G8 M32 G17 M27 ((fm.1 192 12 (by omega) (by omega)).trans e12) bs' ⟨a10, a11⟩ G16 (by rw [M26])
    rw [ey, ev]
    rcases y with ⟨y1, y2⟩
    rcases v with ⟨v1, v2⟩
    obtain ⟨r1, r2, r3, r4⟩ := r
    dsimp only at r1 r2 r3 r4
    subst r1
    rw [bS_some, bS_some]
    rcases r4 with r4 | ⟨r4, r5, r6, r7, r8, r9, r10⟩
    · subst r4
      rw [gd_pos (Or.inl rfl), if_pos rfl]
      exact OK2_of rfl rfl ⟨rfl, FrG_t Gf r2, FrN_t fm r3, Or.inl rfl⟩
    · subst r4
      rw [gd_pos (Or.inr rfl), if_neg (show ¬ (1 : Int32) = 0 by decide)]
      refine OK2_of rfl rfl ⟨rfl, FrG_t Gf r2, FrN_t fm r3, Or.inr ⟨rfl, ⟨⟨?_, ?_, r8⟩, r7, Or.inl ⟨?_, ?_, r5, r6⟩⟩, ?_, (r10 26 (by omega)).trans M26, (r10 27 (by omega)).trans M27⟩⟩
      · dsimp only
        rw [r10 28 (by omega), M28, r9 0 (by omega), G0]
      · dsimp only
        rw [r10 29 (by omega), M29, r9 2 (by omega), G2]
      · dsimp only
        rw [r9 0 (by omega), G0]
        exact cn
      · dsimp only
        rw [r9 2 (by omega), G2]
      · dsimp only
        rw [r9 1 (by omega), G1]
  · rw [if_neg cn, wi_in, in12, bP_some, bP_some]
    by_cases i12 : ¬ (0 ≤ c ∧ c ≤ 12)
    · rw [if_neg i12, if_pos rfl, if_pos rfl, if_neg cn]
      exact OK2_of rfl rfl ⟨rfl, Gf, fm, Or.inl rfl⟩
    have i12' : 0 ≤ c ∧ c ≤ 12 := Decidable.not_not.mp i12
    rw [if_pos i12', if_neg (show ¬ (1 : Int32) = 0 by decide), if_neg (show ¬ (1 : Int32) = 0 by decide)]
    obtain ⟨y, v, ey, ev, r⟩ := L_simple (hc := G) (hm := M) (p0 := a + 10) hz GP GB' G0 M28 i12' G16 (by rw [M26]) ⟨a10, a11⟩ G17 M27 bs'
    rw [ey, ev]
    rcases y with ⟨y1, y2⟩
    rcases v with ⟨v1, v2⟩
    obtain ⟨r1, r2, r3, r4⟩ := r
    dsimp only at r1 r2 r3 r4
    subst r1
    rw [bS_some]
    rcases r4 with r4 | ⟨r4, r5, r6, r7, r8, r9⟩
    · subst r4
      rw [gd_pos (Or.inl rfl)]
      exact OK2_of rfl rfl ⟨rfl, FrG_t Gf r2, FrN_t fm r3, Or.inl rfl⟩
    · subst r4
      rw [gd_pos (Or.inr rfl)]
      refine OK2_of rfl rfl ⟨rfl, FrG_t Gf r2, FrN_t fm r3, Or.inr ⟨rfl, ⟨⟨?_, r7, ?_⟩, r6, Or.inr ⟨?_, r5⟩⟩, ?_, (r9 26 (by omega)).trans M26, (r9 27 (by omega)).trans M27⟩⟩
      · dsimp only
        rw [r9 28 (by omega), M28, r8 0 (by omega), G0]
      · dsimp only
        rw [r9 30 (by omega), M30, r8 9 (by omega), G9]
      · dsimp only
        rw [r8 9 (by omega), G9]
      · dsimp only
        rw [r8 1 (by omega), G1]
theorem L_left {hc hm : hH} {g a b : Int32} (hb : BY hc hm) (k : GB hm g a b) (ha : 0 ≤ a) (hab : a = b ∨ 10 ≤ b - a) (h2 : a ≤ b) (hbs : b ≤ rdI hc 5 1) : ∃ c, f_Mo_leftOf g hm = some (lfN hc a b, btM hm a b c) := by
  obtain ⟨c, ec, c0, c1⟩ := Mo_bytes_eq hb k
  refine ⟨c, ?_⟩
  unfold f_Mo_leftOf
  rw [ec, bS_some]
  have fm : FrN hm (btM hm a b c) := btM_fr
  generalize hM : btM hm a b c = M at fm
  have M26 : rdI M 192 26 = a := by rw [← hM]; unfold btM; simp only [rdI_wrI, rdP_wrI, rdL_wrI, Nat.reduceEqDiff, false_and, and_false, true_and, and_true, eq_self, reduceIte, ite_self]
  have M27 : rdI M 192 27 = b := by rw [← hM]; unfold btM; simp only [rdI_wrI, rdP_wrI, rdL_wrI, Nat.reduceEqDiff, false_and, and_false, true_and, and_true, eq_self, reduceIte, ite_self]
  rw [M26, M27]
  unfold lfN
  by_cases q : a = b
  · rw [if_pos q, if_pos q]
  · obtain ⟨_, ⟨a5, a6, a7, a8, a9⟩, _, _⟩ := ar_h ha h2 hbs hb.2.2.1 (hab.resolve_left q)
    rw [if_neg q, if_neg q, Mo_s2_fr fm, Mo_s2_eq hb a5 a8 a9, bP_some]
