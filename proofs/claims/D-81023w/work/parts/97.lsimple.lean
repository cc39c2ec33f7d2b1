/-! LAYER 3AF: a simple glyph that is read, from its ends on -/
/-- the relation of a simple glyph -/
def GLs (z : Nat) (g m : hH) : Prop := (0 ≤ rdI g z 0 ∧ rdI g z 0 ≤ 12) ∧ EE2 (fun i => rdI g (z + 1) i) (rdI g z 0).toNatClampNeg (rdI g z 2 - 1) ∧ (0 ≤ rdI g z 2 ∧ rdI g z 2 ≤ 100) ∧ (∀ i, i < (rdI g z 0).toNatClampNeg → rdI m 199 i = rdI g (z + 1) i) ∧ PLs z g m (rdI g z 2)
/-- the program of a glyph -/
def GLp (z : Nat) (g m : hH) (en : Int32) : Prop := rdI m 192 32 = rdI g z 8 ∧ (0 ≤ rdI g z 8 ∧ rdI g z 8 ≤ 400) ∧ (rdI g z 8 ≠ 0 → rdI m 192 31 = rdI g z 7 ∧ 0 ≤ rdI g z 7 ∧ rdI g z 7 ≤ 12000 ∧ rdI g z 7 + rdI g z 8 ≤ en)
theorem ar_e {p c en : Int32} (p0 : 0 ≤ p) (p1 : p ≤ en) (c0 : 0 ≤ c) (c1 : c ≤ 12) (e : en ≤ 12000) : (¬ p + 2 * c ≤ en ∧ en - p < 2 * c ∧ ¬ p + 2 * c + 2 ≤ en) ∨ (p + 2 * c ≤ en ∧ ¬ en - p < 2 * c ∧ ((p + 2 * c + 2 ≤ en ∧ 0 ≤ p + 2 * c) ∨ (¬ p + 2 * c + 2 ≤ en ∧ 0 ≤ p + 2 * c))) := by
  by_cases q : p + 2 * c ≤ en
  · refine Or.inr ⟨q, by grind, ?_⟩
    by_cases w : p + 2 * c + 2 ≤ en
    · exact Or.inl ⟨w, by grind⟩
    · exact Or.inr ⟨w, by grind⟩
  · exact Or.inl ⟨q, by grind, by grind⟩
theorem ar_f {p u en sz : Int32} (p0 : 0 ≤ p) (p1 : p + 2 ≤ en) (p2 : p ≤ en) (e2 : en ≤ sz) (e : sz ≤ 12000) (u0 : 0 ≤ u) (u1 : u ≤ 65535) : (p + 1 < sz ∧ p < sz) ∧ (0 ≤ p + (2 + u)) ∧ 0 ≤ p + 2 ∧ p + 2 ≤ 12000 ∧ p + (2 + u) = p + 2 + u := by
  refine ⟨⟨?_, ?_⟩, ?_, ?_, ?_, ?_⟩ <;> grind
theorem ar_g {b : Int32} (h0 : -1 ≤ b) (h1 : b < 100) : (0 ≤ b + 1 ∧ b + 1 ≤ 100) ∧ b + 1 - 1 = b := by
  refine ⟨⟨?_, ?_⟩, ?_⟩ <;> grind
theorem L_simple {z : Nat} {hc hm : hH} {c en p0 : Int32} (hz : isGl z) (hP : rdP hc z 15 = 5) (hb : BY hc hm) (e0 : rdI hc z 0 = c) (e28 : rdI hm 192 28 = c) (hc0 : 0 ≤ c ∧ c ≤ 12) (e16 : rdI hc z 16 = p0) (e26 : rdI hm 192 26 + 10 = p0) (hp : 0 ≤ p0 ∧ p0 ≤ en) (e17 : rdI hc z 17 = en) (e27 : rdI hm 192 27 = en) (hen2 : en ≤ rdI hc 5 1) : OK2 (smC z hc) (f_Mo_simple hm) (RA z hc hm (fun g m => GLs z g m ∧ GLp z g m en ∧ rdI m 192 29 = rdI g z 2 ∧ (∀ k, k = 0 ∨ k = 1 ∨ k = 9 → rdI g z k = rdI hc z k) ∧ (∀ k, k = 26 ∨ k = 27 ∨ k = 28 ∨ k = 30 → rdI m 192 k = rdI hm 192 k))) := by
  obtain ⟨⟨_, r4, r5, _, _⟩, _, _, z10, z180, _, _⟩ := gl_rf hz
  have b3 := hb.2.2.1
  have en12 : en ≤ 12000 := Int32.le_trans hen2 b3
  have p12 : p0 ≤ 12000 := Int32.le_trans hp.2 en12
  rw [Mo_simple_eq, lz_eq, e26, e28, e27]
  unfold smC
  rw [Gl_readEnds_eq, has_eq e16 e17, e0, bP_some]
  rcases ar_e hp.1 hp.2 hc0.1 hc0.2 en12 with ⟨q1, q2, q3⟩ | ⟨q1, q2, ⟨q3, q4⟩ | ⟨q3, q4⟩⟩
  · rw [if_pos q2, if_neg q3, if_pos rfl, bS_some, if_pos rfl]
    exact OK2_of rfl rfl ⟨rfl, FrG_rfl, FrN_rfl, Or.inl rfl⟩
  · rw [if_neg q2, if_pos q3, if_neg (show ¬ (1 : Int32) = 0 by decide)]
    obtain ⟨y, w, ey, ew, r⟩ := L_ends hz hP hb e0 e28 hc0 e16 hp.1 q1 hen2 p12
    rw [ey, ew]
    rcases y with ⟨b, g⟩ | ⟨y1, y2⟩ <;> rcases w with ⟨p, b', m⟩ | ⟨w1, w2⟩
    · obtain ⟨h1, _, h3, h4, h5, h6, h7, _, _, h10, h11, h12⟩ := r
      dsimp only at h1 h3 h4 h5 h6 h7 h10 h11 h12
      subst h1
      rw [bE_inl, bE_inl]
      dsimp only
      rw [lz_eq, bS_some, if_neg (show ¬ (1 : Int32) = 0 by decide)]
      obtain ⟨bn, bb⟩ := ar_g h12.2.2.2.2.1 h12.2.2.2.2.2
      generalize hn : b + 1 = n at bn bb
      generalize hg1 : wrI g z 2 n = g1
      have g1f : FrG z hc g1 := by rw [← hg1]; exact FrG_w h4 (by omega)
      have g1k : ∀ k, k ≠ 16 → k ≠ 2 → rdI g1 z k = rdI hc z k := fun k k1 k2 => by rw [← hg1, rdI_wrI, if_neg (fun w => k2 w.2)]; exact h6 k k1
      have g1o : ∀ i, rdI g1 (z + 1) i = rdI g (z + 1) i := fun i => by rw [← hg1, rdI_o (by omega)]
      have g1a : rdI g1 z 16 = p := by rw [← hg1, rdI_wrI, if_neg (by omega)]; exact h3
      have g12 : rdI g1 z 2 = n := by rw [← hg1, rdI_wrI, if_pos ⟨rfl, rfl⟩]
      have g1P : rdP g1 z 15 = 5 := (g1f.2.1 _ _).trans hP
      have p0' : 0 ≤ p := by rw [h10]; exact q4
      have p1' : p ≤ en := by rw [h10]; exact q1
      have p2' : p + 2 ≤ en := by rw [h10]; exact q3
      rw [C_prg g1P g1a ((g1k 17 (by decide) (by decide)).trans e17) ⟨p0', p1'⟩ en12, if_pos p2', u2N_fr z10 g1f, bS_some]
      unfold smM
      dsimp only
      rw [hn]
      generalize hm1 : wrI m 192 29 n = m1
      have m1f : FrN hm m1 := by rw [← hm1]; exact FrN_w h5 (by omega)
      have m1b : BY hc m1 := BY_fr z10 FrG_rfl m1f hb
      have ur := u2N_r hc p.toNatClampNeg
      obtain ⟨⟨a1, a2⟩, a3, a4, a5, a6⟩ := ar_f p0' p2' p1' hen2 b3 ur.1 ur.2
      rw [lz_eq, Mo_u2_eq m1b p0' a1 a2, bP_some]
      generalize u2N hc p.toNatClampNeg = u at ur a3 a6 ⊢
      generalize hG : wrI (wrI (wrI g1 z 8 u) z 7 (p + 2)) z 16 (p + (2 + u)) = G
      rw [lz_eq, lz_eq]
      generalize hM : wrI (wrI m1 192 32 u) 192 31 (p + 2) = M
      have M32 : rdI M 192 32 = u := by rw [← hM]; simp only [rdI_wrI, rdP_wrI, rdL_wrI, Nat.reduceEqDiff, false_and, and_false, true_and, and_true, eq_self, reduceIte, ite_self]
      have M31 : rdI M 192 31 = p + 2 := by rw [← hM]; simp only [rdI_wrI, rdP_wrI, rdL_wrI, Nat.reduceEqDiff, false_and, and_false, true_and, and_true, eq_self, reduceIte, ite_self]
      have M29 : rdI M 192 29 = n := by rw [← hM, ← hm1]; simp only [rdI_wrI, rdP_wrI, rdL_wrI, Nat.reduceEqDiff, false_and, and_false, true_and, and_true, eq_self, reduceIte, ite_self]
      have Mk : ∀ k, k ≠ 29 → k ≠ 31 → k ≠ 32 → rdI M 192 k = rdI hm 192 k := fun k k1 k2 k3 => by
        rw [← hM, ← hm1, rdI_wrI, if_neg (fun w => k2 w.2), rdI_wrI, if_neg (fun w => k3 w.2), rdI_wrI, if_neg (fun w => k1 w.2)]
        exact h7 k
      have Mo' : ∀ i, rdI M 199 i = rdI m 199 i := fun i => by rw [← hM, ← hm1, rdI_o (by decide), rdI_o (by decide), rdI_o (by decide)]
      have Mf : FrN hm M := by rw [← hM]; exact FrN_w (FrN_w m1f (by omega)) (by omega)
      have Gf : FrG z hc G := by rw [← hG]; exact FrG_w (FrG_w (FrG_w g1f (by omega)) (by omega)) (by omega)
      have G8 : rdI G z 8 = u := by rw [← hG]; simp only [rdI_wrI, rdP_wrI, rdL_wrI, Nat.reduceEqDiff, false_and, and_false, true_and, and_true, eq_self, reduceIte, ite_self]
      have G7 : rdI G z 7 = p + 2 := by rw [← hG]; simp only [rdI_wrI, rdP_wrI, rdL_wrI, Nat.reduceEqDiff, false_and, and_false, true_and, and_true, eq_self, reduceIte, ite_self]
      have G16 : rdI G z 16 = p + (2 + u) := by rw [← hG]; simp only [rdI_wrI, rdP_wrI, rdL_wrI, Nat.reduceEqDiff, false_and, and_false, true_and, and_true, eq_self, reduceIte, ite_self]
      have G2 : rdI G z 2 = n := by rw [← hG]; simp only [rdI_wrI, rdP_wrI, rdL_wrI, Nat.reduceEqDiff, false_and, and_false, true_and, and_true, eq_self, reduceIte, ite_self]; exact g12
      have Gk : ∀ k, k ≠ 16 → k ≠ 2 → k ≠ 7 → k ≠ 8 → rdI G z k = rdI hc z k := fun k k1 k2 k3 k4 => by
        rw [← hG, rdI_wrI, if_neg (fun w => k1 w.2), rdI_wrI, if_neg (fun w => k3 w.2), rdI_wrI, if_neg (fun w => k4 w.2)]
        exact g1k k k1 k2
      have Go : ∀ i, rdI G (z + 1) i = rdI g (z + 1) i := fun i => by rw [← hG, rdI_o (by omega), rdI_o (by omega), rdI_o (by omega)]; exact g1o i
      rw [M32, Mk 27 (by decide) (by decide) (by decide), e27, lz_eq]
      by_cases w1 : 400 < u
      · rw [if_pos w1, if_pos (Or.inl w1), if_pos rfl]
        exact OK2_of rfl rfl ⟨rfl, Gf, Mf, Or.inl rfl⟩
      rw [if_neg w1]
      have u4 : u ≤ 400 := Int32.not_lt.mp w1
      by_cases w2 : ¬ p + (2 + u) ≤ en
      · rw [if_neg w2, if_pos (Or.inr (Int32.not_le.mp w2)), if_pos rfl]
        exact OK2_of rfl rfl ⟨rfl, Gf, Mf, Or.inl rfl⟩
      have w3 : p + (2 + u) ≤ en := Decidable.not_not.mp w2
      have w4 : ¬ (400 < u ∨ en < p + (2 + u)) := fun w => w.elim w1 (fun q => w2 (Int32.not_le.mpr q))
      rw [if_pos w3, if_neg w4, if_neg (show ¬ (1 : Int32) = 0 by decide), Gl_readFlags_eq]
      have GM : BY G M := BY_fr z10 Gf Mf hb
      have GP : rdP G z 15 = 5 := (Gf.2.1 _ _).trans hP
      have G17 : rdI G z 17 = en := (Gk 17 (by decide) (by decide) (by decide) (by decide)).trans e17
      have M27 : rdI M 192 27 = en := (Mk 27 (by decide) (by decide) (by decide)).trans e27
      have G5 : en ≤ rdI G 5 1 := by rw [Gf.1 5 1 (by omega)]; exact hen2
      obtain ⟨y, w, ey, ew, r⟩ := L_flags hz GP GM G2 M29 bn G17 M27 G5 ⟨a3, w3⟩ G16
      rw [ey, ew]
      rcases y with g2 | ⟨y1, y2⟩ <;> rcases w with ⟨p2, m2⟩ | ⟨w1, w2⟩
      · obtain ⟨_, k2, k3, k4, _, _, k7, k8, k9⟩ := r
        dsimp only at k2 k3 k4 k7 k8 k9
        rw [bE_inl, bE_inl, bS_some, if_neg (show ¬ (1 : Int32) = 0 by decide)]
        have F := L_sm2 (hc := g2) (hm := m2) (n := n) (en := en) (p0 := p2) hz ((k3.1.2.1 _ _).trans GP) (BY_fr z10 k3.1 k4.1 GM) ((k3.2.1 2 (by decide)).trans G2) ((k4.2 192 29 (by decide)).trans M29) bn ((k3.2.1 17 (by decide)).trans G17) ((k4.2 192 27 (by decide)).trans M27) (by rw [k3.1.1 5 1 (by omega)]; exact G5) ⟨k7, k8⟩ k2 k9
        refine OK2_mono F ?_
        rintro ⟨y1, y2⟩ ⟨w1, w2⟩ ⟨f1, f2, f3, f4⟩
        refine ⟨f1, FrG_t (FrG_t Gf k3.1) f2, FrN_t (FrN_t Mf k4.1) f3, ?_⟩
        rcases f4 with f4 | ⟨f4, f5, f6, f7, f8, f9⟩
        · exact Or.inl f4
        · dsimp only at f5 f6 f7 f8 f9
          refine Or.inr ⟨f4, ?_, ?_, ?_, ?_, ?_⟩
          · dsimp only
            have c0 : rdI y2 z 0 = c := by rw [f6 0 (by decide), k3.2.1 0 (by decide), Gk 0 (by decide) (by decide) (by decide) (by decide)]; exact e0
            have c2 : rdI y2 z 2 = n := by rw [f6 2 (by decide), k3.2.1 2 (by decide)]; exact G2
            have co : ∀ i, rdI y2 (z + 1) i = rdI g (z + 1) i := fun i => by rw [f8 i, k3.2.2 (z + 1) i (by omega) (by omega)]; exact Go i
            have cm : ∀ i, rdI w2 199 i = rdI m 199 i := fun i => by rw [f9 i, k4.2 199 i (by decide)]; exact Mo' i
            unfold GLs
            rw [c0, c2, bb]
            refine ⟨hc0, ?_, bn, fun i hi => ?_, f5⟩
            · have : (fun i => rdI y2 (z + 1) i) = (fun i => rdI g (z + 1) i) := funext co
              rw [this]
              exact h12
            · rw [cm, co]
              exact h11 i hi
          · dsimp only
            unfold GLp
            rw [f7 32, f7 31, k4.2 192 32 (by decide), k4.2 192 31 (by decide), M32, M31, f6 8 (by decide), f6 7 (by decide), k3.2.1 8 (by decide), k3.2.1 7 (by decide), G8, G7]
            exact ⟨rfl, ⟨ur.1, u4⟩, fun _ => ⟨rfl, a4, a5, by rw [← a6]; exact w3⟩⟩
          · dsimp only
            rw [f7 29, k4.2 192 29 (by decide), M29, f6 2 (by decide), k3.2.1 2 (by decide), G2]
          · intro k hk
            dsimp only
            rw [f6 k (by omega), k3.2.1 k (by omega), Gk k (by omega) (by omega) (by omega) (by omega)]
          · intro k hk
            dsimp only
            rw [f7 k, k4.2 192 k (by decide), Mk k (by omega) (by omega) (by omega)]
      · exact absurd r id
      · exact absurd r id
      · obtain ⟨k1, k2, k3, k4⟩ := r
        rw [bE_inr, bE_inr]
        dsimp only at k1 k2 k3 k4
        subst k1
        subst k2
        rw [bS_some, if_pos rfl]
        exact OK2_of rfl rfl ⟨rfl, FrG_t Gf k3.1, FrN_t Mf k4.1, Or.inl rfl⟩
    · exact absurd r id
    · exact absurd r id
    · obtain ⟨k1, k2, k3, k4⟩ := r
      rw [bE_inr, bE_inr]
      dsimp only at k1 k2 k3 k4
      subst k1
      subst k2
      rw [bS_some, if_pos rfl]
      exact OK2_of rfl rfl ⟨rfl, k3, k4, Or.inl rfl⟩
  · rw [if_neg q2, if_neg q3, if_neg (show ¬ (1 : Int32) = 0 by decide)]
    obtain ⟨y, ey, r⟩ := O_ends hz hP e0 hc0 e16 hp.1 q1 en12 p12
    rw [ey]
    rcases y with ⟨b, g⟩ | ⟨y1, y2⟩
    · obtain ⟨k1, k2, k3⟩ := r
      dsimp only at k1 k2 k3
      rw [bE_inl]
      dsimp only
      rw [lz_eq, bS_some, if_neg (show ¬ (1 : Int32) = 0 by decide)]
      have f' : FrG z hc (wrI g z 2 (b + 1)) := FrG_w k3 (by omega)
      rw [C_prg (p := p0 + 2 * c) (en := en) ((f'.2.1 _ _).trans hP) (by simp only [rdI_wrI, rdP_wrI, rdL_wrI, Nat.reduceEqDiff, false_and, and_false, true_and, and_true, eq_self, reduceIte, ite_self]; exact k1) (by simp only [rdI_wrI, rdP_wrI, rdL_wrI, Nat.reduceEqDiff, false_and, and_false, true_and, and_true, eq_self, reduceIte, ite_self]; exact k2.trans e17) ⟨q4, q1⟩ en12, if_neg q3, bS_some, if_pos rfl]
      exact OK2_of rfl rfl ⟨rfl, f', FrN_rfl, Or.inl rfl⟩
    · obtain ⟨k1, k2⟩ := r
      dsimp only at k1 k2
      subst k1
      rw [bE_inr, bS_some, if_pos rfl]
      exact OK2_of rfl rfl ⟨rfl, k2, FrN_rfl, Or.inl rfl⟩
