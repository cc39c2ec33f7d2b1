/-! LAYER 4E: the loop of parts -/
noncomputable def cmM (p2 : Int32 × Int32 × Int32 × hH) : Option ((Int32 × Int32 × Int32 × hH) ⊕ ((Int32 × Int32 × hH) ⊕ (Int32 × hH))) :=
  if p2.2.1 = 0 then (
    some (.inr (.inl (p2.1, p2.2.2.1, p2.2.2.2)))
  ) else (
    if (rdI p2.2.2.2 192 30) = (8 : Int32) then (
      some (.inr (.inr ((0 : Int32), p2.2.2.2)))
    ) else (
      if (p2.1 + (4 : Int32)) ≤ (rdI p2.2.2.2 192 27) then (
        bP (f_Mo_u2 p2.1 p2.2.2.2) fun a4 =>
        lz (A := Int32) (rdI p2.2.2.2 192 30) fun v5 =>
        gd (vp_in v5 8) <|
        lz (wrI p2.2.2.2 203 (Int32.toNatClampNeg v5) a4) fun h1 =>
        bP (f_Mo_u2 (p2.1 + (2 : Int32)) h1) fun a7 =>
        gd (vp_in v5 8) <|
        lz (wrI h1 204 (Int32.toNatClampNeg v5) a7) fun h2 =>
        lz (A := Int32) (p2.1 + (4 : Int32)) fun v9 =>
        lz (A := Int32) (if (a4 &&& (1 : Int32)) = 0 then (0 : Int32) else (1 : Int32)) fun p10 =>
        lz (A := Int32) (if (a4 &&& (2 : Int32)) = 0 then (0 : Int32) else (1 : Int32)) fun p12 =>
        lz (A := Int32) (if (a4 &&& (8 : Int32)) = 0 then (if (a4 &&& (64 : Int32)) = 0 then (if (a4 &&& (128 : Int32)) = 0 then (0 : Int32) else (4 : Int32)) else (2 : Int32)) else (1 : Int32)) fun p14 =>
        gd (vp_in v5 8) <|
        if (rdI h2 192 12) ≤ (rdI h2 204 (Int32.toNatClampNeg v5)) then (
          some (.inr (.inr ((0 : Int32), h2)))
        ) else (
          lz (A := Int32) (if p10 = 0 then (2 : Int32) else (4 : Int32)) fun p19 =>
          if ((v9 + p19) + ((2 : Int32) * p14)) ≤ (rdI h2 192 27) then (
            bP (A := Int32) (
              if p10 = 0 then (
                if p12 = 0 then (
                  bP (f_Mo_u1 v9 h2) fun a22 =>
                  some a22
                ) else (
                  bP (f_Mo_s1 v9 h2) fun a23 =>
                  some a23
                )
              ) else (
                if p12 = 0 then (
                  bP (f_Mo_u2 v9 h2) fun a25 =>
                  some a25
                ) else (
                  bP (f_Mo_s2 v9 h2) fun a26 =>
                  some a26
                )
              )
            ) fun p21 =>
            gd (vp_in v5 8) <|
            lz (wrI h2 205 (Int32.toNatClampNeg v5) p21) fun h3 =>
            bP (A := Int32) (
              if p10 = 0 then (
                if p12 = 0 then (
                  bP (f_Mo_u1 (v9 + (1 : Int32)) h3) fun a31 =>
                  some a31
                ) else (
                  bP (f_Mo_s1 (v9 + (1 : Int32)) h3) fun a32 =>
                  some a32
                )
              ) else (
                if p12 = 0 then (
                  bP (f_Mo_u2 (v9 + (2 : Int32)) h3) fun a34 =>
                  some a34
                ) else (
                  bP (f_Mo_s2 (v9 + (2 : Int32)) h3) fun a35 =>
                  some a35
                )
              )
            ) fun p30 =>
            gd (vp_in v5 8) <|
            lz (wrI h3 206 (Int32.toNatClampNeg v5) p30) fun h4 =>
            lz (A := Int32) (if p10 = 0 then (2 : Int32) else (4 : Int32)) fun p39 =>
            lz (A := Int32) (v9 + p39) fun v41 =>
            mtM v5 p14 v41 h4 fun h9 =>
            lz (A := Int32) (v41 + ((2 : Int32) * p14)) fun v67 =>
            lz (wrI h9 192 30 ((rdI h9 192 30) + (1 : Int32))) fun h10 =>
            lz (A := Int32) (if (a4 &&& (32 : Int32)) = 0 then (0 : Int32) else (1 : Int32)) fun p68 =>
            some (.inl (v67, p68, a4, h10))
          ) else (
            some (.inr (.inr ((0 : Int32), h2)))
          )
        )
      ) else (
        some (.inr (.inr ((0 : Int32), p2.2.2.2)))
      )
    )
  )
theorem nM2 {w s v W : Int32} {hc hm : hH} (hb : BY hc hm) (br : BR hc) (hp : 0 ≤ v) (hv : v ≤ 12000) (hW : W = if w = 0 then 1 else 2) (hp2 : v + W + W ≤ rdI hc 5 1) (hp3 : v + W < rdI hc 5 1) : (
    if w = 0 then (
      if s = 0 then (
        bP (f_Mo_u1 (v + (1 : Int32)) hm) fun a22 =>
        some a22
      ) else (
        bP (f_Mo_s1 (v + (1 : Int32)) hm) fun a23 =>
        some a23
      )
    ) else (
      if s = 0 then (
        bP (f_Mo_u2 (v + (2 : Int32)) hm) fun a25 =>
        some a25
      ) else (
        bP (f_Mo_s2 (v + (2 : Int32)) hm) fun a26 =>
        some a26
      )
    )) = some (nV w s hc (v + W).toNatClampNeg) := by
  have b3 := hb.2.2.1
  have W1 : W = 1 ∨ W = 2 := by rw [hW]; split; exact Or.inl rfl; exact Or.inr rfl
  have v0 : 0 ≤ v + W := by rcases W1 with e | e <;> rw [e] <;> grind
  have k := nM (w := w) (s := s) (p := v + W) hb br v0 hW hp2 hp3
  by_cases a : w = 0
  · rw [if_pos a] at hW k ⊢
    subst hW
    exact k
  · rw [if_neg a] at hW k ⊢
    subst hW
    exact k
/-- parts that were read -/
def PA (z : Nat) (g m : hH) (k gl : Int32) : Prop := (∀ i, i < k.toNatClampNeg → rdI m 203 i = rdI g (z + 5) i ∧ rdI m 204 i = rdI g (z + 6) i ∧ (0 ≤ rdI g (z + 6) i ∧ rdI g (z + 6) i < gl) ∧ rdI m 205 i = rdI g (z + 7) i ∧ rdI m 206 i = rdI g (z + 8) i ∧ (rdI g (z + 5) i &&& 2 = 0 → 0 ≤ rdI g (z + 7) i ∧ 0 ≤ rdI g (z + 8) i)) ∧ (∀ i, i < 4 * k.toNatClampNeg → rdI m 207 i = rdI g (z + 9) i)
def IQ (z : Nat) (hc hm : hH) (gl en : Int32) (s : Int32 × Int32 × hH) (t : Int32 × Int32 × Int32 × hH) : Prop := (s.1 = t.2.1 ∧ s.2.1 = t.2.2.1 ∧ rdI s.2.2 z 16 = t.1) ∧ FrG z hc s.2.2 ∧ FrN hm t.2.2.2 ∧ (∀ j, j ≠ 16 → j ≠ 9 → rdI s.2.2 z j = rdI hc z j) ∧ (∀ j, j ≠ 30 → rdI t.2.2.2 192 j = rdI hm 192 j) ∧ (∀ o i, o = z + 1 ∨ o = z + 2 ∨ o = z + 3 ∨ o = z + 4 → rdI s.2.2 o i = rdI hc o i) ∧ rdI t.2.2.2 192 30 = rdI s.2.2 z 9 ∧ (0 ≤ rdI s.2.2 z 9 ∧ rdI s.2.2 z 9 ≤ 8) ∧ (0 ≤ t.1 ∧ t.1 ≤ en) ∧ PA z s.2.2 t.2.2.2 (rdI s.2.2 z 9) gl ∧ (s.1 = 1 ∨ (s.1 = 0 ∧ 1 ≤ rdI s.2.2 z 9))
def RQ' (z : Nat) (hc hm : hH) (gl en : Int32) (y : (Int32 × hH) ⊕ (Int32 × hH)) (w : (Int32 × Int32 × hH) ⊕ (Int32 × hH)) : Prop := match y, w with
  | .inl s, .inl t => IQ z hc hm gl en (0, s.1, s.2) (t.1, 0, t.2.1, t.2.2)
  | .inr s, .inr t => s.1 = 0 ∧ t.1 = 0 ∧ FrG z hc s.2 ∧ FrN hm t.2
  | _, _ => False
def QS (z : Nat) (hc hm : hH) (gl en : Int32) (k : Nat) (y : (Int32 × Int32 × hH) ⊕ ((Int32 × hH) ⊕ (Int32 × hH))) (w : (Int32 × Int32 × Int32 × hH) ⊕ ((Int32 × Int32 × hH) ⊕ (Int32 × hH))) : Prop := match y, w with
  | .inl s', .inl t' => IQ z hc hm gl en s' t' ∧ 9 - (rdI s'.2.2 z 9).toNatClampNeg < 9 - k
  | .inr b', .inr c => RQ' z hc hm gl en b' c
  | .inr _, .inl _ => False
  | .inl _, .inr _ => False
theorem lz_eq {A X : Type} (a : A) {k : A → Option X} : lz a k = k a := rfl
theorem rng_p {p W s en : Int32} (p0 : 0 ≤ p) (p1 : p ≤ en) (en12 : en ≤ 12000) (W1 : W = 1 ∨ W = 2) (sc : s = 0 ∨ s = 1 ∨ s = 2 ∨ s = 4) : 0 ≤ p + 4 + 2 * W + 2 * s := by
  rcases W1 with rfl | rfl <;> rcases sc with rfl | rfl | rfl | rfl <;> grind
theorem nV_nn {w : Int32} {h : hH} {p : Nat} : 0 ≤ nV w 0 h p := by
  unfold nV
  split
  · rw [if_pos rfl]; exact (u1N_r h p).1
  · rw [if_pos rfl]; exact (u2N_r h p).1
theorem fin_parts {z : Nat} {hc hm g m G N Q H4 m' : hH} {gl en p k f u W : Int32} (hz : isGl z) (k8 : 0 ≤ k ∧ k < 8) (hk : rdI g z 9 = k) (h5 : ∀ j, j ≠ 16 → j ≠ 9 → rdI g z j = rdI hc z j) (h6 : ∀ j, j ≠ 30 → rdI m 192 j = rdI hm 192 j) (h7 : ∀ o i, o = z + 1 ∨ o = z + 2 ∨ o = z + 3 ∨ o = z + 4 → rdI g o i = rdI hc o i) (h8 : rdI m 192 30 = k) (h11 : PA z g m k gl) (u0 : 0 ≤ u) (ug : u < gl)
    (hG : wrI (wrI (wrI g (z + 5) k.toNatClampNeg f) (z + 6) k.toNatClampNeg u) z 16 (p + 4) = G) (Gk : rdI G z 9 = k) (Gu : rdI G (z + 6) k.toNatClampNeg = u) (GF : FrG z hc G)
    (hN : wrI (wrI (wrI (wrI G (z + 7) k.toNatClampNeg (nV (bit f 1) (bit f 2) G (p + 4).toNatClampNeg)) z 16 (p + 4 + W)) (z + 8) k.toNatClampNeg (nV (bit f 1) (bit f 2) G (p + 4 + W).toNatClampNeg)) z 16 (p + 4 + W + W) = N) (Nj : ∀ j, j ≠ 16 → rdI N z j = rdI G z j) (NF : FrG z hc N) (fQ : FrG z N Q)
    (c1 : rdI Q z 16 = p + 4 + 2 * W + 2 * scl f) (c2 : ∀ j, j ≠ 16 → rdI Q z j = rdI N z j) (c3 : ∀ o i, o ≠ z → o ≠ z + 9 → rdI Q o i = rdI N o i) (c4 : ∀ i, i < 4 * k.toNatClampNeg → rdI Q (z + 9) i = rdI N (z + 9) i) (c5 : ∀ j, j < 4 → rdI Q (z + 9) (4 * k.toNatClampNeg + j) = mV (scl f) N (p + 4 + 2 * W).toNatClampNeg j)
    (hH4 : wrI (wrI (wrI (wrI m 203 k.toNatClampNeg f) 204 k.toNatClampNeg u) 205 k.toNatClampNeg (nV (bit f 1) (bit f 2) hc (p + 4).toNatClampNeg)) 206 k.toNatClampNeg (nV (bit f 1) (bit f 2) hc (p + 4 + W).toNatClampNeg) = H4) (n1 : FrN hm m') (n2 : ∀ o i, o ≠ 207 → rdI m' o i = rdI H4 o i) (n3 : ∀ i, i < 4 * k.toNatClampNeg → rdI m' 207 i = rdI H4 207 i) (n4 : ∀ j, j < 4 → rdI m' 207 (4 * k.toNatClampNeg + j) = mV (scl f) hc (p + 4 + 2 * W).toNatClampNeg j)
    (qm : p + 4 + 2 * W + 2 * scl f ≤ en) (W1 : W = 1 ∨ W = 2) (sc : scl f = 0 ∨ scl f = 1 ∨ scl f = 2 ∨ scl f = 4) (p0 : 0 ≤ p) (p1 : p ≤ en) (en12 : en ≤ 12000) : OK2 (some (Sum.inl ((if (f &&& (32 : Int32)) = 0 then (0 : Int32) else (1 : Int32)), f, wrI Q z 9 (rdI Q z 9 + 1)))) (some (Sum.inl (p + 4 + 2 * W + 2 * scl f, (if (f &&& (32 : Int32)) = 0 then (0 : Int32) else (1 : Int32)), f, wrI m' 192 30 (rdI m' 192 30 + 1)))) (QS z hc hm gl en k.toNatClampNeg) := by
  obtain ⟨⟨_, _, _, _, r10⟩, ⟨r11, _, _, _⟩, _, z10, z180, _, _⟩ := gl_rf hz
  have Q9 : rdI Q z 9 = k := (c2 9 (by decide)).trans ((Nj 9 (by decide)).trans Gk)
  have h4o : ∀ o i, o ≠ 203 → o ≠ 204 → o ≠ 205 → o ≠ 206 → rdI H4 o i = rdI m o i := fun o i a b c d => by rw [← hH4, rdI_o d, rdI_o c, rdI_o b, rdI_o a]
  have m30 : rdI m' 192 30 = k := by rw [n2 192 30 (by decide), h4o _ _ (by decide) (by decide) (by decide) (by decide)]; exact h8
  rw [Q9, m30]
  have ik : (k + 1).toNatClampNeg = k.toNatClampNeg + 1 := xI_succ (m := 8) k8.1 (by grind) (by decide)
  have Gj : ∀ j, j ≠ 16 → rdI G z j = rdI g z j := fun j hj => by rw [← hG, rdI_wrI, if_neg (fun w => hj w.2), rdI_o (by omega), rdI_o (by omega)]
  have No : ∀ o i, o ≠ z → o ≠ z + 7 → o ≠ z + 8 → rdI N o i = rdI G o i := fun o i a b c => by rw [← hN, rdI_o a, rdI_o c, rdI_o a, rdI_o b]
  have Go : ∀ o i, o ≠ z → o ≠ z + 5 → o ≠ z + 6 → rdI G o i = rdI g o i := fun o i a b c => by rw [← hG, rdI_o a, rdI_o c, rdI_o b]
  have nvG : ∀ x, nV (bit f 1) (bit f 2) G x = nV (bit f 1) (bit f 2) hc x := fun x => nV_fr z10 GF x
  have mVN : ∀ j, mV (scl f) N (p + 4 + 2 * W).toNatClampNeg j = mV (scl f) hc (p + 4 + 2 * W).toNatClampNeg j := fun j => by
    unfold mV
    simp only [s2N_fr z10 NF]
  have new9 : rdI (wrI Q z 9 (k + 1)) z 9 = k + 1 := by rw [rdI_wrI, if_pos ⟨rfl, rfl⟩]
  refine OK2_of rfl rfl ⟨⟨⟨rfl, rfl, ?_⟩, FrG_w (FrG_t NF fQ) (by omega), FrN_w n1 (by omega), ?_, ?_, ?_, ?_, ?_, ?_, ?_, ?_⟩, ?_⟩
  · show rdI (wrI Q z 9 (k + 1)) z 16 = p + 4 + 2 * W + 2 * scl f
    rw [rdI_wrI, if_neg (by omega)]; exact c1
  · intro j h16 hj9
    show rdI (wrI Q z 9 (k + 1)) z j = _
    rw [rdI_wrI, if_neg (fun w => hj9 w.2), c2 j h16, Nj j h16, Gj j h16]
    exact h5 j h16 hj9
  · intro j hj
    show rdI (wrI m' 192 30 (k + 1)) 192 j = _
    rw [rdI_wrI, if_neg (fun w => hj w.2), n2 192 j (by decide), h4o _ _ (by decide) (by decide) (by decide) (by decide)]
    exact h6 j hj
  · intro o i ho
    show rdI (wrI Q z 9 (k + 1)) o i = _
    rw [rdI_o (by omega), c3 o i (by omega) (by omega), No o i (by omega) (by omega) (by omega), Go o i (by omega) (by omega) (by omega)]
    exact h7 o i ho
  · show rdI (wrI m' 192 30 (k + 1)) 192 30 = rdI (wrI Q z 9 (k + 1)) z 9
    rw [new9, rdI_wrI, if_pos ⟨rfl, rfl⟩]
  · show 0 ≤ rdI (wrI Q z 9 (k + 1)) z 9 ∧ rdI (wrI Q z 9 (k + 1)) z 9 ≤ 8
    rw [new9]
    constructor <;> grind
  · show 0 ≤ p + 4 + 2 * W + 2 * scl f ∧ p + 4 + 2 * W + 2 * scl f ≤ en
    exact ⟨rng_p p0 p1 en12 W1 sc, qm⟩
  · show PA z (wrI Q z 9 (k + 1)) (wrI m' 192 30 (k + 1)) (rdI (wrI Q z 9 (k + 1)) z 9) gl
    rw [new9]
    have R : ∀ o i, z < o → rdI (wrI Q z 9 (k + 1)) o i = rdI Q o i := fun o i ho => rdI_o (by omega)
    have S : ∀ o i, o ≠ 192 → rdI (wrI m' 192 30 (k + 1)) o i = rdI m' o i := fun o i ho => rdI_o ho
    refine ⟨?_, ?_⟩
    · intro i hi
      rw [ik] at hi
      rw [R _ _ (by omega), R _ _ (by omega), R _ _ (by omega), R _ _ (by omega), S _ _ (by decide), S _ _ (by decide), S _ _ (by decide), S _ _ (by decide), n2 203 i (by decide), n2 204 i (by decide), n2 205 i (by decide), n2 206 i (by decide), c3 (z + 5) i (by omega) (by omega), c3 (z + 6) i (by omega) (by omega), c3 (z + 7) i (by omega) (by omega), c3 (z + 8) i (by omega) (by omega), No (z + 5) i (by omega) (by omega) (by omega), No (z + 6) i (by omega) (by omega) (by omega), ← hH4, ← hN]
      by_cases e : i = k.toNatClampNeg
      · subst e
        have gf : rdI G (z + 5) k.toNatClampNeg = f := by rw [← hG, rdI_o (by omega), rdI_o (by omega), rdI_wrI, if_pos ⟨rfl, rfl⟩]
        refine ⟨?_, ?_, ?_, ?_, ?_, ?_⟩
        · rw [rdI_o (by decide), rdI_o (by decide), rdI_o (by decide), rdI_wrI, if_pos ⟨rfl, rfl⟩, ← hG, rdI_o (by omega), rdI_o (by omega), rdI_wrI, if_pos ⟨rfl, rfl⟩]
        · rw [rdI_o (by decide), rdI_o (by decide), rdI_wrI, if_pos ⟨rfl, rfl⟩, Gu]
        · rw [Gu]; exact ⟨u0, ug⟩
        · rw [rdI_o (by decide), rdI_wrI, if_pos ⟨rfl, rfl⟩, rdI_o (by omega), rdI_o (by omega), rdI_o (by omega), rdI_wrI, if_pos ⟨rfl, rfl⟩, nvG]
        · rw [rdI_wrI, if_pos ⟨rfl, rfl⟩, rdI_o (by omega), rdI_wrI, if_pos ⟨rfl, rfl⟩, nvG]
        · rw [gf]
          intro q2
          have b2 : bit f 2 = 0 := by unfold bit; rw [if_pos q2]
          refine ⟨?_, ?_⟩
          · rw [rdI_o (by omega), rdI_o (by omega), rdI_o (by omega), rdI_wrI, if_pos ⟨rfl, rfl⟩, b2]
            exact nV_nn
          · rw [rdI_o (by omega), rdI_wrI, if_pos ⟨rfl, rfl⟩, b2]
            exact nV_nn
      · have hi' : i < k.toNatClampNeg := by omega
        obtain ⟨a1, a2, a3, a4, a5, a6⟩ := h11.1 i hi'
        have ne : ∀ x : Nat, ¬ (x = x ∧ i = k.toNatClampNeg) := fun x w => e w.2
        have G5 : rdI G (z + 5) i = rdI g (z + 5) i := by rw [← hG, rdI_o (by omega), rdI_o (by omega), rdI_wrI, if_neg (ne _)]
        have G6 : rdI G (z + 6) i = rdI g (z + 6) i := by rw [← hG, rdI_o (by omega), rdI_wrI, if_neg (ne _), rdI_o (by omega)]
        refine ⟨?_, ?_, ?_, ?_, ?_, ?_⟩
        · rw [rdI_o (by decide), rdI_o (by decide), rdI_o (by decide), rdI_wrI, if_neg (ne _), G5]; exact a1
        · rw [rdI_o (by decide), rdI_o (by decide), rdI_wrI, if_neg (ne _), rdI_o (by decide), G6]; exact a2
        · rw [G6]; exact a3
        · rw [rdI_o (by decide), rdI_wrI, if_neg (ne _), rdI_o (by decide), rdI_o (by decide), rdI_o (by omega), rdI_o (by omega), rdI_o (by omega), rdI_wrI, if_neg (ne _), Go _ _ (by omega) (by omega) (by omega)]; exact a4
        · rw [rdI_wrI, if_neg (ne _), rdI_o (by decide), rdI_o (by decide), rdI_o (by decide), rdI_o (by omega), rdI_wrI, if_neg (ne _), rdI_o (by omega), rdI_o (by omega), Go _ _ (by omega) (by omega) (by omega)]; exact a5
        · rw [G5]
          intro q2
          refine ⟨?_, ?_⟩
          · rw [rdI_o (by omega), rdI_o (by omega), rdI_o (by omega), rdI_wrI, if_neg (ne _), Go _ _ (by omega) (by omega) (by omega)]
            exact (a6 q2).1
          · rw [rdI_o (by omega), rdI_wrI, if_neg (ne _), rdI_o (by omega), rdI_o (by omega), Go _ _ (by omega) (by omega) (by omega)]
            exact (a6 q2).2
    · intro i hi
      rw [ik] at hi
      rw [R _ _ (by omega), S _ _ (by decide)]
      by_cases e : i < 4 * k.toNatClampNeg
      · rw [n3 i e, c4 i e, h4o _ _ (by decide) (by decide) (by decide) (by decide), No _ _ (by omega) (by omega) (by omega), Go _ _ (by omega) (by omega) (by omega)]
        exact h11.2 i e
      · have ej : i = 4 * k.toNatClampNeg + (i - 4 * k.toNatClampNeg) := by omega
        have lj : i - 4 * k.toNatClampNeg < 4 := by omega
        rw [ej, n4 _ lj, c5 _ lj, mVN]
  · show (if (f &&& (32 : Int32)) = 0 then (0 : Int32) else (1 : Int32)) = 1 ∨ ((if (f &&& (32 : Int32)) = 0 then (0 : Int32) else (1 : Int32)) = 0 ∧ 1 ≤ rdI (wrI Q z 9 (k + 1)) z 9)
    rw [new9]
    split
    · exact Or.inr ⟨rfl, by grind⟩
    · exact Or.inl rfl
  · show 9 - (rdI (wrI Q z 9 (k + 1)) z 9).toNatClampNeg < 9 - k.toNatClampNeg
    rw [new9, ik]
    have := (xI_lt (y := 8) k8.1 (by decide)).mpr k8.2
    have e8 : (8 : Int32).toNatClampNeg = 8 := rfl
    omega
theorem ar_a {p en : Int32} (p0 : 0 ≤ p) (p1 : p ≤ en) (e : en ≤ 12000) : (p + 4 ≤ en ∧ ¬ en - p < 4) ∨ (¬ p + 4 ≤ en ∧ en - p < 4) := by
  by_cases q : p + 4 ≤ en
  · exact Or.inl ⟨q, by grind⟩
  · exact Or.inr ⟨q, by grind⟩
theorem ar_b {p en sz : Int32} (p0 : 0 ≤ p) (p1 : p ≤ en) (e : en ≤ sz) (s : sz ≤ 12000) (q4 : p + 4 ≤ en) : (p + 1 < 12000 ∧ p < 12000 ∧ p + 1 < sz ∧ p < sz) ∧ (0 ≤ p + 2 ∧ p + 2 + 1 < 12000 ∧ p + 2 < 12000 ∧ p + 2 + 1 < sz ∧ p + 2 < sz) ∧ 0 ≤ p + 4 ∧ p + 4 ≤ 12000 ∧ en ≤ 12000 := by
  refine ⟨⟨?_, ?_, ?_, ?_⟩, ⟨?_, ?_, ?_, ?_, ?_⟩, ?_, ?_, ?_⟩ <;> grind
theorem ar_c {p en sz W : Int32} (p0 : 0 ≤ p) (p1 : p ≤ en) (e : en ≤ sz) (s : sz ≤ 12000) (W1 : W = 1 ∨ W = 2) : (p + 4 + 2 * W ≤ en → 0 ≤ p + 4 + 2 * W ∧ p + 4 + 2 * W ≤ 12000 ∧ p + 4 + W ≤ sz ∧ p + 4 < sz ∧ p + 4 + W + W ≤ sz ∧ p + 4 + W < sz) ∧ p + 4 + W + W = p + 4 + 2 * W := by
  rcases W1 with rfl | rfl
  · refine ⟨fun q => ⟨?_, ?_, ?_, ?_, ?_, ?_⟩, ?_⟩ <;> grind
  · refine ⟨fun q => ⟨?_, ?_, ?_, ?_, ?_, ?_⟩, ?_⟩ <;> grind
theorem ar_d {p en W s : Int32} (p0 : 0 ≤ p) (p1 : p ≤ en) (e : en ≤ 12000) (W1 : W = 1 ∨ W = 2) (sc : s = 0 ∨ s = 1 ∨ s = 2 ∨ s = 4) (q : ¬ p + 4 + 2 * W ≤ en) : ¬ p + 4 + 2 * W + 2 * s ≤ en := by
  rcases W1 with rfl | rfl <;> rcases sc with rfl | rfl | rfl | rfl <;> grind
theorem L_parts {z : Nat} {hc hm : hH} {gl en p0 : Int32} (hz : isGl z) (hP : rdP hc z 15 = 5) (hb : BY hc hm) (br : BR hc) (e9 : rdI hc z 9 = 0) (e30 : rdI hm 192 30 = 0) (e17 : rdI hc z 17 = en) (e27 : rdI hm 192 27 = en) (e12 : rdI hm 192 12 = gl) (hen2 : en ≤ rdI hc 5 1) (hp : 0 ≤ p0 ∧ p0 ≤ en) (e16 : rdI hc z 16 = p0) : OK2 (wh (ptC z gl) ((1 : Int32), (0 : Int32), hc)) (wh cmM (p0, (1 : Int32), (0 : Int32), hm)) (RQ' z hc hm gl en) := by
  obtain ⟨⟨_, _, _, _, r10⟩, ⟨r11, _, _, _⟩, _, z10, z180, _, _⟩ := gl_rf hz
  have b3 := hb.2.2.1
  have en12 : en ≤ 12000 := Int32.le_trans hen2 b3
  refine OK2_wh (IQ z hc hm gl en) (fun s => 9 - (rdI s.2.2 z 9).toNatClampNeg) ?_ (s := ((1 : Int32), (0 : Int32), hc)) (t := (p0, (1 : Int32), (0 : Int32), hm)) ⟨⟨rfl, rfl, e16⟩, FrG_rfl, FrN_rfl, fun _ _ _ => rfl, fun _ _ => rfl, fun _ _ _ => rfl, e30.trans e9.symm, by show 0 ≤ rdI hc z 9 ∧ rdI hc z 9 ≤ 8; rw [e9]; decide, hp, by show PA z hc hm (rdI hc z 9) gl; rw [e9]; exact ⟨fun i hi => absurd hi (Nat.not_lt_zero _), fun i hi => absurd hi (Nat.not_lt_zero _)⟩, Or.inl rfl⟩
  rintro ⟨mo, fl, g⟩ ⟨p, mo', fl', m⟩ ⟨⟨h1, h1', h2⟩, h3, h4, h5, h6, h7, h8, h9, h10, h11, h12⟩
  dsimp only at h1 h1' h2 h3 h4 h5 h6 h7 h8 h9 h10 h11 h12
  subst h1
  subst h1'
  have g17 : rdI g z 17 = en := (h5 17 (by decide) (by decide)).trans e17
  have m27 : rdI m 192 27 = en := (h6 27 (by decide)).trans e27
  have m12 : rdI m 192 12 = gl := (h6 12 (by decide)).trans e12
  have gP : rdP g z 15 = 5 := (h3.2.1 _ _).trans hP
  have hbm : BY hc m := BY_fr z10 FrG_rfl h4 hb
  refine OK2_mono (Φ := QS z hc hm gl en (rdI g z 9).toNatClampNeg) ?_ ?_
  case refine_2 =>
    intro y w hy
    rcases y with y | y <;> rcases w with w | w
    · exact hy
    · exact absurd hy id
    · exact absurd hy id
    · exact hy
  unfold ptC cmM
  dsimp only
  by_cases q0 : mo = 0
  · rw [if_pos q0, if_pos q0]
    subst q0
    exact OK2_of rfl rfl ⟨⟨rfl, rfl, h2⟩, h3, h4, h5, h6, h7, h8, h9, h10, h11, h12⟩
  rw [if_neg q0, if_neg q0, h8]
  generalize hk : rdI g z 9 = k at *
  by_cases q8 : k = 8
  · rw [if_pos q8, if_pos q8]
    exact OK2_of rfl rfl ⟨rfl, rfl, h3, h4⟩
  rw [if_neg q8, if_neg q8, has_eq h2 g17, m27]
  simp only [bP_some]
  by_cases q4n : ¬ p + 4 ≤ en
  · have q4 := q4n
    have q4' : en - p < 4 := ((ar_a h10.1 h10.2 en12).resolve_left (fun w => q4 w.1)).2
    rw [if_neg q4, if_pos q4']
    simp only [reduceIte]
    exact OK2_of rfl rfl ⟨rfl, rfl, h3, h4⟩
  have q4 : p + 4 ≤ en := Decidable.not_not.mp q4n
  have q4' : ¬ en - p < 4 := ((ar_a h10.1 h10.2 en12).resolve_right (fun w => w.1 q4)).2
  have k8 : 0 ≤ k ∧ k < 8 := ⟨h9.1, Int32.lt_of_le_of_ne h9.2 q8⟩
  obtain ⟨⟨a1, a2, a3, a4⟩, ⟨a5, a6, a7, a8, a9⟩, a10, a11, _⟩ := ar_b h10.1 h10.2 hen2 b3 q4
  have vk : vp_in k 8 := vp_lt (n := 8) (m := 8) k8.1 k8.2 rfl
  rw [if_pos q4, if_neg q4']
  simp only [show ¬ ((1 : Int32) = 0) by decide, reduceIte]
  rw [gP, gd_pos isA1, h2, By_u2_eq h10.1 a1 a2, Mo_u2_eq hbm h10.1 a3 a4, u2N_fr z10 h3]
  generalize u2N hc p.toNatClampNeg = f
  simp only [bP_some]
  rw [gd_pos vk, r10, r11]
  generalize hg1 : wrI g (z + 5) k.toNatClampNeg f = g1
  rw [lz_eq g1, lz_eq k, gd_pos vk]
  generalize hm1 : wrI m 203 k.toNatClampNeg f = m1
  rw [lz_eq m1]
  have g1P : rdP g1 z 15 = 5 := by rw [← hg1]; exact gP
  have g1a : rdI g1 z 16 = p := by rw [← hg1, rdI_o (by omega)]; exact h2
  have g1k : rdI g1 z 9 = k := by rw [← hg1, rdI_o (by omega)]; exact hk
  have f1 : FrG z hc g1 := by rw [← hg1]; exact FrG_w h3 (by omega)
  have fm1 : FrN hm m1 := by rw [← hm1]; exact FrN_w h4 (by omega)
  have hb1 : BY hc m1 := BY_fr z10 FrG_rfl fm1 hb
  rw [g1P, gd_pos isA1, g1a, g1k, By_u2_eq (p := p + 2) a5 a6 a7, Mo_u2_eq hb1 (p := p + 2) a5 a8 a9, u2N_fr z10 f1]
  have ur := u2N_r hc (p + 2).toNatClampNeg
  generalize u2N hc (p + 2).toNatClampNeg = u at ur ⊢
  simp only [bP_some]
  rw [gd_pos vk, gd_pos vk]
  generalize hg2 : wrI g1 (z + 6) k.toNatClampNeg u = g2
  rw [lz_eq g2]
  have g2a : rdI g2 z 16 = p := by rw [← hg2, rdI_o (by omega)]; exact g1a
  rw [g2a]
  generalize hG : wrI g2 z 16 (p + 4) = G
  rw [lz_eq G]
  generalize hm2 : wrI m1 204 k.toNatClampNeg u = m2
  rw [lz_eq m2, lz_eq (p + 4), show (if f &&& 1 = 0 then (0 : Int32) else 1) = bit f 1 from rfl, show (if f &&& 2 = 0 then (0 : Int32) else 1) = bit f 2 from rfl, show (if (f &&& (8 : Int32)) = 0 then (if (f &&& (64 : Int32)) = 0 then (if (f &&& (128 : Int32)) = 0 then (0 : Int32) else (4 : Int32)) else (2 : Int32)) else (1 : Int32)) = scl f from rfl, lz_eq (bit f 1), lz_eq (bit f 2), lz_eq (scl f)]
  rw [← hg2, ← hg1] at hG
  have Gk : rdI G z 9 = k := by rw [← hG, rdI_wrI, if_neg (by omega), rdI_o (by omega), rdI_o (by omega)]; exact hk
  have Ga : rdI G z 16 = p + 4 := by rw [← hG, rdI_wrI, if_pos ⟨rfl, rfl⟩]
  have G17 : rdI G z 17 = en := by rw [← hG, rdI_wrI, if_neg (by omega), rdI_o (by omega), rdI_o (by omega)]; exact g17
  have GP : rdP G z 15 = 5 := by rw [← hG]; exact gP
  have Gu : rdI G (z + 6) k.toNatClampNeg = u := by rw [← hG, rdI_o (by omega), rdI_wrI, if_pos ⟨rfl, rfl⟩]
  have GF : FrG z hc G := by rw [← hG]; exact FrG_w (FrG_w (FrG_w h3 (by omega)) (by omega)) (by omega)
  have m12' : rdI m2 192 12 = gl := by rw [← hm2, ← hm1, rdI_o (by decide), rdI_o (by decide)]; exact m12
  have m27' : rdI m2 192 27 = en := by rw [← hm2, ← hm1, rdI_o (by decide), rdI_o (by decide)]; exact m27
  have mu : rdI m2 204 k.toNatClampNeg = u := by rw [← hm2, rdI_wrI, if_pos ⟨rfl, rfl⟩]
  have fM : FrN hm m2 := by rw [← hm2]; exact FrN_w fm1 (by omega)
  rw [Gk, gd_pos vk, gd_pos vk, Gu, m12', mu]
  by_cases qg : gl ≤ u
  · rw [if_pos qg, if_pos qg]
    exact OK2_of rfl rfl ⟨rfl, rfl, GF, fM⟩
  rw [if_neg qg, if_neg qg, m27']
  obtain ⟨W, hW⟩ : ∃ W : Int32, W = if bit f 1 = 0 then 1 else 2 := ⟨_, rfl⟩
  have W1 : W = 1 ∨ W = 2 := by rw [hW]; split; exact Or.inl rfl; exact Or.inr rfl
  have eW : (if bit f 1 = 0 then (2 : Int32) else 4) = 2 * W := by
    rw [hW]
    split <;> decide
  have sc := scl_c f
  obtain ⟨ac, e2W⟩ := ar_c h10.1 h10.2 hen2 b3 W1
  rw [C_num hz GP Ga G17 Gk k8 ⟨a10, q4⟩ en12 hW, eW, lz_eq (2 * W)]
  by_cases qnn : ¬ p + 4 + 2 * W ≤ en
  · have qn := qnn
    have qn' : ¬ p + 4 + 2 * W + 2 * scl f ≤ en := ar_d h10.1 h10.2 en12 W1 sc qn
    rw [if_neg qn, if_neg qn']
    exact OK2_of rfl rfl ⟨rfl, rfl, GF, fM⟩
  have qn : p + 4 + 2 * W ≤ en := Decidable.not_not.mp qnn
  obtain ⟨d1, d2, d3, d4, d5, d6⟩ := ac qn
  rw [if_pos qn]
  generalize hN : wrI (wrI (wrI (wrI G (z + 7) k.toNatClampNeg (nV (bit f 1) (bit f 2) G (p + 4).toNatClampNeg)) z 16 (p + 4 + W)) (z + 8) k.toNatClampNeg (nV (bit f 1) (bit f 2) G (p + 4 + W).toNatClampNeg)) z 16 (p + 4 + W + W) = N
  rw [bS_some, if_neg (show ¬ (1 : Int32) = 0 by decide)]
  have Na : rdI N z 16 = p + 4 + 2 * W := by rw [← hN, rdI_wrI, if_pos ⟨rfl, rfl⟩, e2W]
  have Nj : ∀ j, j ≠ 16 → rdI N z j = rdI G z j := fun j hj => by rw [← hN, rdI_wrI, if_neg (fun w => hj w.2), rdI_o (by omega), rdI_wrI, if_neg (fun w => hj w.2), rdI_o (by omega)]
  have NP : rdP N z 15 = 5 := by rw [← hN]; exact GP
  have NF : FrG z hc N := by rw [← hN]; exact FrG_w (FrG_w (FrG_w (FrG_w GF (by omega)) (by omega)) (by omega)) (by omega)
  obtain ⟨Q, eQ, fQ, cQ⟩ := C_mat (fl := f) hz NP Na ((Nj 17 (by decide)).trans G17) ((Nj 9 (by decide)).trans Gk) k8 (p := p + 4 + 2 * W) ⟨d1, qn⟩ en12
  rw [eQ]
  by_cases qmn : ¬ p + 4 + 2 * W + 2 * scl f ≤ en
  · have qm := qmn
    rw [if_neg qm, if_neg qm, bS_some, if_pos rfl]
    exact OK2_of rfl rfl ⟨rfl, rfl, FrG_t NF fQ, fM⟩
  have qm : p + 4 + 2 * W + 2 * scl f ≤ en := Decidable.not_not.mp qmn
  rw [if_pos qm, if_pos qm, bS_some, if_neg (show ¬ (1 : Int32) = 0 by decide)]
  obtain ⟨c1, c2, c3, c4, c5⟩ := cQ qm
  have hb2 : BY hc m2 := BY_fr z10 FrG_rfl fM hb
  rw [nM (w := bit f 1) (s := bit f 2) hb2 br a10 hW d3 d4, bP_some, gd_pos vk]
  generalize hm3 : wrI m2 205 k.toNatClampNeg (nV (bit f 1) (bit f 2) hc (p + 4).toNatClampNeg) = m3
  have fM3 : FrN hm m3 := by rw [← hm3]; exact FrN_w fM (by omega)
  have hb3 : BY hc m3 := BY_fr z10 FrG_rfl fM3 hb
  rw [lz_eq m3, nM2 (w := bit f 1) (s := bit f 2) hb3 br a10 a11 hW d5 d6, bP_some, gd_pos vk]
  generalize hH4 : wrI m3 206 k.toNatClampNeg (nV (bit f 1) (bit f 2) hc (p + 4 + W).toNatClampNeg) = H4
  have fM4 : FrN hm H4 := by rw [← hH4]; exact FrN_w fM3 (by omega)
  have hb4 : BY hc H4 := BY_fr z10 FrG_rfl fM4 hb
  rw [lz_eq H4, lz_eq (2 * W), lz_eq (p + 4 + 2 * W)]
  rw [← hm3, ← hm2, ← hm1] at hH4
  obtain ⟨m', em, n1, n2, n3, n4⟩ := M_mat (k := k) (n := scl f) (p := p + 4 + 2 * W) hb4 k8 sc d1 (Int32.le_trans qm hen2) d2 fM4 (fun h9 => lz (A := Int32) (p + 4 + 2 * W + ((2 : Int32) * scl f)) fun v67 => lz (wrI h9 192 30 ((rdI h9 192 30) + (1 : Int32))) fun h10 => lz (A := Int32) (if (f &&& (32 : Int32)) = 0 then (0 : Int32) else (1 : Int32)) fun p68 => some (Sum.inl (v67, p68, f, h10)))
  rw [em]
  exact fin_parts hz k8 hk h5 h6 h7 h8 h11 ur.1 (Int32.not_le.mp qg) hG Gk Gu GF hN Nj NF fQ c1 c2 c3 c4 c5 hH4 n1 n2 n3 n4 qm W1 sc h10.1 h10.2 en12
