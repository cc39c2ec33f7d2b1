/-! LAYER 3BH: the making of a glyph, on both sides -/
theorem whT_t {A B : Type} {f : A → Option (hH ⊕ (A ⊕ B))} {s : A} {h : hH} (e : f s = some (.inl h)) : whT f s = some (.inl h) := by
  unfold whT
  rw [wh_eq, e]
  rfl
theorem whT_l {A B : Type} {f : A → Option (hH ⊕ (A ⊕ B))} {s t : A} (e : f s = some (.inr (.inl t))) : whT f s = whT f t := by
  unfold whT
  rw [wh_eq, e]
  rfl
theorem whT_r {A B : Type} {f : A → Option (hH ⊕ (A ⊕ B))} {s : A} {b : B} (e : f s = some (.inr (.inr b))) : whT f s = some (.inr b) := by
  unfold whT
  rw [wh_eq, e]
  rfl
theorem mg_stop {rec : Int32 → Int32 → hH → Option (Unit × hH)} {g x v i : Int32} {m : hH} (f : ¬ rdI m 192 59 = 0) : wh (mgL rec g x v) (i, m) = some m := by
  rw [wh_eq]
  unfold mgL
  dsimp only
  rw [if_neg (fun q => f q.2)]
theorem L_loop2 {n d : Nat} {x g : Int32} {c0 m0 y : hH} {la lb : Int64} (ih : LB n) (hn : d + (n + 1) = 6) (x0 : 0 ≤ x ∧ x ≤ 5) (hx : x.toNatClampNeg = d) (fb0 : BY c0 m0) (fn0 : FN c0 m0) (g0 : 0 ≤ g) (g1 : g < rdI c0 4 8) (gh : GH m0 n g) (l0 : FNl c0 m0 g la lb) (ex : f_Gl_read (77 + 17 * d) 5 (rdI c0 4 19 + la.toInt32) (rdI c0 4 19 + lb.toInt32) (rdI c0 4 8) c0 = some (1, y)) (k0 : 0 ≤ rdI y (77 + 17 * d) 9 ∧ rdI y (77 + 17 * d) 9 ≤ 8) : ∀ (r : Nat) (i : Int32) (hc hm : hH), 0 ≤ i → i ≤ rdI y (77 + 17 * d) 9 → (rdI y (77 + 17 * d) 9).toNatClampNeg - i.toNatClampNeg = r → BI d c0 m0 y hc hm → ∃ Y M, whT (bkL (f_Mk_build n) x (77 + 17 * d) (70 + 17 * d)) (i, hc) = some Y ∧ wh (mgL (f_Mo_makeGlyph n) g x (rdI y (77 + 17 * d) 9)) (i, hm) = some M ∧ TT (fun h => FX h M ∧ FrC d c0 h ∧ FrM d m0 M) (fun h => BI d c0 m0 y h M) Y := by
  intro r
  induction r with
  | zero =>
    intro i hc hm i0 i1 e bi
    have e1 : rdI y (77 + 17 * d) 9 ≤ i := by
      by_cases w : i = rdI y (77 + 17 * d) 9
      · rw [w]; exact Int32.le_refl _
      · have := (xI_lt i0 k0.1).mpr (show i < rdI y (77 + 17 * d) 9 by grind)
        omega
    have h9 : rdI hc (77 + 17 * d) 9 = rdI y (77 + 17 * d) 9 := bi.2.2.2.2.2.1 _ _ (by omega) (by omega)
    refine ⟨_, hm, whT_r (b := hc) ?_, ?_, bi⟩
    · unfold bkL
      dsimp only
      rw [h9, if_pos e1]
    · rw [wh_eq]
      unfold mgL
      dsimp only
      rw [if_neg (fun q => q.1 e1)]
  | succ r ihr =>
    intro i hc hm i0 i1 e bi
    have lt : i < rdI y (77 + 17 * d) 9 := by
      by_cases w : i = rdI y (77 + 17 * d) 9
      · rw [← w] at e; omega
      · grind
    have ii : (i + 1).toNatClampNeg = i.toNatClampNeg + 1 := xI_succ (m := 20000) i0 (by grind) (by decide)
    have f59 := bi.1.2
    obtain ⟨Y, m, eY, em, rp⟩ := L_part ih hn x0 hx fb0 fn0 g0 g1 gh l0 ex bi i0 lt
    have st : wh (mgL (f_Mo_makeGlyph n) g x (rdI y (77 + 17 * d) 9)) (i, hm) = wh (mgL (f_Mo_makeGlyph n) g x (rdI y (77 + 17 * d) 9)) (i + 1, m) := by
      rw [wh_eq]
      have : mgL (f_Mo_makeGlyph n) g x (rdI y (77 + 17 * d) 9) (i, hm) = some (.inl (i + 1, m)) := by
        unfold mgL
        dsimp only
        rw [if_pos ⟨Int32.not_le.mpr lt, f59⟩, em, bS_some, lz_eq]
      rw [this]
    rcases Y with h | ⟨t⟩ | ⟨t⟩
    · have fx : FX h m ∧ FrC d c0 h ∧ FrM d m0 m := rp
      have ps := fx.1.2.1
      exact ⟨_, m, whT_t eY, st.trans (mg_stop (by grind)), fx⟩
    · obtain ⟨rp1, rp2⟩ : t.1 = i + 1 ∧ BI d c0 m0 y t.2 m := rp
      obtain ⟨t1, t2⟩ := t
      dsimp only at rp1 rp2
      subst rp1
      obtain ⟨Y2, M2, e1, e2, q⟩ := ihr (i + 1) t2 m (by grind) (by grind) (by omega) rp2
      exact ⟨Y2, M2, (whT_l eY).trans e1, st.trans e2, q⟩
    · exact False.elim rp
/-- the end of the making of a glyph -/
theorem L_tail {d : Nat} {x g : Int32} {c0 m0 y hc hm : hH} {la lb : Int64} (hd : d < 6) (x0 : 0 ≤ x ∧ x ≤ 5) (hx : x.toNatClampNeg = d) (fb0 : BY c0 m0) (fg0 : FG c0 m0) (l0 : FNl c0 m0 g la lb) (ex : f_Gl_read (77 + 17 * d) 5 (rdI c0 4 19 + la.toInt32) (rdI c0 4 19 + lb.toInt32) (rdI c0 4 8) c0 = some (1, y)) (bi : BI d c0 m0 y hc hm) : ∃ Y m, bkE (77 + 17 * d) (70 + 17 * d) hc = some Y ∧ (bP (A := hH) (wh (miL x (102 * x)) ((0 : Int32), hm)) fun p50 => mgE g x p50) = some ((), m) ∧ FrM d m0 m ∧ TT (fun h => FX h m ∧ FrC d c0 h) (LBr d c0 m) Y := by
  obtain ⟨wk, od, ph, fc, fm, gy, c1, c2, c3⟩ := bi
  obtain ⟨_, ⟨r0, r1, _, _, _, _⟩, hz, _, _, _⟩ := od_rf hd
  have ctr : CT c0 c0 := ⟨fun _ => rfl, fun _ => rfl, fun _ => rfl⟩
  have n10 : ¬ (1 : Int32) = 0 := by decide
  have O := od.1
  have E := od.2.1
  have P := od.2.2.1
  have mt := MT_M fm
  have wi := Ou_within (z := 70 + 17 * d) (x1 := 1000000) (L := 1000000) (h := hc) ⟨E.2.2.1, E.2.2.2.1⟩ (by decide) (by decide)
  have m3 : rdI hm 236 x.toNatClampNeg = rdI hc (70 + 17 * d) 3 := by rw [hx]; exact O.1
  have mi := mi_eq (x := x) (h := hm) x0 (by rw [m3]; exact ⟨E.2.2.1, E.2.2.2.1⟩) wk.2
  rw [r0, r1] at wi
  rw [m3, hx] at mi
  unfold bkE
  rcases wi with ⟨wi, wa⟩ | ⟨wi, i, wl, wa⟩
  · rcases mi with ⟨mi, ma⟩ | ⟨mi, i, ml, ma⟩
    · rw [wi, bP_some, want_T, bT_inr, lz_eq, lz_eq, mi, bP_some]
      unfold mgE
      rw [if_pos wk.2]
      obtain ⟨m1, e1, f1, _, q⟩ := rd_at hz (BY_tr ctr mt fb0) (FG_tr ctr mt fg0) (FNl_tr ctr mt l0) ex
      have gl : GL (77 + 17 * d) (rdI c0 4 8) (rdI c0 4 19 + lb.toInt32) y m1 := by
        rcases q with q | ⟨_, q, _⟩
        · exact absurd q n10
        · exact q
      rw [e1, bS_some]
      generalize hC : wrI (wrI hc 56 6 (rdI hc 67 7)) 56 7 (rdI (wrI hc 56 6 (rdI hc 67 7)) 67 8) = c
      have C : ∀ o k, ¬ (o = 56 ∧ (k = 6 ∨ k = 7)) → rdI c o k = rdI hc o k := fun o k w => by rw [← hC, rdI_wrI, if_neg (by omega), rdI_wrI, if_neg (by omega)]
      have C6 : rdI c 56 6 = rdI hc 67 7 := by rw [← hC, rdI_wrI, if_neg (by omega), rdI_wrI, if_pos ⟨rfl, rfl⟩]
      have C7 : rdI c 56 7 = rdI hc 67 8 := by rw [← hC, rdI_wrI, if_pos ⟨rfl, rfl⟩, rdI_o (by decide)]
      have cfr : FrC d c0 c := by rw [← hC]; exact FrC_w (FrC_w fc (by unfold fC; omega)) (by unfold fC; omega)
      have wkc : WK c hm := WK_c (fun o k w => C o k (by omega)) (fun k w => C 22 k (by omega)) wk
      have hp : ∃ p, (if x = 0 then (lz (wrI m1 192 126 (rdI m1 234 7)) fun h18 => lz (wrI h18 192 127 (rdI h18 234 8)) fun h19 => (some h19 : Option hH)) else some m1) = some p ∧ (∀ o k, ¬ (o = 192 ∧ (k = 126 ∨ k = 127)) → rdI p o k = rdI m1 o k) ∧ (∀ o k, rdL p o k = rdL m1 o k) ∧ (∀ o k, rdP p o k = rdP m1 o k) ∧ (x = 0 → rdI p 192 126 = rdI m1 234 7 ∧ rdI p 192 127 = rdI m1 234 8) := by
        by_cases q0 : x = 0
        · rw [if_pos q0, lz_eq, lz_eq]
          refine ⟨_, rfl, fun o k w => ?_, fun _ _ => rfl, fun _ _ => rfl, fun _ => ⟨?_, ?_⟩⟩
          · rw [rdI_wrI, if_neg (by omega), rdI_wrI, if_neg (by omega)]
          · rw [rdI_wrI, if_neg (by omega), rdI_wrI, if_pos ⟨rfl, rfl⟩]
          · rw [rdI_wrI, if_pos ⟨rfl, rfl⟩, rdI_o (by decide)]
        · rw [if_neg q0]
          exact ⟨_, rfl, fun _ _ _ => rfl, fun _ _ => rfl, fun _ _ => rfl, fun w => absurd w q0⟩
      obtain ⟨p, ep, po, pl, pp, p0⟩ := hp
      rw [ep, bP_some]
      have pfr : FrM d m0 p := FrM_t (FrM_t fm (FrM_N f1)) ⟨fun o k w => po o k (by have := w.2; omega), pl, pp⟩
      have wkp : WK c p := WK_m (fun o k w => po o k (by omega)) pl (WK_N f1 wkc)
      have odp : OD d c p := OD_fr (fun o k a b => C o k (by omega)) (fun o k w => (po o k (by omega)).trans (f1.1 o k (by omega) (by omega))) od
      have php : PH d c p := PH_fr (fun o k a b => C o k (by omega)) (fun k a b => (po 242 k (by omega)).trans (f1.1 242 k (by omega) (by omega))) ph
      have cnt : rdI p 192 125 = rdI c 56 5 ∧ 0 ≤ rdI c 56 5 ∧ rdI c 56 5 ≤ 60 := by
        rw [po 192 125 (by omega), f1.1 192 125 (by omega) (by omega), C 56 5 (by omega)]
        exact ⟨c1, c2, c3⟩
      obtain ⟨g8, g9, g10⟩ := gl.2.1
      have c8 : rdI c (77 + 17 * d) 8 = rdI y (77 + 17 * d) 8 := (C _ _ (by omega)).trans (gy _ _ (by omega) (by omega))
      have c7 : rdI c (77 + 17 * d) 7 = rdI y (77 + 17 * d) 7 := (C _ _ (by omega)).trans (gy _ _ (by omega) (by omega))
      have p32 : rdI p 192 32 = rdI y (77 + 17 * d) 8 := (po 192 32 (by omega)).trans g8
      have p31 : rdI p 192 31 = rdI m1 192 31 := po 192 31 (by omega)
      have x00 : d = 0 → x = 0 := fun w => xI_inj x0.1 (by decide) (by rw [hx, w]; rfl)
      rw [c8, p32]
      by_cases s0 : rdI y (77 + 17 * d) 8 ≤ 0
      · rw [if_pos s0, if_pos s0]
        refine ⟨_, _, rfl, rfl, pfr, rfl, wkp, odp, php, cfr, cnt, fun w => ?_⟩
        have s5 := wk.1.2.1.2.2.2.2.1
        obtain ⟨t1, t2⟩ := p0 (x00 w)
        dsimp only
        rw [t1, t2, f1.1 234 7 (by omega) (by omega), f1.1 234 8 (by omega) (by omega), C6, C7]
        exact ⟨s5 7 (by decide), s5 8 (by decide)⟩
      · rw [if_neg s0, if_neg s0]
        have ne : rdI y (77 + 17 * d) 8 ≠ 0 := fun w => s0 (by rw [w]; decide)
        obtain ⟨t31, t7, t7', ten⟩ := g10 ne
        have c51 : rdI c 5 1 = rdI c0 5 1 := (CT_C cfr).2.1 1
        obtain ⟨Y, m, eY, em, fmw, rw'⟩ := L_work (hc := c) (hm := p) x0 hx hd wkp odp php (by rw [p31, c7]; exact t31) (by rw [p32, c8]) (by rw [c7]; exact ⟨t7, t7'⟩) (by rw [c8]; exact ⟨g9.1, Int32.le_trans g9.2 (by decide)⟩) (by rw [c7, c8, c51]; exact Int32.le_trans ten l0.2.2.2.2.2)
        rw [eY, em, bS_some]
        rcases Y with h | ⟨u, h⟩
        · rw [bT_inl]
          obtain ⟨w1, w2⟩ := rw'
          exact ⟨_, _, rfl, rfl, FrM_t pfr fmw, w1, FrC_t cfr w2⟩
        · rw [bT_inr, lz_eq, lz_eq]
          obtain ⟨w1, w2, w3, w4, w5, w6, w7⟩ := rw'
          dsimp only at w1 w2 w3 w4 w5 w6 w7
          generalize hD : wrI (wrI h 56 6 (rdI h 33 7)) 56 7 (rdI (wrI h 56 6 (rdI h 33 7)) 33 8) = D
          have Do : ∀ o k, ¬ (o = 56 ∧ (k = 6 ∨ k = 7)) → rdI D o k = rdI h o k := fun o k w => by rw [← hD, rdI_wrI, if_neg (by omega), rdI_wrI, if_neg (by omega)]
          have D6 : rdI D 56 6 = rdI h 33 7 := by rw [← hD, rdI_wrI, if_neg (by omega), rdI_wrI, if_pos ⟨rfl, rfl⟩]
          have D7 : rdI D 56 7 = rdI h 33 8 := by rw [← hD, rdI_wrI, if_pos ⟨rfl, rfl⟩, rdI_o (by decide)]
          have Dfr : FrC d c0 D := by rw [← hD]; exact FrC_w (FrC_w (FrC_t cfr w4) (by unfold fC; omega)) (by unfold fC; omega)
          refine ⟨_, _, rfl, rfl, FrM_t pfr fmw, rfl, WK_c (fun o k w => Do o k (by omega)) (fun k w => Do 22 k (by omega)) w1, OD_fr (fun o k a b => Do o k (by omega)) (fun _ _ _ => rfl) w2, PH_fr (fun o k a b => Do o k (by omega)) (fun _ _ _ => rfl) w3, Dfr, ?_, fun w => ?_⟩
          · dsimp only
            rw [w7, Do 56 5 (by omega), w6 5]
            exact cnt
          · dsimp only
            rw [D6, D7]
            exact w5 w
    · exfalso
      obtain ⟨q1, q2, _, _⟩ := P i ml
      rw [q1, q2] at ma
      exact ma (wa i ml)
  · rcases mi with ⟨mi, ma⟩ | ⟨mi, _⟩
    · exfalso
      obtain ⟨q1, q2, _, _⟩ := P i wl
      have := ma i wl
      rw [q1, q2] at this
      exact wa this
    · have f13 : ¬ rdI (foM hm 13) 192 59 = 0 := by rw [foM_59]; decide
      rw [wi, bP_some, want_F, bT_inl, mi, bP_some]
      unfold mgE
      rw [if_neg f13]
      exact ⟨_, _, rfl, rfl, foM_fr fm, FX_of wk (by decide), wnt_fr fc⟩
theorem GH_1 {hm : hH} {n : Nat} {g : Int32} (h : GH hm n g) : ∃ m, f_Mo_isGlyph g hm = some (1, m) := by
  cases n with
  | zero => obtain ⟨m, e, _⟩ := h; exact ⟨m, e⟩
  | succ n => obtain ⟨m, e, _⟩ := h; exact ⟨m, e⟩
theorem s16_r (x : Int16) : -32768 ≤ x.toInt32 ∧ x.toInt32 ≤ 32767 := by
  have a := Int16.le_toInt x
  have b := Int16.toInt_lt x
  have e : x.toInt32.toInt = x.toInt := Int16.toInt_toInt32 x
  have z1 : (-32768 : Int32).toInt = -32768 := rfl
  have z2 : (32767 : Int32).toInt = 32767 := rfl
  refine ⟨Int32.le_iff_toInt_le.mpr ?_, Int32.le_iff_toInt_le.mpr ?_⟩
  · rw [z1, e]; omega
  · rw [z2, e]; omega
theorem lfN_r {h : hH} {a b : Int32} : -32768 ≤ lfN h a b ∧ lfN h a b ≤ 32767 := by
  unfold lfN
  split
  · decide
  · unfold s2N
    exact s16_r _
theorem GLs_c {z : Nat} {g g' m : hH} (e : ∀ o k, z ≤ o → o ≤ z + 9 → rdI g' o k = rdI g o k) (h : GLs z g m) : GLs z g' m := by
  have E0 := fun k => e z k (by omega) (by omega)
  have E1 := fun k => e (z + 1) k (by omega) (by omega)
  have E2 := fun k => e (z + 2) k (by omega) (by omega)
  have E3 := fun k => e (z + 3) k (by omega) (by omega)
  have E4 := fun k => e (z + 4) k (by omega) (by omega)
  unfold GLs PLs at h ⊢
  simp only [E0, E1, E2, E3, E4]
  exact h
theorem smpC_fr {d o k : Nat} {h : hH} (ho : o < 70 + 17 * d ∨ 74 + 17 * d < o) : rdI (smpC d h) o k = rdI h o k := by
  unfold smpC
  rw [rdI_mo (by omega), smp1_o (by omega)]
theorem smpM_fr {hc h : hH} {d o k : Nat} (ho : o < 236 ∨ 241 < o) : rdI (smpM hc d h) o k = rdI h o k := by
  unfold smpM smq2
  rw [mt3_o (by omega) (by omega) (by omega), smq1_o (by omega) (by omega) (by omega)]
theorem smpM_M {hc h : hH} {d : Nat} : FrM d h (smpM hc d h) := by
  refine ⟨fun o k w => ?_, fun o k => rfl, fun o k => rfl⟩
  obtain ⟨_, _, _, _, w5, w6, w7, w8⟩ := w
  unfold smpM smq2 mt3
  rw [rdI_mtI, if_neg (by omega), rdI_mtI, if_neg (by omega), rdI_mtI, if_neg (by omega)]
  unfold smq1 smq0
  rw [rdI_mtI, if_neg (by omega), rdI_wrI, if_neg (by omega), rdI_wrI, if_neg (by omega)]
theorem ar_s {a b p q : Int32} (e : b = a + q) (w : a + p ≤ b) (l0 : 0 ≤ a + p) (l1 : b ≤ 12000) (s : q - p ≤ 0) : a + p = b := by grind
theorem L_build {n : Nat} (ih : LB n) : LB (n + 1) := by
  intro d x g hc hm hn hx x0 x5 fn wk g0 g1 gh c1 c2 c3
  have hd : d < 6 := by omega
  have gh' : GH hm n g := gh
  have fb : BY hc hm := wk.1.1.1
  have hu : 16 ≤ rdI hc 4 6 := wk.1.1.2.1.2.1
  obtain ⟨⟨r68, r69⟩, _, hz, iA3, _, _⟩ := od_rf hd
  have ctr : CT hc hc := ⟨fun _ => rfl, fun _ => rfl, fun _ => rfl⟩
  have n10 : ¬ (1 : Int32) = 0 := by decide
  obtain ⟨la, lb, l⟩ := fn.1.2.2 g g0 g1
  obtain ⟨⟨y1, y⟩, ey⟩ := rd_ex hz fb fn.1 l
  obtain ⟨mg, eg⟩ := GH_1 gh'
  have y11 : y1 = 1 := by
    obtain ⟨m, e, _⟩ := rd_at hz fb fn.1 l ey
    rw [eg] at e
    exact (congrArg Prod.fst (Option.some.inj e)).symm
  subst y11
  have rd : ∀ m1, MT hm m1 → ∃ m2, f_Mo_isGlyph g m1 = some (1, m2) ∧ FrN m1 m2 ∧ FrG (77 + 17 * d) (wrP hc (77 + 17 * d) 15 5) y ∧ GL (77 + 17 * d) (rdI hc 4 8) (rdI hc 4 19 + lb.toInt32) y m2 ∧ rdI y (77 + 17 * d) 1 = lfN hc (rdI hc 4 19 + la.toInt32) (rdI hc 4 19 + lb.toInt32) := fun m1 mt => by
    obtain ⟨m2, e, f, f', q⟩ := rd_at hz (BY_tr ctr mt fb) (FG_tr ctr mt fn.1) (FNl_tr ctr mt l) ey
    rcases q with q | ⟨_, q, q'⟩
    · exact absurd q n10
    · exact ⟨m2, e, f, f', q, q'.1⟩
  obtain ⟨mm, _, _, fG, gl0, lf⟩ := rd hm MT_rfl
  have yo : ∀ o k, o < 77 + 17 * d ∨ 86 + 17 * d < o → rdI y o k = rdI hc o k := fun o k ho => (fG.1 o k (by omega)).trans rdI_wrP
  have ctY : CT hc y := ⟨fun k => yo 4 k (by omega), fun k => yo 5 k (by omega), fun k => yo 6 k (by omega)⟩
  have fcY : FrC d hc y := by
    refine ⟨fun o k w => yo o k (by unfold fC at w; omega), fun o k => fG.2.2 o k, fun o k _ b => ?_⟩
    rw [fG.2.1, rdP_wrP, if_neg (by omega)]
  obtain ⟨⟨v, bc, bm, v0⟩, ⟨w, ac, am⟩⟩ := (fn.2 g g0 g1).1
  have k8 : 0 ≤ rdI y (77 + 17 * d) 9 ∧ rdI y (77 + 17 * d) 9 ≤ 8 := by
    rcases gl0.2.2 with ⟨_, _, q, _⟩ | ⟨q, _⟩
    · exact ⟨Int32.le_trans (by decide) q.1, q.2⟩
    · rw [q]; decide
  obtain ⟨c, el⟩ := L_left fb l.2.2.1 l.2.2.2.1 (Gl_hd ey) l.2.2.2.2.1 l.2.2.2.2.2
  have fB : FrN hm (btM hm (rdI hc 4 19 + la.toInt32) (rdI hc 4 19 + lb.toInt32) c) := btM_fr
  generalize hM : btM hm (rdI hc 4 19 + la.toInt32) (rdI hc 4 19 + lb.toInt32) c = M at el fB
  generalize hl : lfN hc (rdI hc 4 19 + la.toInt32) (rdI hc 4 19 + lb.toInt32) = lv at el lf
  have lr : -32768 ≤ lv ∧ lv ≤ 32767 := by rw [← hl]; exact lfN_r
  have vx : vp_in x 6 := vp_lt (n := 6) (m := 6) x0 (by grind) rfl
  have eF : f_Fo_read g (77 + 17 * d) hc = some (1, y) := by
    unfold f_Fo_read
    rw [l.1, bP_some, l.2.1, bP_some, ey, bS_some, gd_pos (Or.inr rfl)]
  have eS : f_Fo_sizeOf g y = some (lb - la).toInt32 := by
    rw [CT_size ctY]
    unfold f_Fo_sizeOf
    rw [l.2.1, bP_some, l.1, bP_some]
  have sl : (lb - la).toInt32 ≤ 0 → lv = 0 := fun q => by
    rw [Int64.toInt32_sub] at q
    have eab := ar_s rfl l.2.2.2.2.1 l.2.2.2.1 (Int32.le_trans l.2.2.2.2.2 fb.2.2.1) q
    rw [← hl]
    unfold lfN
    rw [if_pos eab]
  have sm : rdI y (77 + 17 * d) 9 = 0 → (0 ≤ rdI y (77 + 17 * d) 2 ∧ rdI y (77 + 17 * d) 2 ≤ 100) ∧ (0 ≤ rdI y (77 + 17 * d) 0 ∧ rdI y (77 + 17 * d) 0 ≤ 12) := fun q => by
    rcases gl0.2.2 with ⟨_, _, q', _⟩ | ⟨_, q'⟩
    · rw [q] at q'; exact absurd q'.1 (by decide)
    · exact ⟨q'.2.2.1, q'.1⟩
  have eC : f_Mk_build (n + 1) g x hc = bJT (P := hH) (whT (bkL (f_Mk_build n) x (77 + 17 * d) (70 + 17 * d)) ((0 : Int32), bdS d y (scV (lv.toInt64 - v.toInt64) hc) (scV (lv.toInt64 - v.toInt64 + w.toInt64) hc))) fun p19 => bkE (77 + 17 * d) (70 + 17 * d) p19 := by
    show fb_Mk_build (f_Mk_build n) g x hc = _
    rw [build_eq0, gd_pos vx, hx, r69, r68, gd_pos iA3, eF, bS_some, bkS_eq hd (by rw [ctY.1]; exact hu) eS (by rw [CT_bearing ctY]; exact bc) (by rw [CT_advance ctY]; exact ac) lf sl sm, scV_loc (yo 22 4 (by omega)) (yo 4 6 (by omega)), scV_loc (yo 22 4 (by omega)) (yo 4 6 (by omega))]
  have eM : f_Mo_makeGlyph (n + 1) g x hm = mgT (f_Mo_makeGlyph n) g x (102 * x) (mgQ d M (scV (lv.toInt64 - v.toInt64) hc) (scV (lv.toInt64 - v.toInt64 + w.toInt64) hc)) := by
    show fb_Mo_makeGlyph (f_Mo_makeGlyph n) g x hm = _
    rw [mg_start (hc := hc) ⟨x0, x5⟩ hu wk.1.2.2.1 wk.1.1.2.1.1 el fB bm am lr v0, hx]
  rw [eC, eM]
  generalize scV (lv.toInt64 - v.toInt64) hc = s1
  generalize scV (lv.toInt64 - v.toInt64 + w.toInt64) hc = s2
  have Q0 := mgQ_0 (d := d) (h := M) (s1 := s1) (s2 := s2)
  have Qo : ∀ o k, o ≠ 242 → o ≠ 236 → o ≠ 237 → rdI (mgQ d M s1 s2) o k = rdI M o k := fun o k a b c => mgQ_o a b c
  have QM : FrM d M (mgQ d M s1 s2) := by
    unfold mgQ
    exact FrM_w (FrM_w (FrM_w (FrM_w (FrM_w (FrM_w FrM_rfl (by unfold fM; omega)) (by unfold fM; omega)) (by unfold fM; omega)) (by unfold fM; omega)) (by unfold fM; omega)) (by unfold fM; omega)
  generalize hm7 : mgQ d M s1 s2 = m7 at Q0 Qo QM
  have fm7 : FrM d hm m7 := FrM_t (FrM_N fB) QM
  have wkM : WK hc M := WK_N fB wk
  have wk7 : WK hc m7 := WK_m (fun o k q => Qo o k (by omega) (by omega) (by omega)) QM.2.1 wkM
  obtain ⟨m8, e8, f8, _, gl8, _⟩ := rd m7 (MT_M fm7)
  have fm8 : FrM d hm m8 := FrM_t fm7 (FrM_N f8)
  have wk8 : WK hc m8 := WK_N f8 wk7
  have B0 := bdQ_0 (d := d) (y := y) (s1 := s1) (s2 := s2)
  have Bo : ∀ o k, o ≠ 70 + 17 * d → o ≠ 75 + 17 * d → o ≠ 76 + 17 * d → rdI (bdQ d y s1 s2) o k = rdI y o k := fun o k a b c => bdQ_o a b c
  have fcB : FrC d hc (bdQ d y s1 s2) := by
    unfold bdQ bdC
    exact FrC_w (FrC_w (FrC_w (FrC_w (FrC_w (FrC_w fcY (by unfold fC; omega)) (by unfold fC; omega)) (by unfold fC; omega)) (by unfold fC; omega)) (by unfold fC; omega)) (by unfold fC; omega)
  have wkB : WK (bdQ d y s1 s2) m8 := WK_c (fun o k q => (Bo o k (by omega) (by omega) (by omega)).trans (yo o k (by omega))) (fun k q => (Bo 22 k (by omega) (by omega) (by omega)).trans (yo 22 k (by omega))) wk8
  have phB : PH d (bdQ d y s1 s2) m8 := by
    refine PH_N f8 ?_
    unfold PH
    rw [Q0.2.2.1, Q0.2.2.2.1, Q0.2.2.2.2.1, Q0.2.2.2.2.2, B0.2.2.1, B0.2.2.2.1, B0.2.2.2.2.1, B0.2.2.2.2.2]
    exact ⟨rfl, rfl, rfl, rfl⟩
  have cnB : rdI m8 192 125 = rdI (bdQ d y s1 s2) 56 5 ∧ 0 ≤ rdI (bdQ d y s1 s2) 56 5 ∧ rdI (bdQ d y s1 s2) 56 5 ≤ 60 := by
    rw [f8.1 192 125 (by omega) (by omega), Qo 192 125 (by omega) (by omega) (by omega), fB.1 192 125 (by omega) (by omega), Bo 56 5 (by omega) (by omega) (by omega), yo 56 5 (by omega)]
    exact ⟨c1, c2, c3⟩
  have odB : OD d (bdQ d y s1 s2) m8 := by
    refine OD_N f8 ⟨⟨?_, ?_⟩, ?_, ?_, ?_⟩
    · rw [Q0.1, B0.1]
    · rw [Q0.2.1, B0.2.1]
    · rw [B0.1, B0.2.1]; exact EN_0
    · intro i hi
      rw [B0.1] at hi
      exact absurd hi (Nat.not_lt_zero _)
    · intro i hi
      rw [B0.2.1] at hi
      exact absurd hi (Nat.not_lt_zero _)
  have biB : BI d hc hm y (bdQ d y s1 s2) m8 := ⟨wkB, odB, phB, fcB, fm8, fun o k a b => Bo o k (by omega) (by omega) (by omega), cnB⟩
  unfold mgT
  rw [e8, bS_some]
  unfold mgB
  obtain ⟨⟨e28, e29, e30⟩, _, cases8⟩ := gl8
  rcases cases8 with ⟨q0, q2, q9, _⟩ | ⟨q9, gls⟩
  · have ne9 : ¬ rdI y (77 + 17 * d) 9 = 0 := fun w => by rw [w] at q9; exact absurd q9.1 (by decide)
    unfold bdS
    rw [if_neg ne9, e28, if_pos q0, lz_eq, e30]
    obtain ⟨Y, M2, eY, eM2, r⟩ := L_loop2 ih hn ⟨x0, x5⟩ hx fb fn g0 g1 gh' l ey k8 _ 0 _ _ (by decide) k8.1 rfl biB
    rw [eY, eM2, bP_some, bP_some]
    rcases Y with h | h
    · obtain ⟨fx, f1, f2⟩ : FX h M2 ∧ FrC d hc h ∧ FrM d hm M2 := r
      have ps := fx.2.1
      have np : ¬ rdI M2 192 59 = 0 := by grind
      rw [bJT_inl, mi_stop ⟨x0, x5⟩ np, bP_some]
      unfold mgE
      rw [if_neg np]
      exact ⟨_, _, rfl, rfl, f2, fx, f1⟩
    · have bi2 : BI d hc hm y h M2 := r
      rw [bJT_inr]
      exact L_tail hd ⟨x0, x5⟩ hx fb fn.1 l ey bi2
  · have n28 : ¬ rdI y (77 + 17 * d) 0 = -1 := fun w => by
      have := gls.1.1
      rw [w] at this
      exact absurd this (by decide)
    unfold bdS
    rw [if_pos q9, e28, if_neg n28]
    have glB : GLs (77 + 17 * d) (bdQ d y s1 s2) m8 := GLs_c (fun o k a b => Bo o k (by omega) (by omega) (by omega)) gls
    have e28' : rdI m8 192 28 = rdI (bdQ d y s1 s2) (77 + 17 * d) 0 := e28.trans (Bo _ _ (by omega) (by omega) (by omega)).symm
    have e29' : rdI m8 192 29 = rdI (bdQ d y s1 s2) (77 + 17 * d) 2 := e29.trans (Bo _ _ (by omega) (by omega) (by omega)).symm
    rw [smlM_eq (hc := bdQ d y s1 s2) ⟨x0, x5⟩ (wkB.1.1.2.1.2.1) wkB.1.2.2.1 wkB.1.1.2.1.1 (by rw [e29]; exact gls.2.2.1) (by rw [e28]; exact gls.1), hx, bP_some]
    have hs := L_smp hd glB e28' e29'
    have bi2 : BI d hc hm y (smpC d (bdQ d y s1 s2)) (smpM (bdQ d y s1 s2) d m8) := by
      refine ⟨WK_m (fun o k q => smpM_fr (by omega)) (fun _ _ => rfl) (WK_c (fun o k q => smpC_fr (by omega)) (fun k q => smpC_fr (by omega)) wkB), hs, PH_fr (fun o k a b => smpC_fr (by omega)) (fun k a b => smpM_fr (by omega)) phB, FrC_t fcB ⟨fun o k q => smpC_fr (by unfold fC at q; omega), fun _ _ => rfl, fun _ _ _ _ => rfl⟩, FrM_t fm8 smpM_M, fun o k a b => (smpC_fr (by omega)).trans (Bo o k (by omega) (by omega) (by omega)), ?_⟩
      rw [smpM_fr (by omega), smpC_fr (by omega)]
      exact cnB
    have z9 : rdI (smpC d (bdQ d y s1 s2)) (77 + 17 * d) 9 ≤ 0 := by
      rw [smpC_fr (by omega), Bo _ _ (by omega) (by omega) (by omega), q9]
      decide
    have wL : whT (bkL (f_Mk_build n) x (77 + 17 * d) (70 + 17 * d)) ((0 : Int32), smpC d (bdQ d y s1 s2)) = some (.inr (smpC d (bdQ d y s1 s2))) := by
      refine whT_r ?_
      unfold bkL
      dsimp only
      rw [if_pos z9]
    rw [wL, bJT_inr]
    exact L_tail hd ⟨x0, x5⟩ hx fb fn.1 l ey bi2
theorem LB_all : ∀ n, LB n := by
  intro n
  induction n with
  | zero =>
    intro d x g hc hm hn hx x0 x5
    have e5 : (5 : Int32).toNatClampNeg = 5 := rfl
    have := xI_mono x5
    omega
  | succ n ih => exact L_build ih
