/-! LAYER 3BG: a part is made and joined, on both sides -/
theorem OD_fr {d : Nat} {hc hm g m : hH} (f1 : ∀ o k, 70 + 17 * d ≤ o → o ≤ 74 + 17 * d → rdI g o k = rdI hc o k) (f2 : ∀ o k, ((o = 236 ∨ o = 237) ∧ k = d) ∨ ((o = 238 ∨ o = 239 ∨ o = 240) ∧ 102 * d ≤ k ∧ k < 102 * d + 102) ∨ (o = 241 ∧ 20 * d ≤ k ∧ k < 20 * d + 20) → rdI m o k = rdI hm o k) (h : OD d hc hm) : OD d g m := by
  obtain ⟨⟨o1, o2⟩, o3, o4, o5⟩ := h
  have n1 : (rdI hc (70 + 17 * d) 3).toNatClampNeg ≤ 100 := xI_le (n := 100) o3.2.2.2.1 rfl
  have c1 : (rdI hc (70 + 17 * d) 5).toNatClampNeg ≤ 20 := xI_le (n := 20) o3.2.1 rfl
  have g3 := f1 (70 + 17 * d) 3 (by omega) (by omega)
  have g5 := f1 (70 + 17 * d) 5 (by omega) (by omega)
  refine ⟨⟨?_, ?_⟩, ?_, ?_, ?_⟩
  · rw [f2 236 d (by omega), g3]; exact o1
  · rw [f2 237 d (by omega), g5]; exact o2
  · have ef : (fun c => rdI g (74 + 17 * d) c) = (fun c => rdI hc (74 + 17 * d) c) := funext fun c => f1 _ _ (by omega) (by omega)
    rw [ef, g3, g5]; exact o3
  · intro i hi
    rw [g3] at hi
    rw [f2 238 (102 * d + i) (by omega), f2 239 (102 * d + i) (by omega), f2 240 (102 * d + i) (by omega), f1 (71 + 17 * d) i (by omega) (by omega), f1 (72 + 17 * d) i (by omega) (by omega), f1 (73 + 17 * d) i (by omega) (by omega)]
    exact o4 i hi
  · intro c hc'
    rw [g5] at hc'
    rw [f2 241 (20 * d + c) (by omega), f1 (74 + 17 * d) c (by omega) (by omega)]
    exact o5 c hc'
theorem PH_fr {d : Nat} {hc hm g m : hH} (f1 : ∀ o k, 75 + 17 * d ≤ o → o ≤ 76 + 17 * d → rdI g o k = rdI hc o k) (f2 : ∀ k, 4 * d ≤ k → k < 4 * d + 4 → rdI m 242 k = rdI hm 242 k) (h : PH d hc hm) : PH d g m := by
  unfold PH
  rw [f2 (4 * d) (by omega) (by omega), f2 (4 * d + 1) (by omega) (by omega), f2 (4 * d + 2) (by omega) (by omega), f2 (4 * d + 3) (by omega) (by omega), f1 (75 + 17 * d) 0 (by omega) (by omega), f1 (75 + 17 * d) 1 (by omega) (by omega), f1 (76 + 17 * d) 0 (by omega) (by omega), f1 (76 + 17 * d) 1 (by omega) (by omega)]
  exact h
theorem mW_f {o k : Nat} (h : (o < 192 ∨ (192 < o ∧ o < 210) ∨ o = 218 ∨ 230 < o) ∨ (o = 192 ∧ (k < 56 ∨ k = 62 ∨ k = 89 ∨ k = 90 ∨ (93 < k ∧ k < 98) ∨ (99 < k ∧ k < 105) ∨ 106 < k))) : mW o k = false := by
  cases e : mW o k
  · rfl
  · exfalso
    unfold mW at e
    simp only [Bool.or_eq_true, beq_iff_eq, Bool.and_eq_true, decide_eq_true_eq] at e
    omega
theorem FrM_N {d : Nat} {h g : hH} (f : FrN h g) : FrM d h g := ⟨fun o k w => f.1 o k (by have := w.2; omega) (by have := w.2; omega), f.2.2, f.2.1⟩
/-- an outline of less depth stays -/
theorem OD_dn {d : Nat} {hc hm g m : hH} (f1 : FrC (d + 1) hc g) (f2 : FrM (d + 1) hm m) (h : OD d hc hm) : OD d g m :=
  OD_fr (fun o k a b => f1.1 o k (by unfold fC; omega)) (fun o k w => f2.1 o k ⟨mW_f (by omega), by omega⟩) h
theorem PH_dn {d : Nat} {hc hm g m : hH} (f1 : FrC (d + 1) hc g) (f2 : FrM (d + 1) hm m) (h : PH d hc hm) : PH d g m :=
  PH_fr (fun o k a b => f1.1 o k (by unfold fC; omega)) (fun k a b => f2.1 242 k ⟨rfl, by omega⟩) h
theorem OD_N {d : Nat} {hc hm m : hH} (f : FrN hm m) (h : OD d hc hm) : OD d hc m := OD_fr (fun _ _ _ _ => rfl) (fun o k w => f.1 o k (by omega) (by omega)) h
theorem PH_N {d : Nat} {hc hm m : hH} (f : FrN hm m) (h : PH d hc hm) : PH d hc m := PH_fr (fun _ _ _ _ => rfl) (fun k a b => f.1 242 k (by omega) (by omega)) h
theorem WK_c {hc hm g : hH} (c : ∀ o k, ((o < 22 ∧ ¬ (o = 1 ∧ k ≠ 6)) ∨ (22 < o ∧ o < 56) ∨ (56 < o ∧ o < 70)) → rdI g o k = rdI hc o k) (c22 : ∀ k, (k = 4 ∨ k = 5 ∨ k = 6 ∨ k = 24) → rdI g 22 k = rdI hc 22 k) (h : WK hc hm) : WK g hm := ⟨WB_c c c22 h.1, h.2⟩
theorem WK_m {hc hm m : hH} (f : ∀ o k, (o = 194 ∨ o = 195 ∨ (219 ≤ o ∧ o ≤ 235) ∨ (o = 192 ∧ (k ≤ 25 ∨ k = 57 ∨ k = 58 ∨ k = 59 ∨ k = 62 ∨ k = 98))) → rdI m o k = rdI hm o k) (lm : ∀ o k, rdL m o k = rdL hm o k) (h : WK hc hm) : WK hc m := ⟨WB_m (fun o k w => f o k (by omega)) lm h.1, (f 192 59 (by omega)).trans h.2⟩
theorem WK_N {hc hm m : hH} (f : FrN hm m) (h : WK hc hm) : WK hc m := WK_m (fun o k w => f.1 o k (by omega) (by omega)) f.2.2 h
theorem FX_N {hc hm m : hH} (f : FrN hm m) (h : FX hc hm) : FX hc m := by
  obtain ⟨h1, h2, h3, h4, h5⟩ := h
  refine ⟨WB_m (fun o k w => f.1 o k (by omega) (by omega)) f.2.2 h1, ?_, ?_, ?_, ?_⟩
  · rw [f.1 192 59 (by omega) (by omega)]; exact h2
  · rw [f.1 192 59 (by omega) (by omega)]; exact h3
  · rw [f.1 192 60 (by omega) (by omega)]; exact h4
  · rw [f.1 192 59 (by omega) (by omega)]; exact h5
/-- a failure outside of the machine -/
theorem FX_of {hc hm : hH} {e : Int32} (w : WK hc hm) (he : 0 < e ∧ e ≤ 100) : FX (wnt hc e) (foM hm e) := by
  have e59 : rdI (foM hm e) 192 59 = e := foM_59
  refine ⟨WB_m (fun o k q => ?_) (fun _ _ => rfl) (WB_c (fun o k q => ?_) (fun k q => ?_) w.1), ?_, ?_, ?_, ?_⟩
  · unfold foM
    rw [rdI_wrI, if_neg (by omega), rdI_wrI, if_neg (by omega)]
  · unfold wnt
    rw [rdI_o (by omega), rdI_o (by omega)]
  · unfold wnt
    rw [rdI_wrI, if_neg (by omega), rdI_wrI, if_neg (by omega)]
  · rw [e59]; exact he.1
  · rw [e59]
    unfold wnt
    rw [rdI_wrI, if_pos ⟨rfl, rfl⟩]
  · unfold wnt foM
    rw [rdI_wrI, if_pos ⟨rfl, rfl⟩, rdI_wrI, if_neg (by omega), rdI_wrI, if_pos ⟨rfl, rfl⟩]
  · rw [e59]; exact he.2
theorem wnt_fr {d : Nat} {c0 hc : hH} {e : Int32} (f : FrC d c0 hc) : FrC d c0 (wnt hc e) := FrC_w (FrC_w f (by unfold fC; omega)) (by unfold fC; omega)
theorem foM_fr {d : Nat} {m0 hm : hH} {e : Int32} (f : FrM d m0 hm) : FrM d m0 (foM hm e) := FrM_w (FrM_w f (fun w => absurd w.1 (by decide))) (fun w => absurd w.1 (by decide))
theorem jU_fr {d J o k : Nat} {h : hH} (ho : o < 70 + 17 * d ∨ (74 + 17 * d < o ∧ o < 88 + 17 * d) ∨ 89 + 17 * d < o) : rdI (jU d h J) o k = rdI h o k := by
  unfold jU
  rw [rdI_o (by omega), rdI_o (by omega), jW_o (by omega)]
theorem jnF_fr {d J o k : Nat} {h : hH} (ho : o < 70 + 17 * d ∨ (76 + 17 * d < o ∧ o < 88 + 17 * d) ∨ 89 + 17 * d < o) : rdI (jnF d h J) o k = rdI h o k := by
  rw [jnF_o (by omega) (by omega), jU_fr (by omega)]
theorem jnF_L {d J : Nat} {h : hH} : (∀ o k, rdL (jnF d h J) o k = rdL h o k) ∧ (∀ o k, rdP (jnF d h J) o k = rdP h o k) := by
  unfold jnF
  split <;> exact ⟨fun o k => rfl, fun o k => rfl⟩
theorem jnF_C {d J : Nat} {c0 h : hH} (hd : d < 5) (f : FrC d c0 h) : FrC d c0 (jnF d h J) := FrC_t f ⟨fun o k w => jnF_fr (by unfold fC at w; omega), jnF_L.1, fun o k _ _ => jnF_L.2 o k⟩
theorem jX_C {d J : Nat} {c0 h : hH} (hd : d < 5) (f : FrC d c0 h) : FrC d c0 (jX d h J) := FrC_t f ⟨fun o k w => jX_o (by unfold fC at w; omega) (by unfold fC at w; omega), fun o k => rfl, fun o k _ _ => rfl⟩
theorem mJX_fr {d J o k : Nat} {h : hH} (w : fM d o k) : rdI (mJX h d J) o k = rdI h o k := by
  obtain ⟨_, _, _, _, w5, w6, w7, w8⟩ := w
  unfold mJX mj1 mt3
  rw [rdI_mtI, if_neg (by omega), rdI_mtI, if_neg (by omega), rdI_mtI, if_neg (by omega)]
theorem mJU_fr {hc h : hH} {d J o k : Nat} (w : fM d o k) : rdI (mJU hc h d J) o k = rdI h o k := by
  have w0 := w
  obtain ⟨_, _, _, _, w5, w6, w7, w8⟩ := w
  unfold mJU
  rw [rdI_wrI, if_neg (by omega), rdI_wrI, if_neg (by omega)]
  unfold mJW mj3
  rw [rdI_mtI, if_neg (by omega)]
  unfold mJY mj2 mt2
  rw [rdI_mtI, if_neg (by omega), rdI_mtI, if_neg (by omega), mJX_fr w0]
theorem mJF_L {hc h : hH} {d J : Nat} : (∀ o k, rdL (mJF hc h d J) o k = rdL h o k) ∧ (∀ o k, rdP (mJF hc h d J) o k = rdP h o k) := by
  unfold mJF
  split <;> exact ⟨fun o k => rfl, fun o k => rfl⟩
theorem mJF_M {hc m0 h : hH} {d J : Nat} (f : FrM d m0 h) : FrM d m0 (mJF hc h d J) := by
  refine FrM_t f ⟨fun o k w => ?_, mJF_L.1, mJF_L.2⟩
  have w0 := w
  obtain ⟨_, _, _, _, w5, w6, w7, w8⟩ := w
  unfold mJF
  split
  · exact mJU_fr w0
  · unfold mj4
    rw [rdI_mtI, if_neg (by omega)]
    exact mJU_fr w0
theorem mJX_M {m0 h : hH} {d J : Nat} (f : FrM d m0 h) : FrM d m0 (mJX h d J) := FrM_t f ⟨fun o k w => mJX_fr w, fun o k => rfl, fun o k => rfl⟩
theorem mJF_236 {hc h : hH} {d J o k : Nat} (ho : o < 236 ∨ 242 < o) : rdI (mJF hc h d J) o k = rdI h o k := by
  rw [mJF_o (by omega)]
  unfold mJU
  rw [rdI_o (by omega), rdI_o (by omega), mJW_o (by omega) (by omega) (by omega) (by omega)]
/-- what stays true while parts are joined -/
def BI (d : Nat) (c0 m0 y hc hm : hH) : Prop := WK hc hm ∧ OD d hc hm ∧ PH d hc hm ∧ FrC d c0 hc ∧ FrM d m0 hm ∧ (∀ o k, 77 + 17 * d ≤ o → o ≤ 86 + 17 * d → rdI hc o k = rdI y o k) ∧ (rdI hm 192 125 = rdI hc 56 5 ∧ 0 ≤ rdI hc 56 5 ∧ rdI hc 56 5 ≤ 60)
/-- what the making of a glyph leaves -/
def LBr (d : Nat) (hc m : hH) (q : Nat × hH) : Prop := q.1 = 70 + 17 * d ∧ WK q.2 m ∧ OD d q.2 m ∧ PH d q.2 m ∧ FrC d hc q.2 ∧ (rdI m 192 125 = rdI q.2 56 5 ∧ 0 ≤ rdI q.2 56 5 ∧ rdI q.2 56 5 ≤ 60) ∧ (d = 0 → rdI m 192 126 = rdI q.2 56 6 ∧ rdI m 192 127 = rdI q.2 56 7)
def LB (n : Nat) : Prop := ∀ (d : Nat) (x g : Int32) (hc hm : hH), d + n = 6 → x.toNatClampNeg = d → 0 ≤ x → x ≤ 5 → FN hc hm → WK hc hm → 0 ≤ g → g < rdI hc 4 8 → GH hm (n - 1) g → rdI hm 192 125 = rdI hc 56 5 → 0 ≤ rdI hc 56 5 → rdI hc 56 5 ≤ 60 → ∃ Y m, f_Mk_build n g x hc = some Y ∧ f_Mo_makeGlyph n g x hm = some ((), m) ∧ FrM d hm m ∧ TT (fun h => FX h m ∧ FrC d hc h) (LBr d hc m) Y
def RPt (d : Nat) (c0 m0 y : hH) (j : Int32) (Y : hH ⊕ ((Int32 × hH) ⊕ hH)) (m : hH) : Prop := match Y with
  | .inl h => FX h m ∧ FrC d c0 h ∧ FrM d m0 m
  | .inr (.inl t) => t.1 = j + 1 ∧ BI d c0 m0 y t.2 m
  | .inr (.inr _) => False
theorem L_part {n d : Nat} {x g j : Int32} {c0 m0 y hc hm : hH} {la lb : Int64} (ih : LB n) (hn : d + (n + 1) = 6) (x0 : 0 ≤ x ∧ x ≤ 5) (hx : x.toNatClampNeg = d) (fb0 : BY c0 m0) (fn0 : FN c0 m0) (g0 : 0 ≤ g) (g1 : g < rdI c0 4 8) (gh : GH m0 n g) (l0 : FNl c0 m0 g la lb) (ex : f_Gl_read (77 + 17 * d) 5 (rdI c0 4 19 + la.toInt32) (rdI c0 4 19 + lb.toInt32) (rdI c0 4 8) c0 = some (1, y)) (bi : BI d c0 m0 y hc hm) (j0 : 0 ≤ j) (j1 : j < rdI y (77 + 17 * d) 9) : ∃ Y m, bkL (f_Mk_build n) x (77 + 17 * d) (70 + 17 * d) (j, hc) = some Y ∧ f_Mo_makePart (f_Mo_makeGlyph n) g j x hm = some ((), m) ∧ RPt d c0 m0 y j Y m := by
  obtain ⟨wk, od, ph, fc, fm, gy, c1, c2, c3⟩ := bi
  have hd : d < 6 := by omega
  obtain ⟨_, _, hz, _, _, _⟩ := od_rf hd
  obtain ⟨_, ⟨z11, _, _, _⟩, _, z10, _, _, _⟩ := gl_rf hz
  have ctr : CT c0 c0 := ⟨fun _ => rfl, fun _ => rfl, fun _ => rfl⟩
  have n10 : ¬ (1 : Int32) = 0 := by decide
  have rd : ∀ m1, MT m0 m1 → ∃ m2, f_Mo_isGlyph g m1 = some (1, m2) ∧ FrN m1 m2 ∧ GL (77 + 17 * d) (rdI c0 4 8) (rdI c0 4 19 + lb.toInt32) y m2 := fun m1 mt => by
    obtain ⟨m2, e, f, _, q⟩ := rd_at hz (BY_tr ctr mt fb0) (FG_tr ctr mt fn0.1) (FNl_tr ctr mt l0) ex
    rcases q with q | ⟨_, q, _⟩
    · exact absurd q n10
    · exact ⟨m2, e, f, q⟩
  obtain ⟨mm, e0, _, gl0⟩ := rd m0 MT_rfl
  obtain ⟨p0, parts⟩ := GL_parts gl0
  have k8 : rdI y (77 + 17 * d) 9 ≤ 8 := by
    rcases gl0.2.2 with ⟨_, _, q, _⟩ | ⟨q, _⟩
    · exact q.2
    · rw [q]; decide
  have jl := (xI_lt j0 (Int32.le_trans j0 (Int32.le_of_lt j1))).mpr j1
  obtain ⟨pid, pr0, pr1⟩ := parts _ jl
  have hn1 : ∃ n', n = n' + 1 ∧ GH m0 n' (rdI y (77 + 17 * d + 6) j.toNatClampNeg) := by
    cases n with
    | zero =>
      obtain ⟨a, ea, qa⟩ := gh
      rw [e0] at ea
      have := congrArg Prod.snd (Option.some.inj ea)
      dsimp only at this
      rw [← this, p0] at qa
      grind
    | succ n' =>
      obtain ⟨a, ea, qa⟩ := gh
      rw [e0] at ea
      have := congrArg Prod.snd (Option.some.inj ea)
      dsimp only at this
      rw [← this, p0] at qa
      refine ⟨n', rfl, ?_⟩
      have := qa _ jl
      rw [pid] at this
      exact this
  obtain ⟨n', en, ghp⟩ := hn1
  have hd5 : d < 5 := by omega
  have x4 : x ≤ 4 := by
    have e5 : (5 : Int32).toNatClampNeg = 5 := rfl
    by_cases w : x = 5
    · rw [w, e5] at hx; omega
    · grind
  have v8 : vp_in j 8 := vp_lt (n := 8) (m := 8) j0 (by grind) rfl
  have f59 := wk.2
  have h9 : rdI hc (77 + 17 * d) 9 = rdI y (77 + 17 * d) 9 := gy _ _ (by omega) (by omega)
  rw [makePart_eq0]
  unfold bkL
  dsimp only
  rw [h9, if_neg (Int32.not_le.mpr j1)]
  by_cases c60 : 60 ≤ rdI hc 56 5
  · have e60 : rdI hm 192 125 = 60 := by rw [c1]; grind
    rw [if_pos c60, lz_eq, want_F, bT_inl, if_pos e60, fo_eq f59, bS_some]
    exact ⟨_, _, rfl, rfl, FX_of wk (by decide), wnt_fr fc, foM_fr fm⟩
  have e60 : ¬ rdI hm 192 125 = 60 := by rw [c1]; grind
  rw [if_neg c60, lz_eq, want_T, bT_inr, lz_eq, gd_pos v8, z11, if_neg e60, lz_eq]
  generalize hC9 : wrI hc 56 5 (rdI hc 56 5 + 1) = c9
  have C9 : ∀ o k, ¬ (o = 56 ∧ k = 5) → rdI c9 o k = rdI hc o k := fun o k w => by rw [← hC9, rdI_wrI, if_neg w]
  have fc9 : FrC d c0 c9 := by rw [← hC9]; exact FrC_w fc (by unfold fC; omega)
  have wk9 : WK c9 hm := WK_c (fun o k w => C9 o k (by omega)) (fun k w => C9 22 k (by omega)) wk
  generalize hM1 : wrI hm 192 125 (rdI hm 192 125 + 1) = m1
  have M1 : ∀ o k, ¬ (o = 192 ∧ k = 125) → rdI m1 o k = rdI hm o k := fun o k w => by rw [← hM1, rdI_wrI, if_neg w]
  have M1L : ∀ o k, rdL m1 o k = rdL hm o k := fun o k => by rw [← hM1]; rfl
  have fm1 : FrM d m0 m1 := by rw [← hM1]; exact FrM_w fm (by unfold fM; omega)
  have wk1 : WK c9 m1 := WK_m (fun o k w => M1 o k (by omega)) M1L wk9
  obtain ⟨m2, e2, f2, gl2⟩ := rd m1 (MT_M fm1)
  rw [e2, bS_some, gd_pos v8, lz_eq]
  have eid : rdI m2 204 j.toNatClampNeg = rdI y (77 + 17 * d + 6) j.toNatClampNeg := ((GL_parts gl2).2 _ jl).1
  have eid9 : rdI c9 (77 + 17 * d + 6) j.toNatClampNeg = rdI y (77 + 17 * d + 6) j.toNatClampNeg := (C9 _ _ (by omega)).trans (gy _ _ (by omega) (by omega))
  rw [eid, eid9]
  have fm2 : FrM d m0 m2 := FrM_t fm1 (FrM_N f2)
  have wk2 : WK c9 m2 := WK_N f2 wk1
  have cn : rdI m2 192 125 = rdI c9 56 5 := by
    rw [f2.1 192 125 (by omega) (by omega), ← hM1, ← hC9, rdI_wrI, if_pos ⟨rfl, rfl⟩, rdI_wrI, if_pos ⟨rfl, rfl⟩, c1]
  have c95 : rdI c9 56 5 = rdI hc 56 5 + 1 := by rw [← hC9, rdI_wrI, if_pos ⟨rfl, rfl⟩]
  have ex1 : (x + 1).toNatClampNeg = d + 1 := by
    have : (x + 1).toNatClampNeg = x.toNatClampNeg + 1 := xI_succ (m := 12) x0.1 (by grind) (by decide)
    omega
  have c48 : rdI c9 4 8 = rdI c0 4 8 := (CT_C fc9).1 8
  have gh2 : GH m2 (n - 1) (rdI y (77 + 17 * d + 6) j.toNatClampNeg) := by
    rw [show n - 1 = n' by omega]
    exact GH_tr fb0 fn0.1 (MT_M fm2) _ _ pr0 pr1 ghp
  obtain ⟨Y, m3, eY, em, fm3, r⟩ := ih (d + 1) (x + 1) (rdI y (77 + 17 * d + 6) j.toNatClampNeg) c9 m2 (by omega) ex1 (by grind) (by grind) (FN_tr (CT_C fc9) (MT_M fm2) fb0 fn0) wk2 pr0 (by rw [c48]; exact pr1) gh2 cn (by rw [c95]; grind) (by rw [c95]; grind)
  rw [eY, em, bS_some]
  have fm3' : FrM d m0 m3 := FrM_t fm2 (FrM_up fm3)
  obtain ⟨m4, e4, f4, gl4⟩ := rd m3 (MT_M fm3')
  rw [e4, bS_some]
  have fm4 : FrM d m0 m4 := FrM_t fm3' (FrM_N f4)
  have e59 : rdI m4 192 59 = rdI m3 192 59 := f4.1 192 59 (by omega) (by omega)
  rcases Y with h | ⟨a, c10⟩
  · obtain ⟨fx, fch⟩ := r
    have ps := fx.2.1
    rw [bT_inl, e59, if_neg (Int32.not_le.mpr ps)]
    exact ⟨_, _, rfl, rfl, FX_N f4 fx, FrC_t fc9 (FrC_up fch), fm4⟩
  · obtain ⟨ea, wk3, od1, ph1, fc10, cn3, _⟩ := r
    dsimp only at ea wk3 od1 ph1 fc10 cn3
    have k70 : 70 + 17 * (d + 1) = 87 + 17 * d := by omega
    have fc10' : FrC d c0 c10 := FrC_t fc9 (FrC_up fc10)
    have od9 : OD d c9 m2 := OD_N f2 (OD_fr (fun o k a b => C9 o k (by omega)) (fun o k w => M1 o k (by omega)) od)
    have ph9 : PH d c9 m2 := PH_N f2 (PH_fr (fun o k a b => C9 o k (by omega)) (fun k a b => M1 242 k (by omega)) ph)
    have od0' : OD d c10 m4 := OD_N f4 (OD_dn fc10 fm3 od9)
    have ph0' : PH d c10 m4 := PH_N f4 (PH_dn fc10 fm3 ph9)
    have od1' : OD (d + 1) c10 m4 := OD_N f4 od1
    have ph1' : PH (d + 1) c10 m4 := PH_N f4 ph1
    have wk4 : WK c10 m4 := WK_N f4 wk3
    have gy10 : ∀ o k, 77 + 17 * d ≤ o → o ≤ 86 + 17 * d → rdI c10 o k = rdI y o k := fun o k a b => (fc10.1 o k (by unfold fC; omega)).trans ((C9 o k (by omega)).trans (gy o k a b))
    have cn4 : rdI m4 192 125 = rdI c10 56 5 := (f4.1 192 125 (by omega) (by omega)).trans cn3.1
    have z59 : rdI m4 192 59 ≤ 0 := by rw [wk4.2]; decide
    have iA9 : isA 9 a := by
      rw [ea]
      exact (od_rf (show d + 1 < 6 by omega)).2.2.2.2.1
    rw [bT_inr, gd_pos iA9, ea, k70, if_pos z59]
    have pa : PA (77 + 17 * d) y m4 (rdI y (77 + 17 * d) 9) (rdI c0 4 8) := by
      rcases gl4.2.2 with ⟨_, _, _, q⟩ | ⟨q, _⟩
      · exact q
      · rw [q] at j1; exact absurd (Int32.lt_of_le_of_lt j0 j1) (by decide)
    obtain ⟨pa1, pa2⟩ := pa
    obtain ⟨q1, _, _, q4, q5, q6⟩ := pa1 _ jl
    have s5 : 77 + 17 * d + 5 = 82 + 17 * d := by omega
    have s7 : 77 + 17 * d + 7 = 84 + 17 * d := by omega
    have s8 : 77 + 17 * d + 8 = 85 + 17 * d := by omega
    have s9 : 77 + 17 * d + 9 = 86 + 17 * d := by omega
    rw [s5] at q1 q6
    rw [s7] at q4 q6
    rw [s8] at q5 q6
    have fl : rdI m4 203 j.toNatClampNeg = rdI c10 (82 + 17 * d) j.toNatClampNeg := q1.trans (gy10 _ _ (by omega) (by omega)).symm
    have a1 : rdI m4 205 j.toNatClampNeg = rdI c10 (84 + 17 * d) j.toNatClampNeg := q4.trans (gy10 _ _ (by omega) (by omega)).symm
    have a2 : rdI m4 206 j.toNatClampNeg = rdI c10 (85 + 17 * d) j.toNatClampNeg := q5.trans (gy10 _ _ (by omega) (by omega)).symm
    have mx : ∀ i, i < 4 → rdI m4 207 (4 * j.toNatClampNeg + i) = rdI c10 (86 + 17 * d) (4 * j.toNatClampNeg + i) := fun i hi => by
      have := pa2 (4 * j.toNatClampNeg + i) (by omega)
      rw [s9] at this
      exact this.trans (gy10 _ _ (by omega) (by omega)).symm
    have nn : jfl d c10 j.toNatClampNeg &&& 2 = 0 → 0 ≤ rdI c10 (84 + 17 * d) j.toNatClampNeg ∧ 0 ≤ rdI c10 (85 + 17 * d) j.toNatClampNeg := fun w => by
      have w' : rdI y (82 + 17 * d) j.toNatClampNeg &&& 2 = 0 := by
        rw [← gy10 (82 + 17 * d) j.toNatClampNeg (by omega) (by omega)]
        exact w
      rw [gy10 _ _ (by omega) (by omega), gy10 _ _ (by omega) (by omega)]
      exact q6 w'
    have hu : 16 ≤ rdI c10 4 6 := wk4.1.1.2.1.2.1
    have nm : rdI m4 203 j.toNatClampNeg &&& 2 = 0 → 0 ≤ rdI m4 205 j.toNatClampNeg ∧ 0 ≤ rdI m4 206 j.toNatClampNeg := fun w => by
      rw [a1, a2]
      exact nn (by rw [fl] at w; exact w)
    have O0 := od0'.1
    have E0 := od0'.2.1
    have O1 := od1'.1
    have E1 := od1'.2.1
    rw [k70] at O1 E1
    have m0n : rdI m4 236 x.toNatClampNeg = rdI c10 (70 + 17 * d) 3 := by rw [hx]; exact O0.1
    have m0c : rdI m4 237 x.toNatClampNeg = rdI c10 (70 + 17 * d) 5 := by rw [hx]; exact O0.2
    have m1n : rdI m4 236 (x.toNatClampNeg + 1) = rdI c10 (87 + 17 * d) 3 := by rw [hx]; exact O1.1
    have m1c : rdI m4 237 (x.toNatClampNeg + 1) = rdI c10 (87 + 17 * d) 5 := by rw [hx]; exact O1.2
    have bn0 : 0 ≤ rdI c10 (70 + 17 * d) 3 ∧ rdI c10 (70 + 17 * d) 3 ≤ 100 := ⟨E0.2.2.1, E0.2.2.2.1⟩
    have bn1 : 0 ≤ rdI c10 (87 + 17 * d) 3 ∧ rdI c10 (87 + 17 * d) 3 ≤ 100 := ⟨E1.2.2.1, E1.2.2.2.1⟩
    have bc0 : 0 ≤ rdI c10 (70 + 17 * d) 5 ∧ rdI c10 (70 + 17 * d) 5 ≤ 20 := ⟨E0.1, E0.2.1⟩
    have bc1 : 0 ≤ rdI c10 (87 + 17 * d) 5 ∧ rdI c10 (87 + 17 * d) 5 ≤ 20 := ⟨E1.1, E1.2.1⟩
    rw [Mk_join_eq hd5 ⟨j0, by grind⟩ hu bn0 bn1 bc0 bc1 nn]
    rw [mpJ_eq (hc := c10) ⟨x0.1, x4⟩ ⟨j0, by grind⟩ hu wk4.1.2.2.1 wk4.1.1.2.1.1 wk4.2 (by rw [m0n]; exact bn0) (by rw [m1n]; exact bn1) (by rw [m0c]; exact bc0) (by rw [m1c]; exact bc1) nm]
    rw [m0n, m1n, m0c, m1c, fl, a1, a2, hx]
    by_cases A : 100 < rdI c10 (70 + 17 * d) 3 + rdI c10 (87 + 17 * d) 3 ∨ 20 < rdI c10 (70 + 17 * d) 5 + rdI c10 (87 + 17 * d) 5
    · rw [if_pos A, if_pos A, bT_inl]
      exact ⟨_, _, rfl, rfl, FX_of wk4 (by decide), wnt_fr fc10', foM_fr fm4⟩
    rw [if_neg A, if_neg A]
    have jf : rdI c10 (82 + 17 * d) j.toNatClampNeg = jfl d c10 j.toNatClampNeg := rfl
    rw [jf]
    by_cases B : jfl d c10 j.toNatClampNeg &&& 2 = 0 ∧ (rdI c10 (70 + 17 * d) 3 ≤ rdI c10 (84 + 17 * d) j.toNatClampNeg ∨ rdI c10 (87 + 17 * d) 3 ≤ rdI c10 (85 + 17 * d) j.toNatClampNeg)
    · rw [if_pos B, if_pos B, bT_inl]
      have wkX : WK (jX d c10 j.toNatClampNeg) (mJX m4 d j.toNatClampNeg) := WK_m (fun o k w => mJX_o (by omega) (by omega) (by omega)) (fun _ _ => rfl) (WK_c (fun o k w => jX_o (by omega) (by omega)) (fun k w => jX_o (by omega) (by omega)) wk4)
      exact ⟨_, _, rfl, rfl, FX_of wkX (by decide), wnt_fr (jX_C hd5 fc10'), foM_fr (mJX_M fm4)⟩
    rw [if_neg B, if_neg B, bT_inr, lz_eq]
    obtain ⟨L1, L2⟩ := L_join od0' od1' ph0' ph1' fl a1 a2 mx (by grind) (by grind) B nn
    refine ⟨_, _, rfl, rfl, rfl, ?_, L1, L2, jnF_C hd5 fc10', mJF_M fm4, ?_, ?_⟩
    · exact WK_m (fun o k w => mJF_236 (by omega)) mJF_L.1 (WK_c (fun o k w => jnF_fr (by omega)) (fun k w => jnF_fr (by omega)) wk4)
    · intro o k a b
      rw [jnF_fr (by omega)]
      exact gy10 o k a b
    · rw [mJF_236 (by omega), jnF_fr (by omega)]
      exact ⟨cn4, cn3.2⟩
