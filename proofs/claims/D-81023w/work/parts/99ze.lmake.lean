/-! LAYER 3BM: the law of make, between two heaps -/
/-- cells that a make leaves -/
def FCk (h g : hH) : Prop := (∀ o k, ((o < 22 ∧ ¬ (o = 1 ∧ (k = 8 ∨ (10 ≤ k ∧ k ≤ 13)))) ∨ (55 < o ∧ o < 70 ∧ ¬ (o = 56 ∧ 5 ≤ k ∧ k ≤ 7)) ∨ 190 ≤ o) → rdI g o k = rdI h o k) ∧ (∀ o k, rdL g o k = rdL h o k) ∧ (∀ o k, ¬ (o = 1 ∧ k = 7) → ¬ (o = 22 ∧ k = 3) → ¬ (77 ≤ o ∧ k = 15) → rdP g o k = rdP h o k)
def FMk (h g : hH) : Prop := (∀ o k, mW o k = false → ¬ (o = 192 ∧ ((26 ≤ k ∧ k ≤ 32) ∨ k = 52 ∨ k = 53 ∨ (108 ≤ k ∧ k ≤ 112) ∨ (125 ≤ k ∧ k ≤ 129) ∨ k = 134)) → ¬ (199 ≤ o ∧ o ≤ 207) → o ≠ 218 → ¬ (236 ≤ o ∧ o ≤ 246) → rdI g o k = rdI h o k) ∧ (∀ o k, rdL g o k = rdL h o k) ∧ (∀ o k, rdP g o k = rdP h o k)
/-- an outline that was made -/
def MO (hc hm : hH) : Prop := (rdI hm 192 128 = rdI hc 70 3 ∧ rdI hm 192 129 = rdI hc 70 5) ∧ EN (fun c => rdI hc 74 c) (rdI hc 70 5) (rdI hc 70 3) ∧ (∀ i, i < (rdI hc 70 3).toNatClampNeg → rdI hm 243 i = rdI hc 71 i ∧ rdI hm 244 i = rdI hc 72 i ∧ rdI hm 245 i = rdI hc 73 i ∧ (rdI hc 73 i = 0 ∨ rdI hc 73 i = 1)) ∧ (∀ c, c < (rdI hc 70 5).toNatClampNeg → rdI hm 246 c = rdI hc 74 c) ∧ (∀ i, i < (rdI hc 70 3).toNatClampNeg → inV 4096 (rdI hc 71 i) ∧ inV 4096 (rdI hc 72 i)) ∧ rdI hm 192 134 = rdI hc 1 8 ∧ (rdI hm 192 126 = rdI hc 56 6 ∧ rdI hm 192 127 = rdI hc 56 7) ∧ IS0 hc (lyA hc (rdI hc 70 5).toNatClampNeg)
/-- what told says -/
def TD (hc hm : hH) : Prop := rdI hm 192 109 = rdI hc 1 10 ∧ rdI hm 192 110 = rdI hc 1 11 ∧ rdI hm 192 111 = rdI hc 1 12 ∧ rdI hm 192 112 = rdI hc 1 13
theorem mkNow_h {g : hH} : f_HH_makeNow_h g = some (-100 - rdI g 22 13, wrI (wrI (wrI (wrI g 1 10 (rdI g 22 5)) 1 11 (rdI g 1 11 + 1)) 1 12 (rdI g 22 13)) 1 13 (rdI g 22 12)) := by
  unfold f_HH_makeNow_h f_HH_fails
  simp only [lz, bS_some, rdI_wrI, rdI_flI, rdI_wrP, Nat.reduceEqDiff, false_and, and_false, true_and, and_true, eq_self, reduceIte]
/-- a make that failed, on both sides -/
theorem mk_fail {c0 h m : hH} (fx : FX h m) (fc : FrC 0 c0 h) (e11 : rdI m 192 110 = rdI h 1 11) (P7 : rdP h 1 7 = 0) (m108 : rdI m 192 108 = 0) : ∃ a g' m', f_HH_makeNow_h h = some (a, g') ∧ f_Mo_failedNow m = some (a, m') ∧ WB g' m' ∧ (∀ o k, ¬ (o = 1 ∧ 10 ≤ k ∧ k ≤ 13) → rdI g' o k = rdI h o k) ∧ (∀ o k, ¬ (o = 192 ∧ 109 ≤ k ∧ k ≤ 112) → rdI m' o k = rdI m o k) ∧ (∀ o k, rdL g' o k = rdL h o k) ∧ (∀ o k, rdP g' o k = rdP h o k) ∧ (∀ o k, rdL m' o k = rdL m o k) ∧ (∀ o k, rdP m' o k = rdP m o k) ∧ TD g' m' ∧ a < 0 := by
  obtain ⟨wb, ps, e13, e12, bd⟩ := fx
  rw [e13] at ps bd
  rw [mkNow_h, failedNow_eq, e13]
  have C : ∀ o k, ¬ (o = 1 ∧ 10 ≤ k ∧ k ≤ 13) → rdI (wrI (wrI (wrI (wrI h 1 10 (rdI h 22 5)) 1 11 (rdI h 1 11 + 1)) 1 12 (rdI h 22 13)) 1 13 (rdI h 22 12)) o k = rdI h o k := fun o k w => by
    rw [rdI_wrI, if_neg (by omega), rdI_wrI, if_neg (by omega), rdI_wrI, if_neg (by omega), rdI_wrI, if_neg (by omega)]
  have M : ∀ o k, ¬ (o = 192 ∧ 109 ≤ k ∧ k ≤ 112) → rdI (wrI (wrI (wrI (wrI m 192 110 (rdI m 192 110 + 1)) 192 111 (rdI h 22 13)) 192 112 (rdI m 192 60)) 192 109 (rdI m 192 58)) o k = rdI m o k := fun o k w => by
    rw [rdI_wrI, if_neg (by omega), rdI_wrI, if_neg (by omega), rdI_wrI, if_neg (by omega), rdI_wrI, if_neg (by omega)]
  refine ⟨_, _, _, rfl, rfl, WB_m (fun o k w => M o k (by omega)) (fun _ _ => rfl) (WB_c (fun o k w => C o k (by omega)) (fun k w => C 22 k (by omega)) wb), C, M, fun _ _ => rfl, fun _ _ => rfl, fun _ _ => rfl, fun _ _ => rfl, ⟨?_, ?_, ?_, ?_⟩, ?_⟩
  · simp only [rdI_wrI, rdP_wrI, rdL_wrI, Nat.reduceEqDiff, false_and, and_false, true_and, and_true, eq_self, reduceIte, ite_self]; exact wb.2.2.2.1.1
  · simp only [rdI_wrI, rdP_wrI, rdL_wrI, Nat.reduceEqDiff, false_and, and_false, true_and, and_true, eq_self, reduceIte, ite_self]; rw [e11]
  · simp only [rdI_wrI, rdP_wrI, rdL_wrI, Nat.reduceEqDiff, false_and, and_false, true_and, and_true, eq_self, reduceIte, ite_self]
  · simp only [rdI_wrI, rdP_wrI, rdL_wrI, Nat.reduceEqDiff, false_and, and_false, true_and, and_true, eq_self, reduceIte, ite_self]; exact e12
  · grind
theorem lyA_loc {h g : hH} (f : FrI h g) : ∀ c, lyA g c = lyA h c := by
  intro c
  induction c with
  | zero => rfl
  | succ c ih =>
    show lyC g (bgN g c) ((rdI g 74 c).toNatClampNeg + 1 - bgN g c) (lyA g c) = lyC h (bgN h c) ((rdI h 74 c).toNatClampNeg + 1 - bgN h c) (lyA h c)
    have e : bgN g c = bgN h c := by
      unfold bgN
      rw [f.1 74 _ (by omega)]
    rw [e, f.1 74 _ (by omega), ih, lyC_loc f]
theorem bH_t {A Y : Type} {h : hH} {kt : hH → Option Y} {kn : A → hH → Option (Y × Nat)} {y : Y} (e : kt h = some y) : bH (some (.inl h)) kt kn = some (y, 1) := by
  unfold bH
  dsimp only
  rw [e]
theorem bH_r {A Y : Type} {q : A × hH} {kt : hH → Option Y} {kn : A → hH → Option (Y × Nat)} : bH (some (.inr q)) kt kn = kn q.1 q.2 := rfl
theorem fnH_o {h : hH} {o k : Nat} (ho : o ≠ 71) : rdI (fnH h) o k = rdI h o k := rdI_mo ho
theorem fnH_i {h : hH} {i : Nat} (hi : i < (rdI h 70 3).toNatClampNeg) : rdI (fnH h) 71 i = rdI h 71 i - rdI h 75 0 := by
  have := rdI_mi (h := h) (o := 71) (b := 0) (v := fun i => rdI h 71 i - rdI h 75 0) hi
  rw [Nat.zero_add] at this
  exact this
theorem mkZ_o {v1 : Int32} {h : hH} {o k : Nat} (ho : o ≠ 246) (hk : ¬ (o = 192 ∧ (k = 128 ∨ k = 129 ∨ k = 134 ∨ (108 ≤ k ∧ k ≤ 112)))) : rdI (mkZ v1 h) o k = rdI h o k := by
  unfold mkZ mkB mkA
  rw [rdI_wrI, if_neg (by omega), rdI_wrI, if_neg (by omega), rdI_wrI, if_neg (by omega), rdI_wrI, if_neg (by omega), rdI_wrI, if_neg (by omega), rdI_mo ho, rdI_wrI, if_neg (by omega), rdI_wrI, if_neg (by omega)]
theorem mkZ_s {v1 : Int32} {h : hH} : rdI (mkZ v1 h) 192 128 = rdI h 236 0 ∧ rdI (mkZ v1 h) 192 129 = rdI h 237 0 ∧ rdI (mkZ v1 h) 192 134 = rdI h 242 2 - v1 ∧ rdI (mkZ v1 h) 192 108 = 1 ∧ rdI (mkZ v1 h) 192 109 = rdI h 192 58 ∧ rdI (mkZ v1 h) 192 110 = rdI h 192 110 ∧ rdI (mkZ v1 h) 192 111 = 0 ∧ rdI (mkZ v1 h) 192 112 = -1 := by
  unfold mkZ mkB mkA
  refine ⟨?_, ?_, ?_, ?_, ?_, ?_, ?_, ?_⟩
  · rw [rdI_wrI, if_neg (by omega), rdI_wrI, if_neg (by omega), rdI_wrI, if_neg (by omega), rdI_wrI, if_neg (by omega), rdI_wrI, if_neg (by omega), rdI_mo (by decide), rdI_wrI, if_neg (by omega), rdI_wrI, if_pos ⟨rfl, rfl⟩]
  · rw [rdI_wrI, if_neg (by omega), rdI_wrI, if_neg (by omega), rdI_wrI, if_neg (by omega), rdI_wrI, if_neg (by omega), rdI_wrI, if_neg (by omega), rdI_mo (by decide), rdI_wrI, if_pos ⟨rfl, rfl⟩]
  · rw [rdI_wrI, if_neg (by omega), rdI_wrI, if_neg (by omega), rdI_wrI, if_neg (by omega), rdI_wrI, if_neg (by omega), rdI_wrI, if_pos ⟨rfl, rfl⟩]
  · rw [rdI_wrI, if_neg (by omega), rdI_wrI, if_neg (by omega), rdI_wrI, if_neg (by omega), rdI_wrI, if_pos ⟨rfl, rfl⟩]
  · rw [rdI_wrI, if_neg (by omega), rdI_wrI, if_neg (by omega), rdI_wrI, if_pos ⟨rfl, rfl⟩]
  · rw [rdI_wrI, if_neg (by omega), rdI_wrI, if_neg (by omega), rdI_wrI, if_neg (by omega), rdI_wrI, if_neg (by omega), rdI_wrI, if_neg (by omega), rdI_mo (by decide), rdI_wrI, if_neg (by omega), rdI_wrI, if_neg (by omega)]
  · rw [rdI_wrI, if_neg (by omega), rdI_wrI, if_pos ⟨rfl, rfl⟩]
  · rw [rdI_wrI, if_pos ⟨rfl, rfl⟩]
theorem mkZ_246 {v1 : Int32} {h : hH} {c : Nat} (hc : c < (rdI h 237 0).toNatClampNeg) : rdI (mkZ v1 h) 246 c = rdI h 241 c := by
  unfold mkZ
  rw [rdI_o (by decide), rdI_o (by decide), rdI_o (by decide), rdI_o (by decide), rdI_o (by decide)]
  have := rdI_mi (h := mkA h) (o := 246) (b := 0) (v := fun i => rdI h 241 i) hc
  rw [Nat.zero_add] at this
  exact this
theorem L_make {hc hm : hH} {g : Int32} (fs : FS hc hm) (sz : SZ hc hm) (e62 : rdI hm 192 62 = rdI hc 22 4) (e57 : rdI hm 192 57 = rdI hc 22 6 ∧ 0 ≤ rdI hc 22 6 ∧ rdI hc 22 6 ≤ 256) (fn : FN hc hm) (g0 : 0 ≤ g) (g1 : g < rdI hc 4 8) (e11 : rdI hm 192 110 = rdI hc 1 11) : ∃ a g' c m', f_HH_makeNow g hc = some ((a, g'), c) ∧ (c ≤ 1 ∧ (0 ≤ a → c = 0 ∧ rdI m' 192 108 = 1)) ∧ f_Mo_makeIt g hm = some (a, m') ∧ WB g' m' ∧ FCk hc g' ∧ FMk hm m' ∧ TD g' m' ∧ ((rdP g' 1 7 = 0 ∧ rdI m' 192 108 = 0) ∨ (rdP g' 1 7 = 70 ∧ rdI m' 192 108 = 1 ∧ MO g' m')) := by
  have fb : BY hc hm := fs.1
  generalize hH2 : wrI (wrI (wrI (wrP hc 1 7 0) 56 5 0) 22 5 0) 22 12 (-1) = h2
  have C2 : ∀ o k, ¬ (o = 56 ∧ k = 5) → ¬ (o = 22 ∧ (k = 5 ∨ k = 12)) → rdI h2 o k = rdI hc o k := fun o k a b => by
    rw [← hH2, rdI_wrI, if_neg (by omega), rdI_wrI, if_neg (by omega), rdI_wrI, if_neg (by omega), rdI_wrP]
  have P2 : ∀ o k, rdP h2 o k = if o = 1 ∧ k = 7 then 0 else rdP hc o k := fun o k => by rw [← hH2]; rfl
  have L2 : ∀ o k, rdL h2 o k = rdL hc o k := fun o k => by rw [← hH2]; rfl
  have h225 : rdI h2 22 5 = 0 := by rw [← hH2]; simp only [rdI_wrI, rdP_wrI, rdL_wrI, Nat.reduceEqDiff, false_and, and_false, true_and, and_true, eq_self, reduceIte, ite_self]
  have h565 : rdI h2 56 5 = 0 := by rw [← hH2]; simp only [rdI_wrI, rdP_wrI, rdL_wrI, Nat.reduceEqDiff, false_and, and_false, true_and, and_true, eq_self, reduceIte, ite_self]
  generalize hM4 : wrI (wrI (wrI (wrI hm 192 108 0) 192 59 0) 192 58 0) 192 125 0 = m4
  have M4 : ∀ o k, ¬ (o = 192 ∧ (k = 108 ∨ k = 59 ∨ k = 58 ∨ k = 125)) → rdI m4 o k = rdI hm o k := fun o k a => by
    rw [← hM4, rdI_wrI, if_neg (by omega), rdI_wrI, if_neg (by omega), rdI_wrI, if_neg (by omega), rdI_wrI, if_neg (by omega)]
  have L4 : ∀ o k, rdL m4 o k = rdL hm o k := fun o k => by rw [← hM4]; rfl
  have P4 : ∀ o k, rdP m4 o k = rdP hm o k := fun o k => by rw [← hM4]; rfl
  have m58 : rdI m4 192 58 = 0 := by rw [← hM4]; simp only [rdI_wrI, rdP_wrI, rdL_wrI, Nat.reduceEqDiff, false_and, and_false, true_and, and_true, eq_self, reduceIte, ite_self]
  have m59 : rdI m4 192 59 = 0 := by rw [← hM4]; simp only [rdI_wrI, rdP_wrI, rdL_wrI, Nat.reduceEqDiff, false_and, and_false, true_and, and_true, eq_self, reduceIte, ite_self]
  have m108 : rdI m4 192 108 = 0 := by rw [← hM4]; simp only [rdI_wrI, rdP_wrI, rdL_wrI, Nat.reduceEqDiff, false_and, and_false, true_and, and_true, eq_self, reduceIte, ite_self]
  have m125 : rdI m4 192 125 = 0 := by rw [← hM4]; simp only [rdI_wrI, rdP_wrI, rdL_wrI, Nat.reduceEqDiff, false_and, and_false, true_and, and_true, eq_self, reduceIte, ite_self]
  have ct : CT hc h2 := ⟨fun k => C2 4 k (by omega) (by omega), fun k => C2 5 k (by omega) (by omega), fun k => C2 6 k (by omega) (by omega)⟩
  have mt : MT hm m4 := ⟨fun k w => M4 192 k (by omega), fun k => M4 194 k (by omega), fun k => M4 195 k (by omega), L4⟩
  have fn2 : FN h2 m4 := FN_tr ct mt fb fn
  have s := sz.2.2.2.2.2.2.2
  have wk2 : WK h2 m4 := by
    refine ⟨⟨FS_tr ct.1 ct.2.1 ct.2.2 mt.1 mt.2.1 mt.2.2.1 L4 fs, SZ_tr ct.1 ct.2.1 (fun o k a b => C2 o k (by omega) (by omega)) (C2 1 6 (by omega) (by omega)) (C2 22 4 (by omega) (by omega)) (fun o k a b => M4 o k (by omega)) (FT_tr (fun o k ho => C2 o k (by omega) (by omega)) (fun o k ho => M4 o k (by omega)) s.1) (OW_tr (fun o k ho => C2 o k (by omega) (by omega)) (C2 22 24 (by omega) (by omega)) (fun o k ho => M4 o k (by omega)) s.2.1) ?_ sz, ?_, ?_, ?_⟩, m59⟩
    · rw [M4 192 98 (by omega), C2 22 24 (by omega) (by omega)]; exact s.2.2.1
    · rw [M4 192 62 (by omega), C2 22 4 (by omega) (by omega)]; exact e62
    · rw [m58, h225]; decide
    · rw [M4 192 57 (by omega), C2 22 6 (by omega) (by omega)]; exact e57
  have g12 : g < rdI h2 4 8 := by rw [ct.1]; exact g1
  obtain ⟨Y, m5, eY, em, fm5, r⟩ := LB_all 6 0 0 g h2 m4 rfl rfl (by decide) (by decide) fn2 wk2 g0 g12 (fn2.2 g g0 g12).2 (by rw [m125, h565]) (by rw [h565]; decide) (by rw [h565]; decide)
  have eB : f_Mk_begin (wrP hc 1 7 0) = some ((), h2) := by rw [← hH2]; rfl
  have m5o : ∀ o k, mW o k = false → ¬ (o = 192 ∧ ((26 ≤ k ∧ k ≤ 32) ∨ k = 52 ∨ k = 53 ∨ (125 ≤ k ∧ k ≤ 127))) → ¬ (199 ≤ o ∧ o ≤ 207) → o ≠ 218 → ¬ (236 ≤ o ∧ o ≤ 242) → rdI m5 o k = rdI m4 o k := fun o k a b c d e => fm5.1 o k ⟨a, b, c, d, by omega, by omega, by omega, by omega⟩
  have c110 : rdI m5 192 110 = rdI hm 192 110 := (m5o 192 110 rfl (by omega) (by omega) (by omega) (by omega)).trans (M4 192 110 (by omega))
  have c108 : rdI m5 192 108 = 0 := (m5o 192 108 rfl (by omega) (by omega) (by omega) (by omega)).trans m108
  unfold f_HH_makeNow
  rw [lz_eq, eB, bS_some, eY, makeIt_eq0, lz_eq, lz_eq, lz_eq, lz_eq, hM4, em, bS_some, lz_eq]
  have fail : ∀ (h m : hH), FX h m → FrC 0 h2 h → FMk hm m → rdI m 192 110 = rdI hm 192 110 → rdI m 192 108 = 0 → ∃ a g' m', f_HH_makeNow_h h = some (a, g') ∧ f_Mo_failedNow m = some (a, m') ∧ WB g' m' ∧ FCk hc g' ∧ FMk hm m' ∧ TD g' m' ∧ (rdP g' 1 7 = 0 ∧ rdI m' 192 108 = 0) ∧ a < 0 := fun h m fx fc fm e1 e2 => by
    have P7 : rdP h 1 7 = 0 := by rw [fc.2.2 1 7 (by omega) (by omega), P2, if_pos ⟨rfl, rfl⟩]
    have e11' : rdI m 192 110 = rdI h 1 11 := by rw [e1, fc.1 1 11 (by unfold fC; omega), C2 1 11 (by omega) (by omega)]; exact e11
    obtain ⟨a, g', m', q1, q2, q3, q4, q5, q6, q7, q8, q9, q10⟩ := mk_fail fx fc e11' P7 e2
    refine ⟨a, g', m', q1, q2, q3, ⟨fun o k w => ?_, fun o k => ?_, fun o k a b c => ?_⟩, ⟨fun o k a b c d e => ?_, fun o k => ?_, fun o k => ?_⟩, q10.1, ⟨?_, ?_⟩, q10.2⟩
    · rw [q4 o k (by omega), fc.1 o k (by unfold fC; omega), C2 o k (by omega) (by omega)]
    · rw [q6, fc.2.1, L2]
    · rw [q7, fc.2.2 o k b (by omega), P2, if_neg a]
    · rw [q5 o k (by omega), fm.1 o k a b c d e]
    · rw [q8, fm.2.1]
    · rw [q9, fm.2.2]
    · rw [q7]; exact P7
    · rw [q5 192 108 (by omega)]; exact e2
  rcases Y with h | ⟨o, h3⟩
  · obtain ⟨fx, fc⟩ := r
    have ps := fx.2.1
    have n59 : ¬ rdI m5 192 59 = 0 := by grind
    obtain ⟨a, g', m', q1, q2, q3, q4, q5, q6, q7, q8⟩ := fail h m5 fx fc ⟨fun o k a b c d e => (m5o o k a (by omega) c d (by omega)).trans (M4 o k (by
      intro w
      rcases w with ⟨rfl, w⟩
      rcases w with rfl | rfl | rfl | rfl
      · exact absurd b (by omega)
      · exact absurd a (by decide)
      · exact absurd a (by decide)
      · exact absurd b (by omega))), fun o k => (fm5.2.1 o k).trans (L4 o k), fun o k => (fm5.2.2 o k).trans (P4 o k)⟩ c110 c108
    rw [bH_t q1, mm_stop n59, bP_some]
    unfold miE
    rw [if_neg (Int32.not_le.mpr ps), q2, bS_some]
    exact ⟨_, _, _, _, rfl, ⟨by decide, fun w => absurd w (Int32.not_le.mpr q8)⟩, rfl, q3, q4, q5, q6, Or.inl q7⟩
  · obtain ⟨eo, wk3, od, ph, fc3, cn, sc⟩ := r
    dsimp only at eo wk3 od ph fc3 cn sc
    rw [show 70 + 17 * 0 = 70 from rfl] at eo
    subst eo
    obtain ⟨s1, s2⟩ := sc rfl
    unfold OD at od
    unfold PH at ph
    simp only [Nat.mul_zero, Nat.add_zero, Nat.zero_add] at od ph
    obtain ⟨⟨o1, o2⟩, o3, o4, o5⟩ := od
    obtain ⟨p1, p2, p3, p4⟩ := ph
    have iA : isA 9 70 := (od_rf (d := 0) (by decide)).2.2.2.2.1
    rw [bH_r]
    dsimp only
    rw [gd_pos iA, Mk_finish_eq0, fn_eq ⟨o3.2.2.1, o3.2.2.2.1⟩, bJT_inr]
    have n3 : rdI (fnH h3) 70 3 = rdI h3 70 3 := fnH_o (by decide)
    have wi := Ou_within (z := 70) (x1 := 4096) (L := 4096) (h := fnH h3) (by rw [n3]; exact ⟨o3.2.2.1, o3.2.2.2.1⟩) (by decide) (by decide)
    rw [rf70.1, rf70.2.1, n3] at wi
    have mi := mm_eq (v1 := rdI m5 242 0) (h := m5) (by rw [o1]; exact ⟨o3.2.2.1, o3.2.2.2.1⟩) wk3.2
    rw [o1, p1] at mi
    rw [p1]
    have pt : ∀ i, i < (rdI h3 70 3).toNatClampNeg → rdI (fnH h3) 71 i = rdI m5 238 i - rdI h3 75 0 ∧ rdI (fnH h3) 72 i = rdI m5 239 i := fun i hi => by
      obtain ⟨q1, q2, _, _⟩ := o4 i hi
      rw [fnH_i hi, fnH_o (by decide), q1, q2]
      exact ⟨rfl, rfl⟩
    have fcF : FrC 0 h2 (fnH h3) := FrC_t fc3 ⟨fun o k w => fnH_o (by unfold fC at w; omega), fun o k => rfl, fun o k _ _ => rfl⟩
    have wkF : WK (fnH h3) m5 := WK_c (fun o k w => fnH_o (by omega)) (fun k w => fnH_o (by omega)) wk3
    have fmK : ∀ k, FMk hm (mkR (rdI h3 75 0) m5 k) := fun k => ⟨fun o k' a b c d e => (mkR_o (by omega)).trans ((m5o o k' a (by omega) c d (by omega)).trans (M4 o k' (by
      intro w
      rcases w with ⟨rfl, w⟩
      rcases w with rfl | rfl | rfl | rfl
      · exact absurd b (by omega)
      · exact absurd a (by decide)
      · exact absurd a (by decide)
      · exact absurd b (by omega)))), fun o k' => (fm5.2.1 o k').trans (L4 o k'), fun o k' => (fm5.2.2 o k').trans (P4 o k')⟩
    have wkR : ∀ k, WK (fnH h3) (mkR (rdI h3 75 0) m5 k) := fun k => WK_m (fun o k' w => mkR_o (by omega)) (fun _ _ => rfl) wkF
    rcases wi with ⟨wi, wa⟩ | ⟨wi, i, wl, wa⟩
    · rcases mi with ⟨mi, ma⟩ | ⟨j, mi, ml, ma⟩
      · have eR : f_HH_right (fnH h3) = some ((), wrI (wrI (fnH h3) 1 12 0) 1 13 (-1)) := rfl
        rw [wi, bP_some, want_T, bT_inr, bH_r, eR, bS_some, lz_eq, lz_eq, lz_eq, rf70.2.2.2.2.1, mi, bP_some]
        generalize hE : wrI (wrP (wrI (wrI (wrI (fnH h3) 1 12 0) 1 13 (-1)) 1 10 (rdI (wrI (wrI (fnH h3) 1 12 0) 1 13 (-1)) 22 5)) 1 7 70) 1 8 (rdI (wrP (wrI (wrI (wrI (fnH h3) 1 12 0) 1 13 (-1)) 1 10 (rdI (wrI (wrI (fnH h3) 1 12 0) 1 13 (-1)) 22 5)) 1 7 70) 75 1 - rdI (wrP (wrI (wrI (wrI (fnH h3) 1 12 0) 1 13 (-1)) 1 10 (rdI (wrI (wrI (fnH h3) 1 12 0) 1 13 (-1)) 22 5)) 1 7 70) 75 0) = h8
        have E8 : ∀ o k, ¬ (o = 1 ∧ (k = 8 ∨ k = 10 ∨ k = 12 ∨ k = 13)) → rdI h8 o k = rdI (fnH h3) o k := fun o k w => by
          rw [← hE, rdI_wrI, if_neg (by omega), rdI_wrP, rdI_wrI, if_neg (by omega), rdI_wrI, if_neg (by omega), rdI_wrI, if_neg (by omega)]
        have E8P : ∀ o k, rdP h8 o k = if o = 1 ∧ k = 7 then 70 else rdP (fnH h3) o k := fun o k => by rw [← hE]; rfl
        have E8L : ∀ o k, rdL h8 o k = rdL (fnH h3) o k := fun o k => by rw [← hE]; rfl
        have E18 : rdI h8 1 8 = rdI h3 75 1 - rdI h3 75 0 := by
          rw [← hE, rdI_wrI, if_pos ⟨rfl, rfl⟩, rdI_wrP, rdI_wrP, rdI_o (by decide), rdI_o (by decide), rdI_o (by decide), rdI_o (by decide), rdI_o (by decide), rdI_o (by decide), fnH_o (by decide), fnH_o (by decide)]
        have E110 : rdI h8 1 10 = rdI (fnH h3) 22 5 := by
          rw [← hE, rdI_wrI, if_neg (by omega), rdI_wrP, rdI_wrI, if_pos ⟨rfl, rfl⟩, rdI_o (by decide), rdI_o (by decide)]
        have E112 : rdI h8 1 12 = 0 := by
          rw [← hE, rdI_wrI, if_neg (by omega), rdI_wrP, rdI_wrI, if_neg (by omega), rdI_wrI, if_neg (by omega), rdI_wrI, if_pos ⟨rfl, rfl⟩]
        have E113 : rdI h8 1 13 = -1 := by
          rw [← hE, rdI_wrI, if_neg (by omega), rdI_wrP, rdI_wrI, if_neg (by omega), rdI_wrI, if_pos ⟨rfl, rfl⟩]
        have e83 : rdI h8 70 3 = rdI h3 70 3 := (E8 70 3 (by omega)).trans (fnH_o (by decide))
        have e85 : rdI h8 70 5 = rdI h3 70 5 := (E8 70 5 (by omega)).trans (fnH_o (by decide))
        have e874 : ∀ c, rdI h8 74 c = rdI h3 74 c := fun c => (E8 74 c (by omega)).trans (fnH_o (by decide))
        have en8 : EN (fun c => rdI h8 74 c) (rdI h8 70 5) (rdI h8 70 3) := by
          simp only [e83, e85, e874]
          exact o3
        obtain ⟨h9, e9, is9, fr9⟩ := IS_lay en8
        have f59 : rdI (mkR (rdI h3 75 0) m5 (rdI h3 70 3).toNatClampNeg) 192 59 = 0 := (mkR_o (by decide)).trans wk3.2
        have r237 : rdI (mkR (rdI h3 75 0) m5 (rdI h3 70 3).toNatClampNeg) 237 0 = rdI h3 70 5 := (mkR_o (by decide)).trans o2
        have r236 : rdI (mkR (rdI h3 75 0) m5 (rdI h3 70 3).toNatClampNeg) 236 0 = rdI h3 70 3 := (mkR_o (by decide)).trans o1
        rw [e9, bS_some, miE_eq f59 (by rw [r237]; exact ⟨o3.1, o3.2.1⟩), r236]
        have F9 : ∀ o k, (o < 182 ∨ 189 < o) → ¬ (o = 1 ∧ (k = 8 ∨ k = 10 ∨ k = 12 ∨ k = 13)) → rdI h9 o k = rdI (fnH h3) o k := fun o k a b => (fr9.1 o k a).trans (E8 o k b)
        have n9 : rdI h9 70 3 = rdI h3 70 3 := (F9 70 3 (by omega) (by omega)).trans (fnH_o (by decide))
        have c9 : rdI h9 70 5 = rdI h3 70 5 := (F9 70 5 (by omega) (by omega)).trans (fnH_o (by decide))
        have w9 : ∀ c, rdI h9 74 c = rdI h3 74 c := fun c => (F9 74 c (by omega) (by omega)).trans (fnH_o (by decide))
        rw [n9]
        obtain ⟨z1, z2, z3, z4, z5, z6, z7, z8⟩ := mkZ_s (v1 := rdI h3 75 0) (h := mkR (rdI h3 75 0) m5 (rdI h3 70 3).toNatClampNeg)
        refine ⟨_, _, _, _, rfl, ⟨by decide, fun _ => ⟨rfl, z4⟩⟩, rfl, ?_, ⟨fun o k w => ?_, fun o k => ?_, fun o k a b c => ?_⟩, ⟨fun o k a b c d e => ?_, fun o k => ?_, fun o k => ?_⟩, ⟨?_, ?_, ?_, ?_⟩, Or.inr ⟨?_, ?_, ⟨?_, ?_⟩, ?_, ?_, ?_, ?_, ?_, ⟨?_, ?_⟩, ?_⟩⟩
        · exact WB_m (fun o k w => mkZ_o (by omega) (by omega)) (fun _ _ => rfl) (WB_c (fun o k w => F9 o k (by omega) (by omega)) (fun k w => F9 22 k (by omega) (by omega)) (wkR _).1)
        · rw [F9 o k (by omega) (by omega), fcF.1 o k (by unfold fC; omega), C2 o k (by omega) (by omega)]
        · rw [fr9.2.1, E8L, fcF.2.1, L2]
        · rw [fr9.2.2, E8P, if_neg a, fcF.2.2 o k b (by omega), P2, if_neg a]
        · rw [mkZ_o (by omega) (by omega)]
          exact (fmK _).1 o k a b c d e
        · exact (fmK (rdI h3 70 3).toNatClampNeg).2.1 o k
        · exact (fmK (rdI h3 70 3).toNatClampNeg).2.2 o k
        · rw [z5, fr9.1 1 10 (by omega), E110, mkR_o (by decide)]
          exact wkF.1.2.2.2.1.1
        · rw [z6, mkR_o (by decide), c110, F9 1 11 (by omega) (by omega), fcF.1 1 11 (by unfold fC; omega), C2 1 11 (by omega) (by omega)]
          exact e11
        · rw [z7, fr9.1 1 12 (by omega), E112]
        · rw [z8, fr9.1 1 13 (by omega), E113]
        · rw [fr9.2.2, E8P, if_pos ⟨rfl, rfl⟩]
        · exact z4
        · rw [z1, n9, r236]
        · rw [z2, c9, r237]
        · simp only [n9, c9, w9]
          exact o3
        · intro i hi
          rw [n9] at hi
          obtain ⟨t1, t2, t3⟩ := mt3_i (h := m5) (o := 243) (p := 244) (q := 245) (b := 0) (u := fun i => rdI m5 238 i - rdI h3 75 0) (v := fun i => rdI m5 239 i) (w := fun i => rdI m5 240 i &&& 1) hi (by decide) (by decide) (by decide)
          rw [Nat.zero_add] at t1 t2 t3
          obtain ⟨u1, u2⟩ := pt i hi
          obtain ⟨_, _, u3, u4⟩ := o4 i hi
          rw [mkZ_o (by decide) (by omega), mkZ_o (by decide) (by omega), mkZ_o (by decide) (by omega), F9 71 i (by omega) (by omega), F9 72 i (by omega) (by omega), F9 73 i (by omega) (by omega), u1, u2, fnH_o (by decide)]
          refine ⟨t1, t2, t3.trans ?_, u4⟩
          rw [u3]
          rcases u4 with e | e <;> rw [e] <;> decide
        · intro c hc'
          rw [c9] at hc'
          rw [mkZ_246 (by rw [r237]; exact hc'), mkR_o (by decide), w9]
          exact o5 c hc'
        · intro i hi
          rw [n9] at hi
          rw [F9 71 i (by omega) (by omega), F9 72 i (by omega) (by omega)]
          exact wa i hi
        · rw [z3, mkR_o (by decide), fr9.1 1 8 (by omega), E18, p3]
        · rw [mkZ_o (by decide) (by omega), mkR_o (by decide), F9 56 6 (by omega) (by omega), fnH_o (by decide)]
          exact s1
        · rw [mkZ_o (by decide) (by omega), mkR_o (by decide), F9 56 7 (by omega) (by omega), fnH_o (by decide)]
          exact s2
        · rw [lyA_loc fr9, c9, ← e85]
          exact is9
      · exfalso
        obtain ⟨u1, u2⟩ := pt j ml
        have := wa j ml
        rw [u1, u2] at this
        exact ma this
    · rcases mi with ⟨mi, ma⟩ | ⟨j, mi, _⟩
      · exfalso
        obtain ⟨u1, u2⟩ := pt i wl
        rw [u1, u2] at wa
        exact wa (ma i wl)
      · have fx : FX (wnt (fnH h3) 13) (foM (mkR (rdI h3 75 0) m5 (j + 1)) 13) := FX_of (wkR _) (by decide)
        have ps := fx.2.1
        have fmX : FMk hm (foM (mkR (rdI h3 75 0) m5 (j + 1)) 13) := by
          refine ⟨fun o k a b c d e => ?_, (fmK (j + 1)).2.1, (fmK (j + 1)).2.2⟩
          unfold foM
          rw [rdI_wrI, if_neg, rdI_wrI, if_neg]
          · exact (fmK (j + 1)).1 o k a b c d e
          · rintro ⟨rfl, rfl⟩
            exact absurd a (by decide)
          · rintro ⟨rfl, rfl⟩
            exact absurd a (by decide)
        have fo : ∀ k, k ≠ 59 → k ≠ 60 → rdI (foM (mkR (rdI h3 75 0) m5 (j + 1)) 13) 192 k = rdI m5 192 k := fun k a b => by
          unfold foM
          rw [rdI_wrI, if_neg (by omega), rdI_wrI, if_neg (by omega), mkR_o (by decide)]
        obtain ⟨a, g', m', q1, q2, q3, q4, q5, q6, q7, q8⟩ := fail _ _ fx (wnt_fr fcF) fmX ((fo 110 (by decide) (by decide)).trans c110) ((fo 108 (by decide) (by decide)).trans c108)
        rw [wi, bP_some, want_F, bT_inl, bH_t q1, mi, bP_some]
        unfold miE
        rw [if_neg (Int32.not_le.mpr ps), q2, bS_some]
        exact ⟨_, _, _, _, rfl, ⟨by decide, fun w => absurd w (Int32.not_le.mpr q8)⟩, rfl, q3, q4, q5, q6, Or.inl q7⟩
