/-! LAYER 1l: calls, switches, throws, over option-valued functions -/
section HC
variable {X : Type} {S : hS} {M : hM} {d pc N : Nat} {L : List (Nat × Value)} {st : List Value} {h : hH} {Φ : X → hR → Prop}
theorem hR_0 (r : hR) : r = (r.1, r.2.1, r.2.2.1, 0 + r.2.2.2.1, 0 + r.2.2.2.2) := by simp
theorem hx_okV.C {M2 : hM} (hy : hx_okV M2) (hS0 : S.2.1 0 = 999) {d2 : Nat} {as : List Value} (hw : hx_wd as ≤ M2.2.2.2.1) {r : hR} (hV : hx_V S M2 d2 0 (lv_args 0 as) [] N h r) : ∀ l : Launch, l.flags = flags0 → hx_C l S M2 d2 N as h r := fun l hl => hx_C.of hl hy.2.2.2 hy.1.2.2.2.2.1 hS0 hw hV
theorem hx_okS.C {M2 : hM} (hy : hx_okS M2) (hS0 : S.2.1 0 = 999) {d2 : Nat} {as : List Value} (hw : hx_wd as ≤ M2.2.2.2.1) {r : hR} (hV : hx_V S M2 d2 0 (lv_args 0 as) [] N h r) : ∀ l : Launch, l.flags = flags0 → hx_C l S M2 d2 N as h r := fun l hl => hx_C.of hl hy.2.2.2.1 hy.2.2.2.2 hS0 hw hV
/-- what is known of a callee's run -/
def hx_kP {A : Type} (S : hS) (M2 : hM) (d2 N : Nat) (as : List Value) (h : hH) (f : Option A) (cv : A → Option Value) : Prop := hx_P S M2 d2 0 (lv_args 0 as) [] N h f (hx_Rp cv N h)
def hx_kS {A : Type} (S : hS) (M2 : hM) (d2 N : Nat) (as : List Value) (h : hH) (f : Option (A × hH)) (cv : A → Option Value) : Prop := hx_P S M2 d2 0 (lv_args 0 as) [] N h f (hx_Rc cv N)
def hx_kT {A : Type} (S : hS) (M2 : hM) (d2 N : Nat) (as : List Value) (h : hH) (f : Option (hH ⊕ (A × hH))) (cv : A → Option Value) : Prop := hx_P S M2 d2 0 (lv_args 0 as) [] N h f (hx_T N (hx_Rc cv N))
/-- the counts of a call: the callee's depth, the arguments' number and width, the rest's width -/
def hx_cc (M2 : hM) (d2 d : Nat) (as rest : List Value) : Prop := d2 + 1 ≤ d ∧ (parseMethodDescriptor M2.2.1.desc).map (fun q => q.parameters.length) = some as.length ∧ (rest.map (fun v => v.category)).sum ≤ 8
theorem hp_cVP (hm : hx_mok M = true) {B : List hI} (hB : hx_at M pc B) {as rest : List Value} {z : Nat} {C : Option Prop} (ev : hx_ev S N B L st h none = some (L, as.reverse ++ .ref z :: rest, h, C)) (hC : hx_hold C) {pc' : Nat} (hpc : pc + hx_sz B = pc') (i : Nat) {idx : Nat} (hi : M.2.2.2.2.2.2.2[i]? = some (pc', .invokevirtual idx, 3)) {M2 : hM} (hlk : Cond.methodLink (hRn M.1) idx M2.2.1 ∈ lw_all) (hy : hx_okV M2) (hS0 : S.2.1 0 = 999) {d2 : Nat} (hcc : hx_cc M2 d2 d as rest) (hw : hx_wd (.ref z :: as) ≤ M2.2.2.2.1) (hz : S.2.1 z = M2.1 ∧ z ≤ N)
    {A : Type} {f : Option A} {cv : A → Option Value} (hk : hx_kP S M2 d2 N (.ref z :: as) h f cv) {k : A → Option X} (kk : ∀ a, hx_P S M d (pc' + 3) L ((cv a).toList ++ rest) N h (k a) Φ) : hx_P S M d pc L st N h (bP f k) Φ := by
  intro x hx r hr
  cases f with
  | none => cases hx
  | some a => exact hv_p hm hB ev hC hpc (hv_cV hm i hi hlk hy.1 hy.2.1 hcc.1 hy.2.2.1 hz.1 hz.2 rfl hcc.2.1 (Nat.le_refl N) (hy.C hS0 hw (hk a rfl _ rfl)) hcc.2.2 (Or.inl rfl) (hR_0 r) (kk a x hx r hr))
theorem hp_cVS (hm : hx_mok M = true) {B : List hI} (hB : hx_at M pc B) {as rest : List Value} {z : Nat} {C : Option Prop} (ev : hx_ev S N B L st h none = some (L, as.reverse ++ .ref z :: rest, h, C)) (hC : hx_hold C) {pc' : Nat} (hpc : pc + hx_sz B = pc') (i : Nat) {idx : Nat} (hi : M.2.2.2.2.2.2.2[i]? = some (pc', .invokevirtual idx, 3)) {M2 : hM} (hlk : Cond.methodLink (hRn M.1) idx M2.2.1 ∈ lw_all) (hy : hx_okV M2) (hS0 : S.2.1 0 = 999) {d2 : Nat} (hcc : hx_cc M2 d2 d as rest) (hw : hx_wd (.ref z :: as) ≤ M2.2.2.2.1) (hz : S.2.1 z = M2.1 ∧ z ≤ N)
    {A : Type} {f : Option (A × hH)} {cv : A → Option Value} (hk : hx_kS S M2 d2 N (.ref z :: as) h f cv) {k : A → hH → Option X} (kk : ∀ a h1, hx_P S M d (pc' + 3) L ((cv a).toList ++ rest) N h1 (k a h1) Φ) : hx_P S M d pc L st N h (bS f k) Φ := by
  intro x hx r hr
  cases f with
  | none => cases hx
  | some a => exact hv_p hm hB ev hC hpc (hv_cV hm i hi hlk hy.1 hy.2.1 hcc.1 hy.2.2.1 hz.1 hz.2 rfl hcc.2.1 (Nat.le_refl N) (hy.C hS0 hw (hk a rfl _ rfl)) hcc.2.2 (Or.inl rfl) (hR_0 r) (kk a.1 a.2 x hx r hr))
theorem hp_cVT (hm : hx_mok M = true) {B : List hI} (hB : hx_at M pc B) {as rest : List Value} {z : Nat} {C : Option Prop} (ev : hx_ev S N B L st h none = some (L, as.reverse ++ .ref z :: rest, h, C)) (hC : hx_hold C) {pc' : Nat} (hpc : pc + hx_sz B = pc') (i : Nat) {idx : Nat} (hi : M.2.2.2.2.2.2.2[i]? = some (pc', .invokevirtual idx, 3)) {M2 : hM} (hlk : Cond.methodLink (hRn M.1) idx M2.2.1 ∈ lw_all) (hy : hx_okV M2) (hS0 : S.2.1 0 = 999) {d2 : Nat} (hcc : hx_cc M2 d2 d as rest) (hw : hx_wd (.ref z :: as) ≤ M2.2.2.2.1) (hz : S.2.1 z = M2.1 ∧ z ≤ N) (hhM : M.2.2.2.2.2.1 = [])
    {A : Type} {f : Option (hH ⊕ (A × hH))} {cv : A → Option Value} (hk : hx_kT S M2 d2 N (.ref z :: as) h f cv) {k : A → hH → Option (hH ⊕ X)} (kk : ∀ a h1, hx_P S M d (pc' + 3) L ((cv a).toList ++ rest) N h1 (k a h1) (hx_T N Φ)) : hx_P S M d pc L st N h (bT f k) (hx_T N Φ) := by
  intro x hx r hr
  match f, hk, hx with
  | some (.inl g), hk, hx =>
    cases hx
    have hr : r = (none, N, g, 1, 6) := hr
    subst hr
    exact hv_p hm hB ev hC hpc (hv_cVT hm i hi hlk hy.1 hcc.1 hy.2.2.1 hz.1 hz.2 rfl hcc.2.1 (hy.C hS0 hw (hk _ rfl _ rfl)) hcc.2.2 hhM)
  | some (.inr a), hk, hx => exact hv_p hm hB ev hC hpc (hv_cV hm i hi hlk hy.1 hy.2.1 hcc.1 hy.2.2.1 hz.1 hz.2 rfl hcc.2.1 (Nat.le_refl N) (hy.C hS0 hw (hk _ rfl _ rfl)) hcc.2.2 (Or.inl rfl) (hR_0 r) (kk a.1 a.2 x hx r hr))
theorem hp_cSP (hm : hx_mok M = true) {B : List hI} (hB : hx_at M pc B) {as rest : List Value} {C : Option Prop} (ev : hx_ev S N B L st h none = some (L, as.reverse ++ rest, h, C)) (hC : hx_hold C) {pc' : Nat} (hpc : pc + hx_sz B = pc') (i : Nat) {idx : Nat} (hi : M.2.2.2.2.2.2.2[i]? = some (pc', .invokestatic idx, 3)) {M2 : hM} (hlk : Cond.methodLink (hRn M.1) idx M2.2.1 ∈ lw_all) (hy : hx_okS M2) (hS0 : S.2.1 0 = 999) {d2 : Nat} (hcc : hx_cc M2 d2 d as rest) (hw : hx_wd as ≤ M2.2.2.2.1)
    {A : Type} {f : Option A} {cv : A → Option Value} (hk : hx_kP S M2 d2 N as h f cv) {k : A → Option X} (kk : ∀ a, hx_P S M d (pc' + 3) L ((cv a).toList ++ rest) N h (k a) Φ) : hx_P S M d pc L st N h (bP f k) Φ := by
  intro x hx r hr
  cases f with
  | none => cases hx
  | some a => exact hv_p hm hB ev hC hpc (hv_cS hm i hi hlk hy.1 hy.2.1 hcc.1 hy.2.2.1 rfl hcc.2.1 (Nat.le_refl N) (hy.C hS0 hw (hk a rfl _ rfl)) hcc.2.2 (Or.inl rfl) (hR_0 r) (kk a x hx r hr))
theorem hp_cSS (hm : hx_mok M = true) {B : List hI} (hB : hx_at M pc B) {as rest : List Value} {C : Option Prop} (ev : hx_ev S N B L st h none = some (L, as.reverse ++ rest, h, C)) (hC : hx_hold C) {pc' : Nat} (hpc : pc + hx_sz B = pc') (i : Nat) {idx : Nat} (hi : M.2.2.2.2.2.2.2[i]? = some (pc', .invokestatic idx, 3)) {M2 : hM} (hlk : Cond.methodLink (hRn M.1) idx M2.2.1 ∈ lw_all) (hy : hx_okS M2) (hS0 : S.2.1 0 = 999) {d2 : Nat} (hcc : hx_cc M2 d2 d as rest) (hw : hx_wd as ≤ M2.2.2.2.1)
    {A : Type} {f : Option (A × hH)} {cv : A → Option Value} (hk : hx_kS S M2 d2 N as h f cv) {k : A → hH → Option X} (kk : ∀ a h1, hx_P S M d (pc' + 3) L ((cv a).toList ++ rest) N h1 (k a h1) Φ) : hx_P S M d pc L st N h (bS f k) Φ := by
  intro x hx r hr
  cases f with
  | none => cases hx
  | some a => exact hv_p hm hB ev hC hpc (hv_cS hm i hi hlk hy.1 hy.2.1 hcc.1 hy.2.2.1 rfl hcc.2.1 (Nat.le_refl N) (hy.C hS0 hw (hk a rfl _ rfl)) hcc.2.2 (Or.inl rfl) (hR_0 r) (kk a.1 a.2 x hx r hr))
theorem hp_cNP (hm : hx_mok M = true) {B : List hI} (hB : hx_at M pc B) {as rest : List Value} {C : Option Prop} (ev : hx_ev S N B L st h none = some (L, as.reverse ++ rest, h, C)) (hC : hx_hold C) {pc' : Nat} (hpc : pc + hx_sz B = pc') (i : Nat) {idx : Nat} (hi : M.2.2.2.2.2.2.2[i]? = some (pc', .invokestatic idx, 3)) {M2 : hM} (hlk : Cond.methodLinkNest (hRn M.1) idx M2.2.1 "HintHouse" ∈ hmnAll) (hy : hx_okS M2) (hS0 : S.2.1 0 = 999) {d2 : Nat} (hcc : hx_cc M2 d2 d as rest) (hw : hx_wd as ≤ M2.2.2.2.1)
    {A : Type} {f : Option A} {cv : A → Option Value} (hk : hx_kP S M2 d2 N as h f cv) {k : A → Option X} (kk : ∀ a, hx_P S M d (pc' + 3) L ((cv a).toList ++ rest) N h (k a) Φ) : hx_P S M d pc L st N h (bP f k) Φ := by
  intro x hx r hr
  cases f with
  | none => cases hx
  | some a => exact hv_p hm hB ev hC hpc (hv_cSN hm i hi hlk hy.1 hy.2.1 hcc.1 hy.2.2.1 rfl hcc.2.1 (Nat.le_refl N) (hy.C hS0 hw (hk a rfl _ rfl)) hcc.2.2 (Or.inl rfl) (hR_0 r) (kk a x hx r hr))
/-- a new exception is thrown -/
theorem hp_thr (hm : hx_mok M = true) (i1 i2 i3 i4 : Nat) {ix ic : Nat} (h1 : M.2.2.2.2.2.2.2[i1]? = some (pc, .new ix, 3)) (h2 : M.2.2.2.2.2.2.2[i2]? = some (pc + 3, .dup, 1)) (h3 : M.2.2.2.2.2.2.2[i3]? = some (pc + 3 + 1, .invokespecial ic, 3)) (h4 : M.2.2.2.2.2.2.2[i4]? = some (pc + 3 + 1 + 3, .athrow, 1))
    (hall : (hx_oa (hRn M.1) ic).all hx_okw = true) (hcl1 : Cond.classLink (hRn M.1) ix hISE ∈ lw_all) (hins : Cond.instantiable hISE 6 ∈ lw_all) (hini : Cond.initialized hISE ∈ lw_all) (hd : 6 ≤ d) (hh : M.2.2.2.2.2.1 = []) : hx_P S M d pc L [] N h (some (.inl h)) (hx_T N Φ) := by
  intro x hx r hr
  cases hx
  have hr : r = (none, N, h, 1, 6) := hr
  subst hr
  exact hv_thr hm i1 i2 i3 i4 h1 h2 h3 h4 hall hcl1 hins hini hd hh
/-- a switch: a case, and what is left -/
theorem hp_sc {o1 o2 : Option X} {x c : Int32} {ic : Decidable (x = c)} (k1 : hx_P S M d pc L (.int c :: st) N h o1 Φ) (k2 : ¬ x = c → hx_P S M d pc L (.int x :: st) N h o2 Φ) : hx_P S M d pc L (.int x :: st) N h (@ite _ (x = c) ic o1 o2) Φ := by
  intro z hz r hr
  by_cases hc : x = c
  · rw [if_pos hc] at hz
    rw [hc]
    exact k1 z hz r hr
  · rw [if_neg hc] at hz
    exact k2 hc z hz r hr
theorem hp_st (hm : hx_mok M = true) (i : Nat) {dflt lo hi : Int} {offs : Array Int} {len : Nat} (hi0 : M.2.2.2.2.2.2.2[i]? = some (pc, .tableswitch dflt lo hi offs, len)) {c : Int32} (k : Nat) {off : Int} {tgt : Nat} (hx : c.toInt = lo + k) (hh : ¬ hi < lo + k) (ho : offs[k]? = some off) (ht : (pc : Int) + off = (tgt : Int)) {o : Option X} (kk : hx_P S M d tgt L st N h o Φ) : hx_P S M d pc L (.int c :: st) N h o Φ := fun z hz r hr => hv_tin hm i hi0 k hx hh ho ht (kk z hz r hr)
/-- the switch's default: the places of the table that are not among the cases lead there -/
theorem hp_sd (hm : hx_mok M = true) (i : Nat) {dflt lo hi : Int} {offs : Array Int} {len : Nat} (hi0 : M.2.2.2.2.2.2.2[i]? = some (pc, .tableswitch dflt lo hi offs, len)) {x : Int32} (cs : List Int32) (hsz : (offs.size : Int) = hi - lo + 1) (hall : (List.range offs.size).all (fun k => offs[k]? == some dflt || cs.any (fun c => c.toInt == lo + k)) = true) (hne : ∀ c ∈ cs, ¬ x = c) {tgt : Nat} (ht : (pc : Int) + dflt = (tgt : Int)) {o : Option X} (kk : hx_P S M d tgt L st N h o Φ) : hx_P S M d pc L (.int x :: st) N h o Φ := by
  intro z hz r hr
  by_cases h1 : x.toInt < lo ∨ hi < x.toInt
  · exact hv_tout hm i hi0 h1 ht (kk z hz r hr)
  · have hk : (x.toInt - lo).toNat < offs.size := by omega
    have h2 := List.all_eq_true.mp hall _ (List.mem_range.mpr hk)
    simp only [Bool.or_eq_true, beq_iff_eq, List.any_eq_true] at h2
    rcases h2 with h2 | ⟨c, hc, h2⟩
    · exact hv_tin hm i hi0 (x.toInt - lo).toNat (by omega) (by omega) h2 ht (kk z hz r hr)
    · exact absurd (Int32.toInt_inj.mp (by omega)) (hne c hc)
theorem hp_ls (hm : hx_mok M = true) (i : Nat) {dflt : Int} {ps : Array (Int × Int)} {len : Nat} (hi0 : M.2.2.2.2.2.2.2[i]? = some (pc, .lookupswitch dflt ps, len)) (hp : (ps.toList.zip (ps.toList.drop 1)).all (fun (a, next) => a.1 < next.1) = true) {c : Int32} {off : Int} {tgt : Nat} (ho : Op.lookupswitch.offset ps.toList dflt c.toInt = off) (ht : (pc : Int) + off = (tgt : Int)) {o : Option X} (kk : hx_P S M d tgt L st N h o Φ) : hx_P S M d pc L (.int c :: st) N h o Φ := fun z hz r hr => hv_lsw hm i hi0 hp ho ht (kk z hz r hr)
end HC
