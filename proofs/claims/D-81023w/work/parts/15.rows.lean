/-! LAYER 1m: rows with guards, names and switches -/
section HG
variable {X : Type} {S : hS} {M : hM} {d pc N : Nat} {L : List (Nat × Value)} {st : List Value} {h : hH} {Φ : X → hR → Prop} {o : Option X}
theorem hp_G0 {P : Prop} (k : P → hx_P S M d pc L st N h o Φ) : hx_P S M d pc L st N h (gd P o) Φ := fun x hx r hr => k (gd_some hx).1 x (gd_some hx).2 r hr
theorem hp_G (hm : hx_mok M = true) {B : List hI} (hB : hx_at M pc B) {L' : List (Nat × Value)} {st' : List Value} {h' : hH} {C : Option Prop} (ev : hx_ev S N B L st h none = some (L', st', h', C)) {P : Prop} (hC : P → hx_hold C) {pc' : Nat} (hpc : pc + hx_sz B = pc') (k : P → hx_P S M d pc' L' st' N h' o Φ) : hx_P S M d pc L st N h (gd P o) Φ := fun x hx r hr => hv_p hm hB ev (hC (gd_some hx).1) hpc (k (gd_some hx).1 x (gd_some hx).2 r hr)
theorem hp_GZ (hm : hx_mok M = true) {B : List hI} (hB : hx_at M pc B) {A : Type} {a : A} {o : A → Option X} (Lf : A → List (Nat × Value)) (sf : A → List Value) {C : Option Prop} (ev : hx_ev S N B L st h none = some (Lf a, sf a, h, C)) {P : Prop} (hC : P → hx_hold C) {pc' : Nat} (hpc : pc + hx_sz B = pc') (k : P → ∀ v, hx_P S M d pc' (Lf v) (sf v) N h (o v) Φ) : hx_P S M d pc L st N h (gd P (lz a o)) Φ := fun x hx r hr => hv_p hm hB ev (hC (gd_some hx).1) hpc (k (gd_some hx).1 a x (gd_some hx).2 r hr)
theorem hp_GW (hm : hx_mok M = true) {B : List hI} (hB : hx_at M pc B) {o : hH → Option X} {L' : List (Nat × Value)} {st' : List Value} {h' : hH} {C : Option Prop} (ev : hx_ev S N B L st h none = some (L', st', h', C)) {P : Prop} (hC : P → hx_hold C) {pc' : Nat} (hpc : pc + hx_sz B = pc') (k : P → ∀ h1, hx_P S M d pc' L' st' N h1 (o h1) Φ) : hx_P S M d pc L st N h (gd P (lz h' o)) Φ := fun x hx r hr => hv_p hm hB ev (hC (gd_some hx).1) hpc (k (gd_some hx).1 h' x (gd_some hx).2 r hr)
theorem hp_l0 {x : X} (hΦ : ∀ r, Φ x r → hx_V S M d pc L st N h r) : hx_P S M d pc L st N h (some x) Φ := by
  intro y hy r hr
  cases hy
  exact hΦ r hr
theorem hp_JZ {P : Type} {v : P} {k : P → Option X} (jpc : Nat) (Lp : P → List (Nat × Value)) (sp : P → List Value) (hp : P → hH) (k1 : hx_P S M d pc L st N h (some v) (fun p r => hx_V S M d jpc (Lp p) (sp p) N (hp p) r)) (k2 : ∀ p, hx_P S M d jpc (Lp p) (sp p) N (hp p) (k p) Φ) : hx_P S M d pc L st N h (lz v k) Φ := fun x hx r hr => k1 v rfl r (k2 v x hx r hr)
theorem hp_sv0 {P : Prop} {iP : Decidable P} {a b : X} (k : hx_P S M d pc L st N h (@ite _ P iP (some a) (some b)) Φ) : hx_P S M d pc L st N h (some (@ite _ P iP a b)) Φ := by
  have e : (@ite _ P iP (some a) (some b)) = some (@ite _ P iP a b) := by by_cases hP : P <;> simp [hP]
  rw [← e]; exact k
/-- a switch: the cases of one place, then what is left -/
theorem hp_sw (hm : hx_mok M = true) (i : Nat) {dflt lo hi : Int} {offs : Array Int} {len : Nat} (hi0 : M.2.2.2.2.2.2.2[i]? = some (pc, .tableswitch dflt lo hi offs, len)) {x : Int32} {cs : List Int32} {off : Int} (hall : cs.all (fun c => decide (lo ≤ c.toInt) && (decide (c.toInt ≤ hi) && (offs[(c.toInt - lo).toNat]? == some off))) = true) {tgt : Nat} (ht : (pc : Int) + off = (tgt : Int)) {P : Prop} {ic : Decidable P} {o1 o2 : Option X} (hP : P ↔ x ∈ cs) (k1 : hx_P S M d tgt L st N h o1 Φ) (k2 : x ∉ cs → hx_P S M d pc L (.int x :: st) N h o2 Φ) : hx_P S M d pc L (.int x :: st) N h (@ite _ P ic o1 o2) Φ := by
  intro z hz r hr
  by_cases hc : P
  · rw [if_pos hc] at hz
    have h1 := List.all_eq_true.mp hall x (hP.mp hc)
    simp only [Bool.and_eq_true, decide_eq_true_eq, beq_iff_eq] at h1
    exact hv_tin hm i hi0 (x.toInt - lo).toNat (by omega) (by omega) h1.2.2 ht (k1 z hz r hr)
  · rw [if_neg hc] at hz
    exact k2 (fun q => hc (hP.mpr q)) z hz r hr
theorem hp_sd2 (hm : hx_mok M = true) (i : Nat) {dflt lo hi : Int} {offs : Array Int} {len : Nat} (hi0 : M.2.2.2.2.2.2.2[i]? = some (pc, .tableswitch dflt lo hi offs, len)) {x : Int32} {css : List (List Int32)} (hsz : (offs.size : Int) = hi - lo + 1) (hall : (List.range offs.size).all (fun k => offs[k]? == some dflt || css.any (fun cs => cs.any (fun c => c.toInt == lo + k))) = true) (hne : ∀ cs ∈ css, x ∉ cs) {tgt : Nat} (ht : (pc : Int) + dflt = (tgt : Int)) {o : Option X} (kk : hx_P S M d tgt L st N h o Φ) : hx_P S M d pc L (.int x :: st) N h o Φ := by
  intro z hz r hr
  by_cases h1 : x.toInt < lo ∨ hi < x.toInt
  · exact hv_tout hm i hi0 h1 ht (kk z hz r hr)
  · have hk : (x.toInt - lo).toNat < offs.size := by omega
    have h2 := List.all_eq_true.mp hall _ (List.mem_range.mpr hk)
    simp only [Bool.or_eq_true, beq_iff_eq, List.any_eq_true] at h2
    rcases h2 with h2 | ⟨cs, hcs, c, hc, h2⟩
    · exact hv_tin hm i hi0 (x.toInt - lo).toNat (by omega) (by omega) h2 ht (kk z hz r hr)
    · have e : x = c := Int32.toInt_inj.mp (by omega)
      exact absurd (e ▸ hc) (hne cs hcs)
theorem hp_sl (hm : hx_mok M = true) (i : Nat) {dflt : Int} {ps : Array (Int × Int)} {len : Nat} (hi0 : M.2.2.2.2.2.2.2[i]? = some (pc, .lookupswitch dflt ps, len)) {x : Int32} {cs : List Int32} {off : Int} (hall : ((ps.toList.zip (ps.toList.drop 1)).all (fun (a, next) => a.1 < next.1) && (cs.all (fun c => Op.lookupswitch.offset ps.toList dflt c.toInt == off))) = true) {tgt : Nat} (ht : (pc : Int) + off = (tgt : Int)) {P : Prop} {ic : Decidable P} {o1 o2 : Option X} (hP : P ↔ x ∈ cs) (k1 : hx_P S M d tgt L st N h o1 Φ) (k2 : x ∉ cs → hx_P S M d pc L (.int x :: st) N h o2 Φ) : hx_P S M d pc L (.int x :: st) N h (@ite _ P ic o1 o2) Φ := by
  intro z hz r hr
  rw [Bool.and_eq_true] at hall
  by_cases hc : P
  · rw [if_pos hc] at hz
    have h1 := List.all_eq_true.mp hall.2 x (hP.mp hc)
    simp only [beq_iff_eq] at h1
    exact hv_lsw hm i hi0 hall.1 h1 ht (k1 z hz r hr)
  · rw [if_neg hc] at hz
    exact k2 (fun q => hc (hP.mpr q)) z hz r hr
theorem hx_lo0 : ∀ (ps : List (Int × Int)) (dflt k : Int), (∀ q ∈ ps, ¬ q.1 = k) → Op.lookupswitch.offset ps dflt k = dflt
  | [], dflt, k, _ => rfl
  | (a, o) :: r, dflt, k, hq => by
    rw [Op.lookupswitch.offset_cons, if_neg (hq (a, o) List.mem_cons_self)]
    exact hx_lo0 r dflt k (fun q hr => hq q (List.mem_cons_of_mem _ hr))
theorem hp_ld2 (hm : hx_mok M = true) (i : Nat) {dflt : Int} {ps : Array (Int × Int)} {len : Nat} (hi0 : M.2.2.2.2.2.2.2[i]? = some (pc, .lookupswitch dflt ps, len)) {x : Int32} {css : List (List Int32)} (hsz : (ps.toList.zip (ps.toList.drop 1)).all (fun (a, next) => a.1 < next.1) = true) (hall : ps.toList.all (fun q => css.any (fun cs => cs.any (fun c => c.toInt == q.1))) = true) (hne : ∀ cs ∈ css, x ∉ cs) {tgt : Nat} (ht : (pc : Int) + dflt = (tgt : Int)) {o : Option X} (kk : hx_P S M d tgt L st N h o Φ) : hx_P S M d pc L (.int x :: st) N h o Φ := by
  intro z hz r hr
  refine hv_lsw hm i hi0 hsz (hx_lo0 _ _ _ (fun q hq e => ?_)) ht (kk z hz r hr)
  have h2 := List.all_eq_true.mp hall q hq
  simp only [beq_iff_eq, List.any_eq_true] at h2
  obtain ⟨cs, hcs, c, hc, h2⟩ := h2
  have e : x = c := Int32.toInt_inj.mp (by omega)
  exact absurd (e ▸ hc) (hne cs hcs)
end HG
