/-! LAYER 1k: option-valued functions and the judgement over them (printed by gen/mk13.py) -/
noncomputable def gd {X : Type} (P : Prop) (o : Option X) : Option X := @ite _ P (Classical.propDecidable P) o none
def lz {A X : Type} (a : A) (k : A → X) : X := k a
def bP {A X : Type} (o : Option A) (k : A → Option X) : Option X := match o with
  | none => none
  | some a => k a
def bS {A X : Type} (o : Option (A × hH)) (k : A → hH → Option X) : Option X := match o with
  | none => none
  | some q => k q.1 q.2
def bT {A X : Type} (o : Option (hH ⊕ (A × hH))) (k : A → hH → Option (hH ⊕ X)) : Option (hH ⊕ X) := match o with
  | none => none
  | some (.inl h) => some (.inl h)
  | some (.inr q) => k q.1 q.2
def bJT {P X : Type} (o : Option (hH ⊕ P)) (k : P → Option (hH ⊕ X)) : Option (hH ⊕ X) := match o with
  | none => none
  | some (.inl h) => some (.inl h)
  | some (.inr q) => k q
def bE {P X : Type} (o : Option (P ⊕ X)) (k : P → Option X) : Option X := match o with
  | none => none
  | some (.inl q) => k q
  | some (.inr x) => some x
def bET {P X : Type} (o : Option (hH ⊕ (P ⊕ X))) (k : P → Option (hH ⊕ X)) : Option (hH ⊕ X) := match o with
  | none => none
  | some (.inl h) => some (.inl h)
  | some (.inr (.inl q)) => k q
  | some (.inr (.inr x)) => some (.inr x)
def cO {X : Type} (o : Option Bool) (a b : Option X) : Option X := match o with
  | none => none
  | some true => a
  | some false => b
def cS {X : Type} (o : Option (Bool × hH)) (a b : hH → Option X) : Option X := match o with
  | none => none
  | some (true, h) => a h
  | some (false, h) => b h
def whn {A B : Type} (f : A → Option (A ⊕ B)) : Nat → A → Option B
  | 0, _ => none
  | n + 1, s => match f s with
    | none => none
    | some (.inl t) => whn f n t
    | some (.inr e) => some e
noncomputable def wh {A B : Type} (f : A → Option (A ⊕ B)) (s : A) : Option B := @dite _ (∃ e : B, ∃ n, whn f n s = some e) (Classical.propDecidable _) (fun h => some h.choose) (fun _ => none)
def thS {A B : Type} (o : Option (hH ⊕ (A ⊕ B))) : Option (A ⊕ (hH ⊕ B)) := match o with
  | none => none
  | some (.inl h) => some (.inr (.inl h))
  | some (.inr (.inl s)) => some (.inl s)
  | some (.inr (.inr e)) => some (.inr (.inr e))
noncomputable def whT {A B : Type} (f : A → Option (hH ⊕ (A ⊕ B))) (s : A) : Option (hH ⊕ B) := wh (fun s => thS (f s)) s
theorem whn_succ {A B : Type} {f : A → Option (A ⊕ B)} : ∀ {n : Nat} {s : A} {e : B}, whn f n s = some e → whn f (n + 1) s = some e
  | 0, s, e, h => by cases h
  | n + 1, s, e, h => by
    unfold whn at h ⊢
    split at h
    · cases h
    · exact whn_succ h
    · exact h
theorem whn_le {A B : Type} {f : A → Option (A ⊕ B)} {n m : Nat} (hm : n ≤ m) {s : A} {e : B} (h : whn f n s = some e) : whn f m s = some e := by
  induction hm with
  | refl => exact h
  | step _ ih => exact whn_succ ih
theorem wh_some {A B : Type} {f : A → Option (A ⊕ B)} {s : A} {e : B} : wh f s = some e ↔ ∃ n, whn f n s = some e := by
  unfold wh
  constructor
  · intro h
    by_cases hc : ∃ e : B, ∃ n, whn f n s = some e
    · rw [dif_pos hc] at h
      rw [← Option.some.inj h]
      exact hc.choose_spec
    · rw [dif_neg hc] at h
      cases h
  · rintro ⟨n, h⟩
    have hc : ∃ e : B, ∃ n, whn f n s = some e := ⟨e, n, h⟩
    rw [dif_pos hc]
    obtain ⟨m, hm⟩ := hc.choose_spec
    have h1 := whn_le (Nat.le_max_left n m) h
    have h2 := whn_le (Nat.le_max_right n m) hm
    rw [h1] at h2
    exact h2.symm
theorem wh_eq {A B : Type} (f : A → Option (A ⊕ B)) (s : A) : wh f s = match f s with
    | none => none
    | some (.inl t) => wh f t
    | some (.inr e) => some e := by
  have key : ∀ e : B, wh f s = some e ↔ (match f s with
    | none => none
    | some (.inl t) => wh f t
    | some (.inr e) => some e) = some e := by
    intro e
    rw [wh_some]
    constructor
    · rintro ⟨n, h⟩
      cases n with
      | zero => cases h
      | succ n =>
        unfold whn at h
        split at h
        · cases h
        · exact wh_some.mpr ⟨n, h⟩
        · exact h
    · intro h
      split at h
      · cases h
      · rename_i t ht
        obtain ⟨n, hn⟩ := wh_some.mp h
        exact ⟨n + 1, by unfold whn; rw [ht]; exact hn⟩
      · rename_i t ht
        exact ⟨1, by unfold whn; rw [ht]; exact h⟩
  cases hr : (match f s with
    | none => none
    | some (.inl t) => wh f t
    | some (.inr e) => some e) with
  | some e => exact (key e).mpr hr
  | none =>
    cases hl : wh f s with
    | none => rfl
    | some e => rw [(key e).mp hl] at hr; cases hr
theorem gd_pos {X : Type} {P : Prop} {o : Option X} (h : P) : gd P o = o := if_pos h
theorem gd_some {X : Type} {P : Prop} {o : Option X} {x : X} (h : gd P o = some x) : P ∧ o = some x := by
  unfold gd at h
  by_cases hp : P
  · rw [if_pos hp] at h; exact ⟨hp, h⟩
  · rw [if_neg hp] at h; cases h
/-- results -/
def hx_S {A B : Type} (F : A → hR → Prop) (G : B → hR → Prop) (y : A ⊕ B) (r : hR) : Prop := match y with
  | .inl a => F a r
  | .inr b => G b r
def hx_T {X : Type} (N : Nat) (G : X → hR → Prop) (y : hH ⊕ X) (r : hR) : Prop := match y with
  | .inl h => r = (none, N, h, 1, 6)
  | .inr x => G x r
def cvI (x : Int32) : Option Value := some (.int x)
def cvL (x : Int64) : Option Value := some (.long x)
def cvA (x : Nat) : Option Value := some (.ref x)
def cvU (_ : Unit) : Option Value := none
def hx_Rc {A : Type} (cv : A → Option Value) (N : Nat) (q : A × hH) (r : hR) : Prop := r = (some (cv q.1), N, q.2, 0, 0)
def hx_Rp {A : Type} (cv : A → Option Value) (N : Nat) (h : hH) (q : A) (r : hR) : Prop := r = (some (cv q), N, h, 0, 0)
/-- the judgement: what the function gives, the machine's run gives -/
def hx_P {X : Type} (S : hS) (M : hM) (d pc : Nat) (L : List (Nat × Value)) (st : List Value) (N : Nat) (h : hH) (o : Option X) (Φ : X → hR → Prop) : Prop := ∀ x, o = some x → ∀ r, Φ x r → hx_V S M d pc L st N h r
def hx_at (M : hM) (pc : Nat) (B : List hI) : Prop := B = [] ∨ ∃ i : Nat, M.2.2.2.2.2.2.1[i]? = some (pc, B)
/-- a method that may be called: virtual, static -/
def hx_okV (M : hM) : Prop := hx_ymV M ∧ M.2.2.2.2.2.1 = [] ∧ M.2.2.2.1 ≤ 45 ∧ plainFor M.2.1 = true
def hx_okS (M : hM) : Prop := hx_ymS M ∧ M.2.2.2.2.2.1 = [] ∧ M.2.2.2.1 ≤ 45 ∧ plainFor M.2.1 = true ∧ M.2.1.cls = hRn M.1
section HP
variable {X : Type} {S : hS} {M : hM} {d pc N : Nat} {L : List (Nat × Value)} {st : List Value} {h : hH} {Φ : X → hR → Prop} {o : Option X}
theorem hv_p (hm : hx_mok M = true) {B : List hI} (hB : hx_at M pc B) {L' : List (Nat × Value)} {st' : List Value} {h' : hH} {C : Option Prop} (ev : hx_ev S N B L st h none = some (L', st', h', C)) (hC : hx_hold C) {pc' : Nat} (hpc : pc + hx_sz B = pc') {r : hR} (k : hx_V S M d pc' L' st' N h' r) : hx_V S M d pc L st N h r := by
  rcases hB with rfl | ⟨i, hi⟩
  · cases ev
    rw [← hpc] at k
    exact k
  · exact hv_b hm i hi ev hC hpc k
/-- straight code -/
theorem hp_b (hm : hx_mok M = true) {B : List hI} (hB : hx_at M pc B) {L' : List (Nat × Value)} {st' : List Value} {h' : hH} {C : Option Prop} (ev : hx_ev S N B L st h none = some (L', st', h', C)) (hC : hx_hold C) {pc' : Nat} (hpc : pc + hx_sz B = pc') (k : hx_P S M d pc' L' st' N h' o Φ) : hx_P S M d pc L st N h o Φ := fun x hx r hr => hv_p hm hB ev hC hpc (k x hx r hr)
theorem hp_g (hm : hx_mok M = true) {B : List hI} (hB : hx_at M pc B) {L' : List (Nat × Value)} {st' : List Value} {h' : hH} {C : Option Prop} (ev : hx_ev S N B L st h none = some (L', st', h', C)) {P : Prop} (hC : P → hx_hold C) {pc' : Nat} (hpc : pc + hx_sz B = pc') (k : hx_P S M d pc' L' st' N h' o Φ) : hx_P S M d pc L st N h (gd P o) Φ := fun x hx r hr => hv_p hm hB ev (hC (gd_some hx).1) hpc (k x (gd_some hx).2 r hr)
/-- straight code, then a name for a value -/
theorem hp_z (hm : hx_mok M = true) {B : List hI} (hB : hx_at M pc B) {A : Type} {a : A} {o : A → Option X} (Lf : A → List (Nat × Value)) (sf : A → List Value) {C : Option Prop} (ev : hx_ev S N B L st h none = some (Lf a, sf a, h, C)) (hC : hx_hold C) {pc' : Nat} (hpc : pc + hx_sz B = pc') (k : ∀ v, hx_P S M d pc' (Lf v) (sf v) N h (o v) Φ) : hx_P S M d pc L st N h (lz a o) Φ := fun x hx r hr => hv_p hm hB ev hC hpc (k a x hx r hr)
/-- straight code that ends with a write, then a name for the heap -/
theorem hp_w (hm : hx_mok M = true) {B : List hI} (hB : hx_at M pc B) {o : hH → Option X} {L' : List (Nat × Value)} {st' : List Value} {h' : hH} {C : Option Prop} (ev : hx_ev S N B L st h none = some (L', st', h', C)) (hC : hx_hold C) {pc' : Nat} (hpc : pc + hx_sz B = pc') (k : ∀ h1, hx_P S M d pc' L' st' N h1 (o h1) Φ) : hx_P S M d pc L st N h (lz h' o) Φ := fun x hx r hr => hv_p hm hB ev hC hpc (k h' x hx r hr)
/-- a name alone -/
theorem hp_lz {A : Type} {a : A} {o : A → Option X} (Lf : A → List (Nat × Value)) (sf : A → List Value) (hf : A → hH) (hL : L = Lf a) (hs : st = sf a) (hh : h = hf a) (k : ∀ v, hx_P S M d pc (Lf v) (sf v) N (hf v) (o v) Φ) : hx_P S M d pc L st N h (lz a o) Φ := by
  intro x hx r hr
  rw [hL, hs, hh]
  exact k a x hx r hr
/-- fewer locals -/
theorem hp_s (ks : List Nat) {L' : List (Nat × Value)} (hL' : lv_pick L ks = L') (k : hx_P S M d pc L' st N h o Φ) : hx_P S M d pc L st N h o Φ := fun x hx r hr => hv_s ks hL' (k x hx r hr)
theorem hp_goto (hm : hx_mok M = true) (i : Nat) {off : Int} (hi : M.2.2.2.2.2.2.2[i]? = some (pc, .goto off, 3)) {tgt : Nat} (ht : (pc : Int) + off = (tgt : Int)) (k : hx_P S M d tgt L st N h o Φ) : hx_P S M d pc L st N h o Φ := fun x hx r hr => hv_goto hm i hi ht (k x hx r hr)
/-- the end of a piece of code: a jump to where its answers are taken up -/
theorem hp_lf (ks : List Nat) {L' : List (Nat × Value)} (hL' : lv_pick L ks = L') {x : X} (hΦ : ∀ r, Φ x r → hx_V S M d pc L' st N h r) : hx_P S M d pc L st N h (some x) Φ := by
  intro y hy r hr
  cases hy
  exact hv_s ks hL' (hΦ r hr)
theorem hp_J {P : Type} {oo : Option P} {k : P → Option X} (jpc : Nat) (Lp : P → List (Nat × Value)) (sp : P → List Value) (hp : P → hH) (k1 : hx_P S M d pc L st N h oo (fun p r => hx_V S M d jpc (Lp p) (sp p) N (hp p) r)) (k2 : ∀ p, hx_P S M d jpc (Lp p) (sp p) N (hp p) (k p) Φ) : hx_P S M d pc L st N h (bP oo k) Φ := by
  intro x hx r hr
  cases oo with
  | none => cases hx
  | some p => exact k1 p rfl r (k2 p x hx r hr)
theorem hp_E {P : Type} {oo : Option (P ⊕ X)} {k : P → Option X} (jpc : Nat) (Lp : P → List (Nat × Value)) (sp : P → List Value) (hp : P → hH) (k1 : hx_P S M d pc L st N h oo (hx_S (fun p r => hx_V S M d jpc (Lp p) (sp p) N (hp p) r) Φ)) (k2 : ∀ p, hx_P S M d jpc (Lp p) (sp p) N (hp p) (k p) Φ) : hx_P S M d pc L st N h (bE oo k) Φ := by
  intro x hx r hr
  match oo, k1, hx with
  | some (.inl p), k1, hx => exact k1 (.inl p) rfl r (k2 p x hx r hr)
  | some (.inr y), k1, hx => cases hx; exact k1 (.inr x) rfl r hr
theorem hp_JT {P : Type} {oo : Option (hH ⊕ P)} {k : P → Option (hH ⊕ X)} (jpc : Nat) (Lp : P → List (Nat × Value)) (sp : P → List Value) (hp : P → hH) (k1 : hx_P S M d pc L st N h oo (hx_T N (fun p r => hx_V S M d jpc (Lp p) (sp p) N (hp p) r))) (k2 : ∀ p, hx_P S M d jpc (Lp p) (sp p) N (hp p) (k p) (hx_T N Φ)) : hx_P S M d pc L st N h (bJT oo k) (hx_T N Φ) := by
  intro x hx r hr
  match oo, k1, hx with
  | some (.inl g), k1, hx => cases hx; exact k1 (.inl g) rfl r hr
  | some (.inr p), k1, hx => exact k1 (.inr p) rfl r (k2 p x hx r hr)
theorem hp_ET {P : Type} {oo : Option (hH ⊕ (P ⊕ X))} {k : P → Option (hH ⊕ X)} (jpc : Nat) (Lp : P → List (Nat × Value)) (sp : P → List Value) (hp : P → hH) (k1 : hx_P S M d pc L st N h oo (hx_T N (hx_S (fun p r => hx_V S M d jpc (Lp p) (sp p) N (hp p) r) Φ))) (k2 : ∀ p, hx_P S M d jpc (Lp p) (sp p) N (hp p) (k p) (hx_T N Φ)) : hx_P S M d pc L st N h (bET oo k) (hx_T N Φ) := by
  intro x hx r hr
  match oo, k1, hx with
  | some (.inl g), k1, hx => cases hx; exact k1 (.inl g) rfl r hr
  | some (.inr (.inl p)), k1, hx => exact k1 (.inr (.inl p)) rfl r (k2 p x hx r hr)
  | some (.inr (.inr y)), k1, hx => cases hx; exact k1 (.inr (.inr y)) rfl r hr
theorem hp_cO {oo : Option Bool} {a b : Option X} {L0 : List (Nat × Value)} {s0 : List Value} (ta tb : Nat) (k1 : hx_P S M d pc L st N h oo (fun q r => match q with | true => hx_V S M d ta L0 s0 N h r | false => hx_V S M d tb L0 s0 N h r)) (k2 : hx_P S M d ta L0 s0 N h a Φ) (k3 : hx_P S M d tb L0 s0 N h b Φ) : hx_P S M d pc L st N h (cO oo a b) Φ := by
  intro x hx r hr
  match oo, k1, hx with
  | some true, k1, hx => exact k1 true rfl r (k2 x hx r hr)
  | some false, k1, hx => exact k1 false rfl r (k3 x hx r hr)
/-- a condition of many tests, none of which changes anything -/
theorem hp_cI {c : Prop} {ic : Decidable c} {a b : Option X} {L0 : List (Nat × Value)} {s0 : List Value} (ta tb : Nat) (k1 : hx_P S M d pc L st N h (some (decide c)) (fun q r => match q with | true => hx_V S M d ta L0 s0 N h r | false => hx_V S M d tb L0 s0 N h r)) (k2 : c → hx_P S M d ta L0 s0 N h a Φ) (k3 : ¬ c → hx_P S M d tb L0 s0 N h b Φ) : hx_P S M d pc L st N h (@ite _ c ic a b) Φ := by
  intro x hx r hr
  by_cases hc : c
  · rw [if_pos hc] at hx
    exact k1 true (by rw [decide_eq_true hc]) r (k2 hc x hx r hr)
  · rw [if_neg hc] at hx
    exact k1 false (by rw [decide_eq_false hc]) r (k3 hc x hx r hr)
theorem hp_cS {oo : Option (Bool × hH)} {a b : hH → Option X} {L0 : List (Nat × Value)} {s0 : List Value} (ta tb : Nat) (k1 : hx_P S M d pc L st N h oo (fun q r => match q with | (true, g) => hx_V S M d ta L0 s0 N g r | (false, g) => hx_V S M d tb L0 s0 N g r)) (k2 : ∀ g, hx_P S M d ta L0 s0 N g (a g) Φ) (k3 : ∀ g, hx_P S M d tb L0 s0 N g (b g) Φ) : hx_P S M d pc L st N h (cS oo a b) Φ := by
  intro x hx r hr
  match oo, k1, hx with
  | some (true, g), k1, hx => exact k1 (true, g) rfl r (k2 g x hx r hr)
  | some (false, g), k1, hx => exact k1 (false, g) rfl r (k3 g x hx r hr)
theorem hp_wh {A B : Type} {f : A → Option (A ⊕ B)} (Ls : A → List (Nat × Value)) (sl : List Value) (hs : A → hH) {Ψ : B → hR → Prop} (body : ∀ s, hx_P S M d pc (Ls s) sl N (hs s) (f s) (hx_S (fun t r => hx_V S M d pc (Ls t) sl N (hs t) r) Ψ)) (s : A) : hx_P S M d pc (Ls s) sl N (hs s) (wh f s) Ψ := by
  intro e he r hr
  obtain ⟨n, hn⟩ := wh_some.mp he
  clear he
  induction n generalizing s with
  | zero => cases hn
  | succ n ih =>
    unfold whn at hn
    split at hn
    · cases hn
    · rename_i t ht
      exact body s _ ht r (ih t hn)
    · rename_i t ht
      cases hn
      exact body s _ ht r hr
theorem hp_whT {A B : Type} {f : A → Option (hH ⊕ (A ⊕ B))} (Ls : A → List (Nat × Value)) (sl : List Value) (hs : A → hH) {Ψ : B → hR → Prop} (body : ∀ s, hx_P S M d pc (Ls s) sl N (hs s) (f s) (hx_T N (hx_S (fun t r => hx_V S M d pc (Ls t) sl N (hs t) r) Ψ))) (s : A) : hx_P S M d pc (Ls s) sl N (hs s) (whT f s) (hx_T N Ψ) := by
  refine hp_wh Ls sl hs (fun s => ?_) s
  intro y hy r hr
  have hb := body s
  generalize f s = q at hy hb
  match q, hy, hb with
  | some (.inl g), hy, hb => cases hy; exact hb _ rfl r hr
  | some (.inr (.inl t)), hy, hb => cases hy; exact hb _ rfl r hr
  | some (.inr (.inr e)), hy, hb => cases hy; exact hb _ rfl r hr
/-- returns -/
theorem hp_ir (hm : hx_mok M = true) {B : List hI} (hB : hx_at M pc B) {L' : List (Nat × Value)} {a : Int32} {C : Option Prop} (ev : hx_ev S N B L st h none = some (L', [.int a], h, C)) (hC : hx_hold C) {pc' : Nat} (hpc : pc + hx_sz B = pc') (i : Nat) (hi : M.2.2.2.2.2.2.2[i]? = some (pc', .ireturn, 1)) {ty : FieldType} (hty : M.2.2.2.2.1 = some ty) (hn : narrow ty (.int a) = .int a) {x : X} (hΦ : ∀ r, Φ x r → r = (some (some (.int a)), N, h, 0, 0)) : hx_P S M d pc L st N h (some x) Φ := by
  intro y hy r hr
  cases hy
  rw [hΦ r hr]
  exact hv_p hm hB ev hC hpc (hv_iret hm i hi hty hn)
theorem hp_lr (hm : hx_mok M = true) {B : List hI} (hB : hx_at M pc B) {L' : List (Nat × Value)} {a : Int64} {C : Option Prop} (ev : hx_ev S N B L st h none = some (L', [.long a], h, C)) (hC : hx_hold C) {pc' : Nat} (hpc : pc + hx_sz B = pc') (i : Nat) (hi : M.2.2.2.2.2.2.2[i]? = some (pc', .lreturn, 1)) (hty : M.2.2.2.2.1 = some .long) {x : X} (hΦ : ∀ r, Φ x r → r = (some (some (.long a)), N, h, 0, 0)) : hx_P S M d pc L st N h (some x) Φ := by
  intro y hy r hr
  cases hy
  rw [hΦ r hr]
  exact hv_p hm hB ev hC hpc (hv_lret hm i hi hty)
theorem hp_ar (hm : hx_mok M = true) {B : List hI} (hB : hx_at M pc B) {L' : List (Nat × Value)} {a : Nat} {C : Option Prop} (ev : hx_ev S N B L st h none = some (L', [.ref a], h, C)) (hC : hx_hold C) {pc' : Nat} (hpc : pc + hx_sz B = pc') (i : Nat) (hi : M.2.2.2.2.2.2.2[i]? = some (pc', .areturn, 1)) {nm : String} (hty : M.2.2.2.2.1 = some (.object nm)) {x : X} (hΦ : ∀ r, Φ x r → r = (some (some (.ref a)), N, h, 0, 0)) : hx_P S M d pc L st N h (some x) Φ := by
  intro y hy r hr
  cases hy
  rw [hΦ r hr]
  exact hv_p hm hB ev hC hpc (hv_aret hm i hi hty)
theorem hp_vr (hm : hx_mok M = true) (i : Nat) (hi : M.2.2.2.2.2.2.2[i]? = some (pc, .return_, 1)) (hty : M.2.2.2.2.1 = none) {x : X} (hΦ : ∀ r, Φ x r → r = (some none, N, h, 0, 0)) : hx_P S M d pc L [] N h (some x) Φ := by
  intro y hy r hr
  cases hy
  rw [hΦ r hr]
  exact hv_ret hm i hi hty
/-- tests that are put together -/
theorem hp_or {P Q : Prop} [iP : Decidable P] [iQ : Decidable Q] {iR : Decidable (P ∨ Q)} {Φ : Bool → hR → Prop} (k : hx_P S M d pc L st N h (@ite _ P iP (some true) (some (@decide Q iQ))) Φ) : hx_P S M d pc L st N h (some (@decide (P ∨ Q) iR)) Φ := by
  have e : (@ite _ P iP (some true) (some (@decide Q iQ))) = some (@decide (P ∨ Q) iR) := by by_cases hP : P <;> by_cases hQ : Q <;> simp [hP, hQ]
  rw [← e]; exact k
theorem hp_and {P Q : Prop} [iP : Decidable P] [iQ : Decidable Q] {iR : Decidable (P ∧ Q)} {Φ : Bool → hR → Prop} (k : hx_P S M d pc L st N h (@ite _ P iP (some (@decide Q iQ)) (some false)) Φ) : hx_P S M d pc L st N h (some (@decide (P ∧ Q) iR)) Φ := by
  have e : (@ite _ P iP (some (@decide Q iQ)) (some false)) = some (@decide (P ∧ Q) iR) := by by_cases hP : P <;> by_cases hQ : Q <;> simp [hP, hQ]
  rw [← e]; exact k
theorem hp_nand {P Q : Prop} [iP : Decidable P] [iQ : Decidable Q] {iR : Decidable (¬ P ∧ Q)} {Φ : Bool → hR → Prop} (k : hx_P S M d pc L st N h (@ite _ P iP (some false) (some (@decide Q iQ))) Φ) : hx_P S M d pc L st N h (some (@decide (¬ P ∧ Q) iR)) Φ := by
  have e : (@ite _ P iP (some false) (some (@decide Q iQ))) = some (@decide (¬ P ∧ Q) iR) := by by_cases hP : P <;> by_cases hQ : Q <;> simp [hP, hQ]
  rw [← e]; exact k
theorem hp_nor {P Q : Prop} [iP : Decidable P] [iQ : Decidable Q] {iR : Decidable (¬ P ∨ Q)} {Φ : Bool → hR → Prop} (k : hx_P S M d pc L st N h (@ite _ P iP (some (@decide Q iQ)) (some true)) Φ) : hx_P S M d pc L st N h (some (@decide (¬ P ∨ Q) iR)) Φ := by
  have e : (@ite _ P iP (some (@decide Q iQ)) (some true)) = some (@decide (¬ P ∨ Q) iR) := by by_cases hP : P <;> by_cases hQ : Q <;> simp [hP, hQ]
  rw [← e]; exact k
theorem hp_dec {P : Prop} [iP : Decidable P] {iR : Decidable P} {Φ : Bool → hR → Prop} (k : hx_P S M d pc L st N h (@ite _ P iP (some true) (some false)) Φ) : hx_P S M d pc L st N h (some (@decide P iR)) Φ := by
  have e : (@ite _ P iP (some true) (some false)) = some (@decide P iR) := by by_cases hP : P <;> simp [hP]
  rw [← e]; exact k
theorem hp_decn {P : Prop} [iP : Decidable P] {iR : Decidable (¬ P)} {Φ : Bool → hR → Prop} (k : hx_P S M d pc L st N h (@ite _ P iP (some false) (some true)) Φ) : hx_P S M d pc L st N h (some (@decide (¬ P) iR)) Φ := by
  have e : (@ite _ P iP (some false) (some true)) = some (@decide (¬ P) iR) := by by_cases hP : P <;> simp [hP]
  rw [← e]; exact k
/-- a choice between two values -/
theorem hp_sv {A : Type} {P : Prop} {iP : Decidable P} {F : A → X} {a b : A} (k : hx_P S M d pc L st N h (@ite _ P iP (some (F a)) (some (F b))) Φ) : hx_P S M d pc L st N h (some (F (@ite _ P iP a b))) Φ := by
  have e : (@ite _ P iP (some (F a)) (some (F b))) = some (F (@ite _ P iP a b)) := by by_cases hP : P <;> simp [hP]
  rw [← e]; exact k
theorem hp_if_eq {o1 o2 : Option X} (hm : hx_mok M = true) {B : List hI} (hB : hx_at M pc B) {st' : List Value} {C : Option Prop} {x : Int32} (ev : hx_ev S N B L st h none = some (L, .int x :: st', h, C)) (hC : hx_hold C) {pc' : Nat} (hpc : pc + hx_sz B = pc') (i : Nat) {off : Int} (hi : M.2.2.2.2.2.2.2[i]? = some (pc', .ifCond .eq off, 3)) {tgt : Nat} (ht : (pc' : Int) + off = (tgt : Int)) {ic : Decidable (x = 0)} (kt : x = 0 → hx_P S M d tgt L st' N h o1 Φ) (kf : ¬ x = 0 → hx_P S M d (pc' + 3) L st' N h o2 Φ) : hx_P S M d pc L st N h (@ite _ (x = 0) ic o1 o2) Φ := by
  intro z hz r hr
  refine hv_p hm hB ev hC hpc ?_
  refine hv_if_eq hm i hi ht Iff.rfl (fun q => kt q z ?_ r hr) (fun q => kf q z ?_ r hr)
  · rw [if_pos q] at hz; exact hz
  · rw [if_neg q] at hz; exact hz
theorem hp_ic_eq {o1 o2 : Option X} (hm : hx_mok M = true) {B : List hI} (hB : hx_at M pc B) {st' : List Value} {C : Option Prop} {x y : Int32} (ev : hx_ev S N B L st h none = some (L, .int y :: .int x :: st', h, C)) (hC : hx_hold C) {pc' : Nat} (hpc : pc + hx_sz B = pc') (i : Nat) {off : Int} (hi : M.2.2.2.2.2.2.2[i]? = some (pc', .if_icmp .eq off, 3)) {tgt : Nat} (ht : (pc' : Int) + off = (tgt : Int)) {ic : Decidable (x = y)} (kt : x = y → hx_P S M d tgt L st' N h o1 Φ) (kf : ¬ x = y → hx_P S M d (pc' + 3) L st' N h o2 Φ) : hx_P S M d pc L st N h (@ite _ (x = y) ic o1 o2) Φ := by
  intro z hz r hr
  refine hv_p hm hB ev hC hpc ?_
  refine hv_ic_eq hm i hi ht (fun q => kt q z ?_ r hr) (fun q => kf q z ?_ r hr)
  · rw [if_pos q] at hz; exact hz
  · rw [if_neg q] at hz; exact hz
theorem hp_lc_eq {o1 o2 : Option X} (hm : hx_mok M = true) {B : List hI} (hB : hx_at M pc B) {st' : List Value} {C : Option Prop} {x y : Int64} (ev : hx_ev S N B L st h none = some (L, .int (lg_cmp x y) :: st', h, C)) (hC : hx_hold C) {pc' : Nat} (hpc : pc + hx_sz B = pc') (i : Nat) {off : Int} (hi : M.2.2.2.2.2.2.2[i]? = some (pc', .ifCond .eq off, 3)) {tgt : Nat} (ht : (pc' : Int) + off = (tgt : Int)) {ic : Decidable (x = y)} (kt : x = y → hx_P S M d tgt L st' N h o1 Φ) (kf : ¬ x = y → hx_P S M d (pc' + 3) L st' N h o2 Φ) : hx_P S M d pc L st N h (@ite _ (x = y) ic o1 o2) Φ := by
  intro z hz r hr
  refine hv_p hm hB ev hC hpc ?_
  refine hv_if_eq hm i hi ht (lg_cmp_eq x y) (fun q => kt q z ?_ r hr) (fun q => kf q z ?_ r hr)
  · rw [if_pos q] at hz; exact hz
  · rw [if_neg q] at hz; exact hz
theorem hp_if_ne {o1 o2 : Option X} (hm : hx_mok M = true) {B : List hI} (hB : hx_at M pc B) {st' : List Value} {C : Option Prop} {x : Int32} (ev : hx_ev S N B L st h none = some (L, .int x :: st', h, C)) (hC : hx_hold C) {pc' : Nat} (hpc : pc + hx_sz B = pc') (i : Nat) {off : Int} (hi : M.2.2.2.2.2.2.2[i]? = some (pc', .ifCond .ne off, 3)) {tgt : Nat} (ht : (pc' : Int) + off = (tgt : Int)) {ic : Decidable (x = 0)} (kt : ¬ x = 0 → hx_P S M d tgt L st' N h o2 Φ) (kf : x = 0 → hx_P S M d (pc' + 3) L st' N h o1 Φ) : hx_P S M d pc L st N h (@ite _ (x = 0) ic o1 o2) Φ := by
  intro z hz r hr
  refine hv_p hm hB ev hC hpc ?_
  refine hv_if_ne hm i hi ht Iff.rfl (fun q => kt q z ?_ r hr) (fun q => kf q z ?_ r hr)
  · rw [if_neg q] at hz; exact hz
  · rw [if_pos q] at hz; exact hz
theorem hp_ic_ne {o1 o2 : Option X} (hm : hx_mok M = true) {B : List hI} (hB : hx_at M pc B) {st' : List Value} {C : Option Prop} {x y : Int32} (ev : hx_ev S N B L st h none = some (L, .int y :: .int x :: st', h, C)) (hC : hx_hold C) {pc' : Nat} (hpc : pc + hx_sz B = pc') (i : Nat) {off : Int} (hi : M.2.2.2.2.2.2.2[i]? = some (pc', .if_icmp .ne off, 3)) {tgt : Nat} (ht : (pc' : Int) + off = (tgt : Int)) {ic : Decidable (x = y)} (kt : ¬ x = y → hx_P S M d tgt L st' N h o2 Φ) (kf : x = y → hx_P S M d (pc' + 3) L st' N h o1 Φ) : hx_P S M d pc L st N h (@ite _ (x = y) ic o1 o2) Φ := by
  intro z hz r hr
  refine hv_p hm hB ev hC hpc ?_
  refine hv_ic_ne hm i hi ht (fun q => kt q z ?_ r hr) (fun q => kf q z ?_ r hr)
  · rw [if_neg q] at hz; exact hz
  · rw [if_pos q] at hz; exact hz
theorem hp_lc_ne {o1 o2 : Option X} (hm : hx_mok M = true) {B : List hI} (hB : hx_at M pc B) {st' : List Value} {C : Option Prop} {x y : Int64} (ev : hx_ev S N B L st h none = some (L, .int (lg_cmp x y) :: st', h, C)) (hC : hx_hold C) {pc' : Nat} (hpc : pc + hx_sz B = pc') (i : Nat) {off : Int} (hi : M.2.2.2.2.2.2.2[i]? = some (pc', .ifCond .ne off, 3)) {tgt : Nat} (ht : (pc' : Int) + off = (tgt : Int)) {ic : Decidable (x = y)} (kt : ¬ x = y → hx_P S M d tgt L st' N h o2 Φ) (kf : x = y → hx_P S M d (pc' + 3) L st' N h o1 Φ) : hx_P S M d pc L st N h (@ite _ (x = y) ic o1 o2) Φ := by
  intro z hz r hr
  refine hv_p hm hB ev hC hpc ?_
  refine hv_if_ne hm i hi ht (lg_cmp_eq x y) (fun q => kt q z ?_ r hr) (fun q => kf q z ?_ r hr)
  · rw [if_neg q] at hz; exact hz
  · rw [if_pos q] at hz; exact hz
theorem hp_if_lt {o1 o2 : Option X} (hm : hx_mok M = true) {B : List hI} (hB : hx_at M pc B) {st' : List Value} {C : Option Prop} {x : Int32} (ev : hx_ev S N B L st h none = some (L, .int x :: st', h, C)) (hC : hx_hold C) {pc' : Nat} (hpc : pc + hx_sz B = pc') (i : Nat) {off : Int} (hi : M.2.2.2.2.2.2.2[i]? = some (pc', .ifCond .lt off, 3)) {tgt : Nat} (ht : (pc' : Int) + off = (tgt : Int)) {ic : Decidable (x < 0)} (kt : x < 0 → hx_P S M d tgt L st' N h o1 Φ) (kf : ¬ x < 0 → hx_P S M d (pc' + 3) L st' N h o2 Φ) : hx_P S M d pc L st N h (@ite _ (x < 0) ic o1 o2) Φ := by
  intro z hz r hr
  refine hv_p hm hB ev hC hpc ?_
  refine hv_if_lt hm i hi ht Iff.rfl (fun q => kt q z ?_ r hr) (fun q => kf q z ?_ r hr)
  · rw [if_pos q] at hz; exact hz
  · rw [if_neg q] at hz; exact hz
theorem hp_ic_lt {o1 o2 : Option X} (hm : hx_mok M = true) {B : List hI} (hB : hx_at M pc B) {st' : List Value} {C : Option Prop} {x y : Int32} (ev : hx_ev S N B L st h none = some (L, .int y :: .int x :: st', h, C)) (hC : hx_hold C) {pc' : Nat} (hpc : pc + hx_sz B = pc') (i : Nat) {off : Int} (hi : M.2.2.2.2.2.2.2[i]? = some (pc', .if_icmp .lt off, 3)) {tgt : Nat} (ht : (pc' : Int) + off = (tgt : Int)) {ic : Decidable (x < y)} (kt : x < y → hx_P S M d tgt L st' N h o1 Φ) (kf : ¬ x < y → hx_P S M d (pc' + 3) L st' N h o2 Φ) : hx_P S M d pc L st N h (@ite _ (x < y) ic o1 o2) Φ := by
  intro z hz r hr
  refine hv_p hm hB ev hC hpc ?_
  refine hv_ic_lt hm i hi ht (fun q => kt q z ?_ r hr) (fun q => kf q z ?_ r hr)
  · rw [if_pos q] at hz; exact hz
  · rw [if_neg q] at hz; exact hz
theorem hp_lc_lt {o1 o2 : Option X} (hm : hx_mok M = true) {B : List hI} (hB : hx_at M pc B) {st' : List Value} {C : Option Prop} {x y : Int64} (ev : hx_ev S N B L st h none = some (L, .int (lg_cmp x y) :: st', h, C)) (hC : hx_hold C) {pc' : Nat} (hpc : pc + hx_sz B = pc') (i : Nat) {off : Int} (hi : M.2.2.2.2.2.2.2[i]? = some (pc', .ifCond .lt off, 3)) {tgt : Nat} (ht : (pc' : Int) + off = (tgt : Int)) {ic : Decidable (x < y)} (kt : x < y → hx_P S M d tgt L st' N h o1 Φ) (kf : ¬ x < y → hx_P S M d (pc' + 3) L st' N h o2 Φ) : hx_P S M d pc L st N h (@ite _ (x < y) ic o1 o2) Φ := by
  intro z hz r hr
  refine hv_p hm hB ev hC hpc ?_
  refine hv_if_lt hm i hi ht (lg_cmp_lt x y) (fun q => kt q z ?_ r hr) (fun q => kf q z ?_ r hr)
  · rw [if_pos q] at hz; exact hz
  · rw [if_neg q] at hz; exact hz
theorem hp_if_ge {o1 o2 : Option X} (hm : hx_mok M = true) {B : List hI} (hB : hx_at M pc B) {st' : List Value} {C : Option Prop} {x : Int32} (ev : hx_ev S N B L st h none = some (L, .int x :: st', h, C)) (hC : hx_hold C) {pc' : Nat} (hpc : pc + hx_sz B = pc') (i : Nat) {off : Int} (hi : M.2.2.2.2.2.2.2[i]? = some (pc', .ifCond .ge off, 3)) {tgt : Nat} (ht : (pc' : Int) + off = (tgt : Int)) {ic : Decidable (0 ≤ x)} (kt : 0 ≤ x → hx_P S M d tgt L st' N h o1 Φ) (kf : ¬ 0 ≤ x → hx_P S M d (pc' + 3) L st' N h o2 Φ) : hx_P S M d pc L st N h (@ite _ (0 ≤ x) ic o1 o2) Φ := by
  intro z hz r hr
  refine hv_p hm hB ev hC hpc ?_
  refine hv_if_ge hm i hi ht Iff.rfl (fun q => kt q z ?_ r hr) (fun q => kf q z ?_ r hr)
  · rw [if_pos q] at hz; exact hz
  · rw [if_neg q] at hz; exact hz
theorem hp_ic_ge {o1 o2 : Option X} (hm : hx_mok M = true) {B : List hI} (hB : hx_at M pc B) {st' : List Value} {C : Option Prop} {x y : Int32} (ev : hx_ev S N B L st h none = some (L, .int y :: .int x :: st', h, C)) (hC : hx_hold C) {pc' : Nat} (hpc : pc + hx_sz B = pc') (i : Nat) {off : Int} (hi : M.2.2.2.2.2.2.2[i]? = some (pc', .if_icmp .ge off, 3)) {tgt : Nat} (ht : (pc' : Int) + off = (tgt : Int)) {ic : Decidable (y ≤ x)} (kt : y ≤ x → hx_P S M d tgt L st' N h o1 Φ) (kf : ¬ y ≤ x → hx_P S M d (pc' + 3) L st' N h o2 Φ) : hx_P S M d pc L st N h (@ite _ (y ≤ x) ic o1 o2) Φ := by
  intro z hz r hr
  refine hv_p hm hB ev hC hpc ?_
  refine hv_ic_ge hm i hi ht (fun q => kt q z ?_ r hr) (fun q => kf q z ?_ r hr)
  · rw [if_pos q] at hz; exact hz
  · rw [if_neg q] at hz; exact hz
theorem hp_lc_ge {o1 o2 : Option X} (hm : hx_mok M = true) {B : List hI} (hB : hx_at M pc B) {st' : List Value} {C : Option Prop} {x y : Int64} (ev : hx_ev S N B L st h none = some (L, .int (lg_cmp x y) :: st', h, C)) (hC : hx_hold C) {pc' : Nat} (hpc : pc + hx_sz B = pc') (i : Nat) {off : Int} (hi : M.2.2.2.2.2.2.2[i]? = some (pc', .ifCond .ge off, 3)) {tgt : Nat} (ht : (pc' : Int) + off = (tgt : Int)) {ic : Decidable (y ≤ x)} (kt : y ≤ x → hx_P S M d tgt L st' N h o1 Φ) (kf : ¬ y ≤ x → hx_P S M d (pc' + 3) L st' N h o2 Φ) : hx_P S M d pc L st N h (@ite _ (y ≤ x) ic o1 o2) Φ := by
  intro z hz r hr
  refine hv_p hm hB ev hC hpc ?_
  refine hv_if_ge hm i hi ht (lg_cmp_ge x y) (fun q => kt q z ?_ r hr) (fun q => kf q z ?_ r hr)
  · rw [if_pos q] at hz; exact hz
  · rw [if_neg q] at hz; exact hz
theorem hp_if_gt {o1 o2 : Option X} (hm : hx_mok M = true) {B : List hI} (hB : hx_at M pc B) {st' : List Value} {C : Option Prop} {x : Int32} (ev : hx_ev S N B L st h none = some (L, .int x :: st', h, C)) (hC : hx_hold C) {pc' : Nat} (hpc : pc + hx_sz B = pc') (i : Nat) {off : Int} (hi : M.2.2.2.2.2.2.2[i]? = some (pc', .ifCond .gt off, 3)) {tgt : Nat} (ht : (pc' : Int) + off = (tgt : Int)) {ic : Decidable (0 < x)} (kt : 0 < x → hx_P S M d tgt L st' N h o1 Φ) (kf : ¬ 0 < x → hx_P S M d (pc' + 3) L st' N h o2 Φ) : hx_P S M d pc L st N h (@ite _ (0 < x) ic o1 o2) Φ := by
  intro z hz r hr
  refine hv_p hm hB ev hC hpc ?_
  refine hv_if_gt hm i hi ht Iff.rfl (fun q => kt q z ?_ r hr) (fun q => kf q z ?_ r hr)
  · rw [if_pos q] at hz; exact hz
  · rw [if_neg q] at hz; exact hz
theorem hp_ic_gt {o1 o2 : Option X} (hm : hx_mok M = true) {B : List hI} (hB : hx_at M pc B) {st' : List Value} {C : Option Prop} {x y : Int32} (ev : hx_ev S N B L st h none = some (L, .int y :: .int x :: st', h, C)) (hC : hx_hold C) {pc' : Nat} (hpc : pc + hx_sz B = pc') (i : Nat) {off : Int} (hi : M.2.2.2.2.2.2.2[i]? = some (pc', .if_icmp .gt off, 3)) {tgt : Nat} (ht : (pc' : Int) + off = (tgt : Int)) {ic : Decidable (y < x)} (kt : y < x → hx_P S M d tgt L st' N h o1 Φ) (kf : ¬ y < x → hx_P S M d (pc' + 3) L st' N h o2 Φ) : hx_P S M d pc L st N h (@ite _ (y < x) ic o1 o2) Φ := by
  intro z hz r hr
  refine hv_p hm hB ev hC hpc ?_
  refine hv_ic_gt hm i hi ht (fun q => kt q z ?_ r hr) (fun q => kf q z ?_ r hr)
  · rw [if_pos q] at hz; exact hz
  · rw [if_neg q] at hz; exact hz
theorem hp_lc_gt {o1 o2 : Option X} (hm : hx_mok M = true) {B : List hI} (hB : hx_at M pc B) {st' : List Value} {C : Option Prop} {x y : Int64} (ev : hx_ev S N B L st h none = some (L, .int (lg_cmp x y) :: st', h, C)) (hC : hx_hold C) {pc' : Nat} (hpc : pc + hx_sz B = pc') (i : Nat) {off : Int} (hi : M.2.2.2.2.2.2.2[i]? = some (pc', .ifCond .gt off, 3)) {tgt : Nat} (ht : (pc' : Int) + off = (tgt : Int)) {ic : Decidable (y < x)} (kt : y < x → hx_P S M d tgt L st' N h o1 Φ) (kf : ¬ y < x → hx_P S M d (pc' + 3) L st' N h o2 Φ) : hx_P S M d pc L st N h (@ite _ (y < x) ic o1 o2) Φ := by
  intro z hz r hr
  refine hv_p hm hB ev hC hpc ?_
  refine hv_if_gt hm i hi ht (lg_cmp_gt x y) (fun q => kt q z ?_ r hr) (fun q => kf q z ?_ r hr)
  · rw [if_pos q] at hz; exact hz
  · rw [if_neg q] at hz; exact hz
theorem hp_if_le {o1 o2 : Option X} (hm : hx_mok M = true) {B : List hI} (hB : hx_at M pc B) {st' : List Value} {C : Option Prop} {x : Int32} (ev : hx_ev S N B L st h none = some (L, .int x :: st', h, C)) (hC : hx_hold C) {pc' : Nat} (hpc : pc + hx_sz B = pc') (i : Nat) {off : Int} (hi : M.2.2.2.2.2.2.2[i]? = some (pc', .ifCond .le off, 3)) {tgt : Nat} (ht : (pc' : Int) + off = (tgt : Int)) {ic : Decidable (x ≤ 0)} (kt : x ≤ 0 → hx_P S M d tgt L st' N h o1 Φ) (kf : ¬ x ≤ 0 → hx_P S M d (pc' + 3) L st' N h o2 Φ) : hx_P S M d pc L st N h (@ite _ (x ≤ 0) ic o1 o2) Φ := by
  intro z hz r hr
  refine hv_p hm hB ev hC hpc ?_
  refine hv_if_le hm i hi ht Iff.rfl (fun q => kt q z ?_ r hr) (fun q => kf q z ?_ r hr)
  · rw [if_pos q] at hz; exact hz
  · rw [if_neg q] at hz; exact hz
theorem hp_ic_le {o1 o2 : Option X} (hm : hx_mok M = true) {B : List hI} (hB : hx_at M pc B) {st' : List Value} {C : Option Prop} {x y : Int32} (ev : hx_ev S N B L st h none = some (L, .int y :: .int x :: st', h, C)) (hC : hx_hold C) {pc' : Nat} (hpc : pc + hx_sz B = pc') (i : Nat) {off : Int} (hi : M.2.2.2.2.2.2.2[i]? = some (pc', .if_icmp .le off, 3)) {tgt : Nat} (ht : (pc' : Int) + off = (tgt : Int)) {ic : Decidable (x ≤ y)} (kt : x ≤ y → hx_P S M d tgt L st' N h o1 Φ) (kf : ¬ x ≤ y → hx_P S M d (pc' + 3) L st' N h o2 Φ) : hx_P S M d pc L st N h (@ite _ (x ≤ y) ic o1 o2) Φ := by
  intro z hz r hr
  refine hv_p hm hB ev hC hpc ?_
  refine hv_ic_le hm i hi ht (fun q => kt q z ?_ r hr) (fun q => kf q z ?_ r hr)
  · rw [if_pos q] at hz; exact hz
  · rw [if_neg q] at hz; exact hz
theorem hp_lc_le {o1 o2 : Option X} (hm : hx_mok M = true) {B : List hI} (hB : hx_at M pc B) {st' : List Value} {C : Option Prop} {x y : Int64} (ev : hx_ev S N B L st h none = some (L, .int (lg_cmp x y) :: st', h, C)) (hC : hx_hold C) {pc' : Nat} (hpc : pc + hx_sz B = pc') (i : Nat) {off : Int} (hi : M.2.2.2.2.2.2.2[i]? = some (pc', .ifCond .le off, 3)) {tgt : Nat} (ht : (pc' : Int) + off = (tgt : Int)) {ic : Decidable (x ≤ y)} (kt : x ≤ y → hx_P S M d tgt L st' N h o1 Φ) (kf : ¬ x ≤ y → hx_P S M d (pc' + 3) L st' N h o2 Φ) : hx_P S M d pc L st N h (@ite _ (x ≤ y) ic o1 o2) Φ := by
  intro z hz r hr
  refine hv_p hm hB ev hC hpc ?_
  refine hv_if_le hm i hi ht (lg_cmp_le x y) (fun q => kt q z ?_ r hr) (fun q => kf q z ?_ r hr)
  · rw [if_pos q] at hz; exact hz
  · rw [if_neg q] at hz; exact hz
theorem hp_null {o1 o2 : Option X} (hm : hx_mok M = true) {B : List hI} (hB : hx_at M pc B) {st' : List Value} {C : Option Prop} {x : Nat} (ev : hx_ev S N B L st h none = some (L, .ref x :: st', h, C)) (hC : hx_hold C) {pc' : Nat} (hpc : pc + hx_sz B = pc') (i : Nat) {off : Int} (hi : M.2.2.2.2.2.2.2[i]? = some (pc', .ifnull off, 3)) {tgt : Nat} (ht : (pc' : Int) + off = (tgt : Int)) {ic : Decidable (x = 0)} (kt : x = 0 → hx_P S M d tgt L st' N h o1 Φ) (kf : ¬ x = 0 → hx_P S M d (pc' + 3) L st' N h o2 Φ) : hx_P S M d pc L st N h (@ite _ (x = 0) ic o1 o2) Φ := by
  intro z hz r hr
  refine hv_p hm hB ev hC hpc ?_
  refine hv_null hm i hi ht (fun q => kt q z ?_ r hr) (fun q => kf q z ?_ r hr)
  · rw [if_pos q] at hz; exact hz
  · rw [if_neg q] at hz; exact hz
theorem hp_nonnull {o1 o2 : Option X} (hm : hx_mok M = true) {B : List hI} (hB : hx_at M pc B) {st' : List Value} {C : Option Prop} {x : Nat} (ev : hx_ev S N B L st h none = some (L, .ref x :: st', h, C)) (hC : hx_hold C) {pc' : Nat} (hpc : pc + hx_sz B = pc') (i : Nat) {off : Int} (hi : M.2.2.2.2.2.2.2[i]? = some (pc', .ifnonnull off, 3)) {tgt : Nat} (ht : (pc' : Int) + off = (tgt : Int)) {ic : Decidable (x = 0)} (kt : ¬ x = 0 → hx_P S M d tgt L st' N h o2 Φ) (kf : x = 0 → hx_P S M d (pc' + 3) L st' N h o1 Φ) : hx_P S M d pc L st N h (@ite _ (x = 0) ic o1 o2) Φ := by
  intro z hz r hr
  refine hv_p hm hB ev hC hpc ?_
  refine hv_nonnull hm i hi ht (fun q => kt q z ?_ r hr) (fun q => kf q z ?_ r hr)
  · rw [if_neg q] at hz; exact hz
  · rw [if_pos q] at hz; exact hz
theorem hp_aeq {o1 o2 : Option X} (hm : hx_mok M = true) {B : List hI} (hB : hx_at M pc B) {st' : List Value} {C : Option Prop} {x y : Nat} (ev : hx_ev S N B L st h none = some (L, .ref y :: .ref x :: st', h, C)) (hC : hx_hold C) {pc' : Nat} (hpc : pc + hx_sz B = pc') (i : Nat) {off : Int} (hi : M.2.2.2.2.2.2.2[i]? = some (pc', .if_acmp .eq off, 3)) {tgt : Nat} (ht : (pc' : Int) + off = (tgt : Int)) (hxN : x ≤ N) (hyN : y ≤ N) {ic : Decidable (x = y)} (kt : x = y → hx_P S M d tgt L st' N h o1 Φ) (kf : ¬ x = y → hx_P S M d (pc' + 3) L st' N h o2 Φ) : hx_P S M d pc L st N h (@ite _ (x = y) ic o1 o2) Φ := by
  intro z hz r hr
  refine hv_p hm hB ev hC hpc ?_
  refine hv_aeq hm i hi ht hxN hyN (fun q => kt q z ?_ r hr) (fun q => kf q z ?_ r hr)
  · rw [if_pos q] at hz; exact hz
  · rw [if_neg q] at hz; exact hz
theorem hp_ane {o1 o2 : Option X} (hm : hx_mok M = true) {B : List hI} (hB : hx_at M pc B) {st' : List Value} {C : Option Prop} {x y : Nat} (ev : hx_ev S N B L st h none = some (L, .ref y :: .ref x :: st', h, C)) (hC : hx_hold C) {pc' : Nat} (hpc : pc + hx_sz B = pc') (i : Nat) {off : Int} (hi : M.2.2.2.2.2.2.2[i]? = some (pc', .if_acmp .ne off, 3)) {tgt : Nat} (ht : (pc' : Int) + off = (tgt : Int)) (hxN : x ≤ N) (hyN : y ≤ N) {ic : Decidable (x = y)} (kt : ¬ x = y → hx_P S M d tgt L st' N h o2 Φ) (kf : x = y → hx_P S M d (pc' + 3) L st' N h o1 Φ) : hx_P S M d pc L st N h (@ite _ (x = y) ic o1 o2) Φ := by
  intro z hz r hr
  refine hv_p hm hB ev hC hpc ?_
  refine hv_ane hm i hi ht hxN hyN (fun q => kt q z ?_ r hr) (fun q => kf q z ?_ r hr)
  · rw [if_neg q] at hz; exact hz
  · rw [if_pos q] at hz; exact hz
end HP
