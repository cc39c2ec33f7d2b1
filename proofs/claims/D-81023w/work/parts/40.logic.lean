/-! LAYER 3b: the logic of option-valued functions: OK o Φ says that o gives a value, and Φ of it -/
def OK {X : Type} (o : Option X) (Φ : X → Prop) : Prop := ∃ x, o = some x ∧ Φ x
theorem OK_some {X : Type} {x : X} {Φ : X → Prop} (h : Φ x) : OK (some x) Φ := ⟨x, rfl, h⟩
theorem OK_of {X : Type} {o : Option X} {x : X} {Φ : X → Prop} (e : o = some x) (h : Φ x) : OK o Φ := ⟨x, e, h⟩
theorem OK_iff {X : Type} {x : X} {Φ : X → Prop} : OK (some x) Φ ↔ Φ x := ⟨fun ⟨_, e, h⟩ => by cases e; exact h, OK_some⟩
theorem OK_mono {X : Type} {o : Option X} {Φ Ψ : X → Prop} (h : OK o Φ) (k : ∀ x, Φ x → Ψ x) : OK o Ψ := by
  obtain ⟨x, e, hx⟩ := h
  exact ⟨x, e, k x hx⟩
theorem OK_gd {X : Type} {P : Prop} {o : Option X} {Φ : X → Prop} (hP : P) (h : OK o Φ) : OK (gd P o) Φ := by rw [gd_pos hP]; exact h
theorem OK_lz {A X : Type} {a : A} {k : A → Option X} {Φ : X → Prop} (h : OK (k a) Φ) : OK (lz a k) Φ := h
theorem OK_bP {A X : Type} {o : Option A} {k : A → Option X} {Φ : X → Prop} (h : OK o (fun a => OK (k a) Φ)) : OK (bP o k) Φ := by
  obtain ⟨x, e, hx⟩ := h
  rw [e]; exact hx
theorem OK_bS {A X : Type} {o : Option (A × hH)} {k : A → hH → Option X} {Φ : X → Prop} (h : OK o (fun q => OK (k q.1 q.2) Φ)) : OK (bS o k) Φ := by
  obtain ⟨x, e, hx⟩ := h
  rw [e]; exact hx
/-- of a result that may be thrown -/
def TT {A : Type} (F : hH → Prop) (G : A → Prop) : hH ⊕ A → Prop
  | .inl h => F h
  | .inr q => G q
theorem OK_bT {A X : Type} {o : Option (hH ⊕ (A × hH))} {k : A → hH → Option (hH ⊕ X)} {Φ : hH ⊕ X → Prop} (h : OK o (TT (fun h => Φ (.inl h)) (fun q => OK (k q.1 q.2) Φ))) : OK (bT o k) Φ := by
  obtain ⟨x, e, hx⟩ := h
  rw [e]
  cases x with
  | inl h => exact ⟨_, rfl, hx⟩
  | inr q => exact hx
theorem OK_bJT {A X : Type} {o : Option (hH ⊕ A)} {k : A → Option (hH ⊕ X)} {Φ : hH ⊕ X → Prop} (h : OK o (TT (fun h => Φ (.inl h)) (fun q => OK (k q) Φ))) : OK (bJT o k) Φ := by
  obtain ⟨x, e, hx⟩ := h
  rw [e]
  cases x with
  | inl h => exact ⟨_, rfl, hx⟩
  | inr q => exact hx
/-- of a result that ends here or ends all -/
def EE {A B : Type} (F : A → Prop) (G : B → Prop) : A ⊕ B → Prop
  | .inl h => F h
  | .inr q => G q
theorem OK_bE {A X : Type} {o : Option (A ⊕ X)} {k : A → Option X} {Φ : X → Prop} (h : OK o (EE (fun q => OK (k q) Φ) Φ)) : OK (bE o k) Φ := by
  obtain ⟨x, e, hx⟩ := h
  rw [e]
  cases x with
  | inl q => exact hx
  | inr x => exact ⟨_, rfl, hx⟩
theorem OK_bET {A X : Type} {o : Option (hH ⊕ (A ⊕ X))} {k : A → Option (hH ⊕ X)} {Φ : hH ⊕ X → Prop} (h : OK o (TT (fun h => Φ (.inl h)) (EE (fun q => OK (k q) Φ) (fun x => Φ (.inr x))))) : OK (bET o k) Φ := by
  obtain ⟨x, e, hx⟩ := h
  rw [e]
  rcases x with h | q | x
  · exact ⟨_, rfl, hx⟩
  · exact hx
  · exact ⟨_, rfl, hx⟩
theorem OK_cO {X : Type} {o : Option Bool} {a b : Option X} {Φ : X → Prop} (h : OK o (fun q => (q = true → OK a Φ) ∧ (q = false → OK b Φ))) : OK (cO o a b) Φ := by
  obtain ⟨x, e, hx⟩ := h
  rw [e]
  cases x with
  | true => exact hx.1 rfl
  | false => exact hx.2 rfl
theorem OK_cS {X : Type} {o : Option (Bool × hH)} {a b : hH → Option X} {Φ : X → Prop} (h : OK o (fun q => (q.1 = true → OK (a q.2) Φ) ∧ (q.1 = false → OK (b q.2) Φ))) : OK (cS o a b) Φ := by
  obtain ⟨x, e, hx⟩ := h
  rw [e]
  rcases x with ⟨x, g⟩
  cases x with
  | true => exact hx.1 rfl
  | false => exact hx.2 rfl
theorem OK_ite {X : Type} {c : Prop} {ic : Decidable c} {a b : Option X} {Φ : X → Prop} (h1 : c → OK a Φ) (h2 : ¬ c → OK b Φ) : OK (@ite _ c ic a b) Φ := by
  by_cases h : c
  · rw [if_pos h]; exact h1 h
  · rw [if_neg h]; exact h2 h
theorem OK_wh {A B : Type} {f : A → Option (A ⊕ B)} {Φ : B → Prop} (I : A → Prop) (μ : A → Nat) (step : ∀ s, I s → OK (f s) (EE (fun t => I t ∧ μ t < μ s) Φ)) {s : A} (h : I s) : OK (wh f s) Φ := by
  generalize hn : μ s = n
  induction n using Nat.strongRecOn generalizing s with
  | _ n ih =>
    obtain ⟨y, e, hy⟩ := step s h
    rw [wh_eq, e]
    cases y with
    | inl t => exact ih (μ t) (hn ▸ hy.2) hy.1 rfl
    | inr b => exact ⟨b, rfl, hy⟩
theorem thS_OK {A B : Type} {o : Option (hH ⊕ (A ⊕ B))} {Φ : A ⊕ (hH ⊕ B) → Prop} (h : OK o (TT (fun h => Φ (.inr (.inl h))) (EE (fun s => Φ (.inl s)) (fun e => Φ (.inr (.inr e)))))) : OK (thS o) Φ := by
  obtain ⟨x, e, hx⟩ := h
  rw [e]
  rcases x with h | q | x
  · exact ⟨_, rfl, hx⟩
  · exact ⟨_, rfl, hx⟩
  · exact ⟨_, rfl, hx⟩
theorem OK_whT {A B : Type} {f : A → Option (hH ⊕ (A ⊕ B))} {Φ : hH ⊕ B → Prop} (I : A → Prop) (μ : A → Nat) (step : ∀ s, I s → OK (f s) (TT (fun h => Φ (.inl h)) (EE (fun t => I t ∧ μ t < μ s) (fun b => Φ (.inr b))))) {s : A} (h : I s) : OK (whT f s) Φ := by
  refine OK_wh I μ (fun s hs => thS_OK (OK_mono (step s hs) ?_)) h
  intro x hx
  rcases x with h | q | x <;> exact hx
/-- two functions, side by side -/
def OK2 {X Y : Type} (o : Option X) (p : Option Y) (Φ : X → Y → Prop) : Prop := ∃ x y, o = some x ∧ p = some y ∧ Φ x y
theorem OK2_of {X Y : Type} {o : Option X} {p : Option Y} {Φ : X → Y → Prop} {x : X} {y : Y} (e : o = some x) (e' : p = some y) (h : Φ x y) : OK2 o p Φ := ⟨x, y, e, e', h⟩
theorem OK2_l {X Y : Type} {o : Option X} {p : Option Y} {Φ : X → Y → Prop} (h : OK o (fun x => OK p (Φ x))) : OK2 o p Φ := by
  obtain ⟨x, e, y, e', h⟩ := h
  exact ⟨x, y, e, e', h⟩
theorem OK2_ul {X Y : Type} {o : Option X} {p : Option Y} {Φ : X → Y → Prop} (h : OK2 o p Φ) : OK o (fun x => OK p (Φ x)) := by
  obtain ⟨x, y, e, e', h⟩ := h
  exact ⟨x, e, y, e', h⟩
theorem OK2_mono {X Y : Type} {o : Option X} {p : Option Y} {Φ Ψ : X → Y → Prop} (h : OK2 o p Φ) (k : ∀ x y, Φ x y → Ψ x y) : OK2 o p Ψ := by
  obtain ⟨x, y, e, e', h⟩ := h
  exact ⟨x, y, e, e', k x y h⟩
theorem OK2_bP {A B X Y : Type} {o : Option A} {p : Option B} {k : A → Option X} {l : B → Option Y} {Φ : X → Y → Prop} (h : OK2 o p (fun a b => OK2 (k a) (l b) Φ)) : OK2 (bP o k) (bP p l) Φ := by
  obtain ⟨x, y, e, e', h⟩ := h
  rw [e, e']; exact h
theorem OK2_bS {A B X Y : Type} {o : Option (A × hH)} {p : Option (B × hH)} {k : A → hH → Option X} {l : B → hH → Option Y} {Φ : X → Y → Prop} (h : OK2 o p (fun a b => OK2 (k a.1 a.2) (l b.1 b.2) Φ)) : OK2 (bS o k) (bS p l) Φ := by
  obtain ⟨x, y, e, e', h⟩ := h
  rw [e, e']; exact h
/-- a call that may throw beside one that does not -/
theorem OK2_bTS {A B X Y : Type} {o : Option (hH ⊕ (A × hH))} {p : Option (B × hH)} {k : A → hH → Option (hH ⊕ X)} {l : B → hH → Option Y} {Φ : hH ⊕ X → Y → Prop} (h : OK2 o p (fun a b => TT (fun h => OK (l b.1 b.2) (Φ (.inl h))) (fun q => OK2 (k q.1 q.2) (l b.1 b.2) Φ) a)) : OK2 (bT o k) (bS p l) Φ := by
  obtain ⟨x, y, e, e', h⟩ := h
  rw [e, e']
  cases x with
  | inl g =>
    obtain ⟨z, e, hz⟩ := h
    exact ⟨_, z, rfl, e, hz⟩
  | inr q => exact h
theorem OK2_bJTP {A B X Y : Type} {o : Option (hH ⊕ A)} {p : Option B} {k : A → Option (hH ⊕ X)} {l : B → Option Y} {Φ : hH ⊕ X → Y → Prop} (h : OK2 o p (fun a b => TT (fun h => OK (l b) (Φ (.inl h))) (fun q => OK2 (k q) (l b) Φ) a)) : OK2 (bJT o k) (bP p l) Φ := by
  obtain ⟨x, y, e, e', h⟩ := h
  rw [e, e']
  cases x with
  | inl g =>
    obtain ⟨z, e, hz⟩ := h
    exact ⟨_, z, rfl, e, hz⟩
  | inr q => exact h
/-- loops side by side: while both go on, the relation I; where one ends, the other one goes on alone -/
theorem OK2_wh {A B A' B' : Type} {f : A → Option (A ⊕ B)} {g : A' → Option (A' ⊕ B')} {Φ : B → B' → Prop} (I : A → A' → Prop) (μ : A → Nat) (step : ∀ s t, I s t → OK2 (f s) (g t) (fun y z => match y, z with
    | .inl s', .inl t' => I s' t' ∧ μ s' < μ s
    | .inr b, .inr c => Φ b c
    | .inr b, .inl t' => OK (wh g t') (fun c => Φ b c)
    | .inl s', .inr c => OK (wh f s') (fun b => Φ b c))) {s : A} {t : A'} (h : I s t) : OK2 (wh f s) (wh g t) Φ := by
  generalize hn : μ s = n
  induction n using Nat.strongRecOn generalizing s t with
  | _ n ih =>
    obtain ⟨y, z, e, e', hy⟩ := step s t h
    rw [wh_eq f, wh_eq g, e, e']
    cases y with
    | inl s' =>
      cases z with
      | inl t' => exact ih (μ s') (hn ▸ hy.2) hy.1 rfl
      | inr c =>
        obtain ⟨b, e, hb⟩ := hy
        exact ⟨b, c, e, rfl, hb⟩
    | inr b =>
      cases z with
      | inl t' =>
        obtain ⟨c, e, hc⟩ := hy
        exact ⟨b, c, rfl, e, hc⟩
      | inr c => exact ⟨b, c, rfl, rfl, hy⟩
theorem OK2_whT {A B A' B' : Type} {f : A → Option (hH ⊕ (A ⊕ B))} {g : A' → Option (A' ⊕ B')} {Φ : hH ⊕ B → B' → Prop} (I : A → A' → Prop) (μ : A → Nat) (step : ∀ s t, I s t → OK2 (f s) (g t) (fun y z => match y, z with
    | .inr (.inl s'), .inl t' => I s' t' ∧ μ s' < μ s
    | .inr (.inr b), .inr c => Φ (.inr b) c
    | .inl h, .inr c => Φ (.inl h) c
    | .inr (.inr b), .inl t' => OK (wh g t') (fun c => Φ (.inr b) c)
    | .inl h, .inl t' => OK (wh g t') (fun c => Φ (.inl h) c)
    | .inr (.inl s'), .inr c => OK (whT f s') (fun b => Φ b c))) {s : A} {t : A'} (h : I s t) : OK2 (whT f s) (wh g t) Φ := by
  refine OK2_wh I μ (fun s t hst => ?_) h
  obtain ⟨y, z, e, e', hy⟩ := step s t hst
  rcases y with g | s' | b <;> rcases z with t' | c <;> exact ⟨_, _, by rw [e]; rfl, e', hy⟩
theorem bP_some {A X : Type} {a : A} {k : A → Option X} : bP (some a) k = k a := rfl
theorem bS_some {A X : Type} {a : A} {h : hH} {k : A → hH → Option X} : bS (some (a, h)) k = k a h := rfl
theorem bT_inl {A X : Type} {h : hH} {k : A → hH → Option (hH ⊕ X)} : bT (some (.inl h)) k = some (.inl h) := rfl
theorem bT_inr {A X : Type} {a : A} {h : hH} {k : A → hH → Option (hH ⊕ X)} : bT (some (.inr (a, h))) k = k a h := rfl
theorem bJT_inl {A X : Type} {h : hH} {k : A → Option (hH ⊕ X)} : bJT (some (.inl h)) k = some (.inl h) := rfl
theorem bJT_inr {A X : Type} {a : A} {k : A → Option (hH ⊕ X)} : bJT (some (.inr a)) k = k a := rfl
theorem bE_inl {A X : Type} {a : A} {k : A → Option X} : bE (some (.inl a)) k = k a := rfl
theorem bE_inr {A X : Type} {x : X} {k : A → Option X} : bE (some (.inr x)) k = some x := rfl
theorem bET_t {A X : Type} {h : hH} {k : A → Option (hH ⊕ X)} : bET (some (.inl h)) k = some (.inl h) := rfl
theorem bET_inl {A X : Type} {a : A} {k : A → Option (hH ⊕ X)} : bET (some (.inr (.inl a))) k = k a := rfl
theorem bET_inr {A X : Type} {x : X} {k : A → Option (hH ⊕ X)} : bET (some (.inr (.inr x))) k = some (.inr x) := rfl
theorem cO_t {X : Type} {a b : Option X} : cO (some true) a b = a := rfl
theorem cO_f {X : Type} {a b : Option X} : cO (some false) a b = b := rfl
theorem cS_t {X : Type} {h : hH} {a b : hH → Option X} : cS (some (true, h)) a b = a h := rfl
theorem cS_f {X : Type} {h : hH} {a b : hH → Option X} : cS (some (false, h)) a b = b h := rfl
theorem bT_ite {A X : Type} {c : Prop} {ic : Decidable c} {a b : Option (hH ⊕ (A × hH))} {k : A → hH → Option (hH ⊕ X)} : bT (@ite _ c ic a b) k = @ite _ c ic (bT a k) (bT b k) := by split <;> rfl
theorem bS_ite {A X : Type} {c : Prop} {ic : Decidable c} {a b : Option (A × hH)} {k : A → hH → Option X} : bS (@ite _ c ic a b) k = @ite _ c ic (bS a k) (bS b k) := by split <;> rfl
theorem bP_ite {A X : Type} {c : Prop} {ic : Decidable c} {a b : Option A} {k : A → Option X} : bP (@ite _ c ic a b) k = @ite _ c ic (bP a k) (bP b k) := by split <;> rfl
theorem rdI_wrI {h : hH} {o k o' k' : Nat} {v : Int32} : rdI (wrI h o k v) o' k' = if o' = o ∧ k' = k then v else rdI h o' k' := rfl
theorem rdL_wrL {h : hH} {o k o' k' : Nat} {v : Int64} : rdL (wrL h o k v) o' k' = if o' = o ∧ k' = k then v else rdL h o' k' := rfl
theorem rdP_wrP {h : hH} {o k o' k' : Nat} {v : Nat} : rdP (wrP h o k v) o' k' = if o' = o ∧ k' = k then v else rdP h o' k' := rfl
theorem rdI_wrL {h : hH} {o k o' k' : Nat} {v : Int64} : rdI (wrL h o k v) o' k' = rdI h o' k' := rfl
theorem rdI_wrP {h : hH} {o k o' k' : Nat} {v : Nat} : rdI (wrP h o k v) o' k' = rdI h o' k' := rfl
theorem rdL_wrI {h : hH} {o k o' k' : Nat} {v : Int32} : rdL (wrI h o k v) o' k' = rdL h o' k' := rfl
theorem rdL_wrP {h : hH} {o k o' k' : Nat} {v : Nat} : rdL (wrP h o k v) o' k' = rdL h o' k' := rfl
theorem rdP_wrI {h : hH} {o k o' k' : Nat} {v : Int32} : rdP (wrI h o k v) o' k' = rdP h o' k' := rfl
theorem rdP_wrL {h : hH} {o k o' k' : Nat} {v : Int64} : rdP (wrL h o k v) o' k' = rdP h o' k' := rfl
theorem wrI_wrI {h : hH} {o k : Nat} {v w : Int32} : wrI (wrI h o k v) o k w = wrI h o k w := by
  unfold wrI up2
  congr 1
  funext a b
  dsimp only
  split <;> rfl
theorem vp_of {x : Int32} {n : Nat} (h0 : 0 ≤ x) (h1 : x.toInt < (n : Int)) : vp_in x n := by
  refine vp_lit ⟨h0, ?_⟩
  have : (0 : Int32).toInt ≤ x.toInt := Int32.le_iff_toInt_le.mp h0
  have e : (0 : Int32).toInt = 0 := rfl
  show x.toInt.toNat < n
  omega
theorem vp_lt {x m : Int32} {n : Nat} (h0 : 0 ≤ x) (h1 : x < m) (hm : m.toInt = (n : Int)) : vp_in x n := vp_of h0 (hm ▸ Int32.lt_iff_toInt_lt.mp h1)
theorem xI_toInt {x : Int32} (h0 : 0 ≤ x) : (x.toNatClampNeg : Int) = x.toInt := by
  have : (0 : Int32).toInt ≤ x.toInt := Int32.le_iff_toInt_le.mp h0
  have e : (0 : Int32).toInt = 0 := rfl
  show ((x.toInt.toNat : Nat) : Int) = x.toInt
  omega
theorem xI_inj {x y : Int32} (hx : 0 ≤ x) (hy : 0 ≤ y) (h : x.toNatClampNeg = y.toNatClampNeg) : x = y := by
  apply Int32.toInt_inj.mp
  rw [← xI_toInt hx, ← xI_toInt hy, h]
theorem xI_lt {x y : Int32} (hx : 0 ≤ x) (hy : 0 ≤ y) : x.toNatClampNeg < y.toNatClampNeg ↔ x < y := by
  rw [Int32.lt_iff_toInt_lt, ← xI_toInt hx, ← xI_toInt hy]
  omega
theorem xI_mono {x y : Int32} (h : x ≤ y) : x.toNatClampNeg ≤ y.toNatClampNeg := by
  have := Int32.le_iff_toInt_le.mp h
  show x.toInt.toNat ≤ y.toInt.toNat
  omega
theorem xI_succ {x m : Int32} (h0 : 0 ≤ x) (h1 : x ≤ m) (hm : m.toInt < 2147483647) : (x + 1).toNatClampNeg = x.toNatClampNeg + 1 := by
  have a := Int32.le_iff_toInt_le.mp h0
  have b := Int32.le_iff_toInt_le.mp h1
  have e : (0 : Int32).toInt = 0 := rfl
  have e1 : (1 : Int32).toInt = 1 := rfl
  have c : (x + 1).toInt = x.toInt + 1 := by rw [i32_add (by omega) (by omega), e1]
  show (x + 1).toInt.toNat = x.toInt.toNat + 1
  omega
theorem xI_add {x y m : Int32} (h0 : 0 ≤ x) (h1 : x ≤ m) (hy : 0 ≤ y) (hy1 : y ≤ m) (hm : m.toInt < 1073741824) : (x + y).toNatClampNeg = x.toNatClampNeg + y.toNatClampNeg := by
  have a := Int32.le_iff_toInt_le.mp h0
  have b := Int32.le_iff_toInt_le.mp h1
  have a' := Int32.le_iff_toInt_le.mp hy
  have b' := Int32.le_iff_toInt_le.mp hy1
  have e : (0 : Int32).toInt = 0 := rfl
  have c : (x + y).toInt = x.toInt + y.toInt := by rw [i32_add (by omega) (by omega)]
  show (x + y).toInt.toNat = x.toInt.toNat + y.toInt.toNat
  omega
theorem xI_le {x m : Int32} {n : Nat} (h : x ≤ m) (hm : m.toNatClampNeg = n) : x.toNatClampNeg ≤ n := hm ▸ xI_mono h
theorem bE_bS {A B X : Type} {o : Option (B × hH)} {k : B → hH → Option (A ⊕ X)} {l : A → Option X} : bE (bS o k) l = bS o (fun a h => bE (k a h) l) := by cases o <;> rfl
theorem bE_bP {A B X : Type} {o : Option B} {k : B → Option (A ⊕ X)} {l : A → Option X} : bE (bP o k) l = bP o (fun a => bE (k a) l) := by cases o <;> rfl
theorem bE_gd {A X : Type} {P : Prop} {o : Option (A ⊕ X)} {l : A → Option X} : bE (gd P o) l = gd P (bE o l) := by
  unfold gd
  split <;> rfl
theorem bET_bT {A B X : Type} {o : Option (hH ⊕ (B × hH))} {k : B → hH → Option (hH ⊕ (A ⊕ X))} {l : A → Option (hH ⊕ X)} : bET (bT o k) l = bT o (fun a h => bET (k a h) l) := by rcases o with _ | _ | _ <;> rfl
theorem bET_bS {A B X : Type} {o : Option (B × hH)} {k : B → hH → Option (hH ⊕ (A ⊕ X))} {l : A → Option (hH ⊕ X)} : bET (bS o k) l = bS o (fun a h => bET (k a h) l) := by cases o <;> rfl
theorem bET_bP {A B X : Type} {o : Option B} {k : B → Option (hH ⊕ (A ⊕ X))} {l : A → Option (hH ⊕ X)} : bET (bP o k) l = bP o (fun a => bET (k a) l) := by cases o <;> rfl
theorem bET_gd {A X : Type} {P : Prop} {o : Option (hH ⊕ (A ⊕ X))} {l : A → Option (hH ⊕ X)} : bET (gd P o) l = gd P (bET o l) := by
  unfold gd
  split <;> rfl
theorem bJT_bT {A B X : Type} {o : Option (hH ⊕ (B × hH))} {k : B → hH → Option (hH ⊕ A)} {l : A → Option (hH ⊕ X)} : bJT (bT o k) l = bT o (fun a h => bJT (k a h) l) := by rcases o with _ | _ | _ <;> rfl
theorem bJT_bS {A B X : Type} {o : Option (B × hH)} {k : B → hH → Option (hH ⊕ A)} {l : A → Option (hH ⊕ X)} : bJT (bS o k) l = bS o (fun a h => bJT (k a h) l) := by cases o <;> rfl
theorem bJT_bP {A B X : Type} {o : Option B} {k : B → Option (hH ⊕ A)} {l : A → Option (hH ⊕ X)} : bJT (bP o k) l = bP o (fun a => bJT (k a) l) := by cases o <;> rfl
theorem bJT_gd {A X : Type} {P : Prop} {o : Option (hH ⊕ A)} {l : A → Option (hH ⊕ X)} : bJT (gd P o) l = gd P (bJT o l) := by
  unfold gd
  split <;> rfl
theorem bJT_bJT {A B X : Type} {o : Option (hH ⊕ B)} {k : B → Option (hH ⊕ A)} {l : A → Option (hH ⊕ X)} : bJT (bJT o k) l = bJT o (fun a => bJT (k a) l) := by rcases o with _ | _ | _ <;> rfl
theorem bP_bS {A B X : Type} {o : Option (B × hH)} {k : B → hH → Option A} {l : A → Option X} : bP (bS o k) l = bS o (fun a h => bP (k a h) l) := by cases o <;> rfl
theorem bP_bP {A B X : Type} {o : Option B} {k : B → Option A} {l : A → Option X} : bP (bP o k) l = bP o (fun a => bP (k a) l) := by cases o <;> rfl
theorem bP_gd {A X : Type} {P : Prop} {o : Option A} {l : A → Option X} : bP (gd P o) l = gd P (bP o l) := by
  unfold gd
  split <;> rfl
theorem bT_bT {A B X : Type} {o : Option (hH ⊕ (B × hH))} {k : B → hH → Option (hH ⊕ (A × hH))} {l : A → hH → Option (hH ⊕ X)} : bT (bT o k) l = bT o (fun a h => bT (k a h) l) := by rcases o with _ | _ | _ <;> rfl
theorem bT_bS {A B X : Type} {o : Option (B × hH)} {k : B → hH → Option (hH ⊕ (A × hH))} {l : A → hH → Option (hH ⊕ X)} : bT (bS o k) l = bS o (fun a h => bT (k a h) l) := by cases o <;> rfl
theorem bT_bP {A B X : Type} {o : Option B} {k : B → Option (hH ⊕ (A × hH))} {l : A → hH → Option (hH ⊕ X)} : bT (bP o k) l = bP o (fun a => bT (k a) l) := by cases o <;> rfl
theorem bT_gd {A X : Type} {P : Prop} {o : Option (hH ⊕ (A × hH))} {l : A → hH → Option (hH ⊕ X)} : bT (gd P o) l = gd P (bT o l) := by
  unfold gd
  split <;> rfl
theorem bS_bS {A B X : Type} {o : Option (B × hH)} {k : B → hH → Option (A × hH)} {l : A → hH → Option X} : bS (bS o k) l = bS o (fun a h => bS (k a h) l) := by cases o <;> rfl
theorem bS_bP {A B X : Type} {o : Option B} {k : B → Option (A × hH)} {l : A → hH → Option X} : bS (bP o k) l = bP o (fun a => bS (k a) l) := by cases o <;> rfl
theorem bS_gd {A X : Type} {P : Prop} {o : Option (A × hH)} {l : A → hH → Option X} : bS (gd P o) l = gd P (bS o l) := by
  unfold gd
  split <;> rfl
