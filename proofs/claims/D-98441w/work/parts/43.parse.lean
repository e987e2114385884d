/-! texts, read: what both sides' readers come to -/
set_option maxRecDepth 100000
abbrev PR (α : Type) : Type := (Nat × Nat) ⊕ (α × Nat)
def numD (v : Nat) : Den := fun _ => some (nI v)
def facD (k : Nat) : Den := fun f => some (f k)
def opV (q : Nat) (x y : Int32) : Option Int32 := if q = 2 then some (x + y) else if q = 3 then some (x - y) else if q = 4 then some (x * y) else if y = 0 then none else if q = 5 then some (x / y) else some (rm_ x y)
def opD (q : Nat) (d e : Den) : Den := fun f => match d f with
  | none => none
  | some x => match e f with
    | none => none
    | some y => opV q x y
def cmV2 (q : Nat) (x y : Int32) : Int32 := if q = 7 then (if x < y then 1 else 0) else if q = 8 then (if y < x then 1 else 0) else if x = y then 1 else 0
def cmpD (q : Nat) (d e : Den) : Den := fun f => match d f with
  | none => none
  | some x => match e f with
    | none => none
    | some y => some (cmV2 q x y)
def negD (d : Den) : Den := fun f => match d f with
  | none => none
  | some x => some (1 - x)
def andD (d e : Den) : Den := fun f => match d f with
  | none => none
  | some x => if x = 0 then some 0 else e f
def orD (d e : Den) : Den := fun f => match d f with
  | none => none
  | some x => if x = 1 then some 1 else e f
def digC (c : Int32) : Bool := inS c 48 57
def numL (t : Nat → Int32) (n : Nat) : Nat → Nat → Nat → PR Nat
  | 0, p, v => if digC (chS t n p) = true then .inl (2, p) else .inr (v, p)
  | j + 1, p, v => if digC (chS t n p) = true then numL t n j (p + 1) (10 * v + ix_ (chS t n p - 48)) else .inr (v, p)
def mulO (c : Int32) : Option Nat := if c = 42 then some 4 else if c = 47 then some 5 else if c = 37 then some 6 else none
def addO (c : Int32) : Option Nat := if c = 43 then some 2 else if c = 45 then some 3 else none
def cmO (c : Int32) : Option Nat := if c = 60 then some 7 else if c = 62 then some 8 else if c = 61 then some 9 else none
def facO (c : Int32) : Option Nat := if c = 100 then some 0 else if c = 119 then some 1 else if c = 108 then some 2 else if c = 111 then some 3 else if c = 102 then some 4 else if c = 115 then some 5 else if c = 121 then some 6 else if c = 122 then some 7 else if c = 112 then some 8 else if c = 116 then some 9 else if c = 110 then some 10 else if c = 97 then some 11 else if c = 113 then some 12 else none
def prL (t : Nat → Int32) (n : Nat) (F : Nat → PR Den) : Nat → Den → Nat → PR Den
  | 0, d, p => .inr (d, p)
  | f + 1, d, p => match mulO (chS t n p) with
    | none => .inr (d, p)
    | some q => match F (p + 1) with
      | .inl e => .inl e
      | .inr (y, p') => prL t n F f (opD q d y) p'
def prS (t : Nat → Int32) (n : Nat) (F : Nat → PR Den) (p : Nat) : PR Den := match F p with
  | .inl e => .inl e
  | .inr (d, p') => prL t n F (n + 1) d p'
def smL (t : Nat → Int32) (n : Nat) (F : Nat → PR Den) : Nat → Den → Nat → PR Den
  | 0, d, p => .inr (d, p)
  | f + 1, d, p => match addO (chS t n p) with
    | none => .inr (d, p)
    | some q => match prS t n F (p + 1) with
      | .inl e => .inl e
      | .inr (y, p') => smL t n F f (opD q d y) p'
def suS (t : Nat → Int32) (n : Nat) (F : Nat → PR Den) (p : Nat) : PR Den := match prS t n F p with
  | .inl e => .inl e
  | .inr (d, p') => smL t n F (n + 1) d p'
def facB (t : Nat → Int32) (n : Nat) (S : Option (Nat → PR Den)) (p : Nat) : PR Den :=
  if chS t n p = 91 then (match S with
    | none => .inl (5, p)
    | some S => match S (p + 1) with
      | .inl e => .inl e
      | .inr (d, p1) => if chS t n p1 = 93 then .inr (d, p1 + 1) else .inl (1, p1))
  else if digC (chS t n p) = true then (match numL t n 5 p 0 with
    | .inl e => .inl e
    | .inr (v, p') => .inr (numD v, p'))
  else match facO (chS t n p) with
    | none => .inl (1, p)
    | some k => .inr (facD k, p + 1)
def facS (t : Nat → Int32) (n : Nat) : Nat → Nat → PR Den
  | 0, p => facB t n none p
  | r + 1, p => facB t n (some (suS t n (facS t n r))) p
def coP (t : Nat → Int32) (n r p : Nat) : PR Den := match suS t n (facS t n r) p with
  | .inl e => .inl e
  | .inr (d, p1) => match cmO (chS t n p1) with
    | none => .inl (1, p1)
    | some q => match suS t n (facS t n r) (p1 + 1) with
      | .inl e => .inl e
      | .inr (d2, p2) => .inr (cmpD q d d2, p2)
def anL (t : Nat → Int32) (n : Nat) (P : Nat → PR Den) : Nat → Den → Nat → PR Den
  | 0, d, p => .inr (d, p)
  | f + 1, d, p => if chS t n p = 38 then (match P (p + 1) with
      | .inl e => .inl e
      | .inr (y, p') => anL t n P f (andD d y) p')
    else .inr (d, p)
def anS (t : Nat → Int32) (n : Nat) (P : Nat → PR Den) (p : Nat) : PR Den := match P p with
  | .inl e => .inl e
  | .inr (d, p') => anL t n P (n + 1) d p'
def orL (t : Nat → Int32) (n : Nat) (P : Nat → PR Den) : Nat → Den → Nat → PR Den
  | 0, d, p => .inr (d, p)
  | f + 1, d, p => if chS t n p = 124 then (match anS t n P (p + 1) with
      | .inl e => .inl e
      | .inr (y, p') => orL t n P f (orD d y) p')
    else .inr (d, p)
def orS (t : Nat → Int32) (n : Nat) (P : Nat → PR Den) (p : Nat) : PR Den := match anS t n P p with
  | .inl e => .inl e
  | .inr (d, p') => orL t n P (n + 1) d p'
def grB (t : Nat → Int32) (n : Nat) (P : Option (Nat → PR Den)) (p : Nat) : PR Den := match P with
  | none => .inl (5, p)
  | some P => match orS t n P (p + 1) with
    | .inl e => .inl e
    | .inr (d, p1) => if chS t n p1 = 41 then .inr (d, p1 + 1) else .inl (1, p1)
def ngB (P : Option (Nat → PR Den)) (p : Nat) : PR Den := match P with
  | none => .inl (5, p)
  | some P => match P (p + 1) with
    | .inl e => .inl e
    | .inr (d, p') => .inr (negD d, p')
def pcB (t : Nat → Int32) (n r : Nat) (P : Option (Nat → PR Den)) (p : Nat) : PR Den :=
  if chS t n p = 33 then ngB P p else if chS t n p = 40 then grB t n P p else coP t n r p
def pcS (t : Nat → Int32) (n : Nat) : Nat → Nat → PR Den
  | 0, p => pcB t n 0 none p
  | r + 1, p => pcB t n (r + 1) (some (pcS t n r)) p
/-- whether a letter begins a clause of the law (0), of a rule -/
def clC (w : Nat) (c : Int32) : Bool := if w = 0 then decide (c = 101 ∨ c = 104 ∨ c = 99 ∨ c = 98) else decide (c = 103)
def claS (t : Nat → Int32) (n w p many : Nat) : PR (Int32 × Den × Den) :=
  if clC w (chS t n p) = false then .inl (1, p)
  else if many = 14 then .inl (4, p)
  else match suS t n (facS t n 6) (p + 1) with
    | .inl e => .inl e
    | .inr (d, p1) => if ¬ chS t n p1 = 40 then .inl (1, p1) else match grB t n (some (pcS t n 5)) p1 with
      | .inl e => .inl e
      | .inr (d2, p2) => .inr ((chS t n p, d, d2), p2)
def txL (t : Nat → Int32) (n w : Nat) : Nat → Txt → Nat → (Nat × Nat) ⊕ Txt
  | 0, T, _ => .inr T
  | f + 1, T, p => if n ≤ p then .inr T else if ¬ chS t n p = 59 then .inl (1, p) else match claS t n w (p + 1) T.length with
    | .inl e => .inl e
    | .inr (c, p') => txL t n w f (T ++ [c]) p'
def txS (t : Nat → Int32) (n w : Nat) : (Nat × Nat) ⊕ Txt := match claS t n w 0 0 with
  | .inl e => .inl e
  | .inr (c, p') => txL t n w (n + 1) [c] p'
/-! a reader goes on, and not too far -/
def Gd (n : Nat) (F : Nat → PR Den) : Prop := ∀ p d p', F p = .inr (d, p') → p < p' ∧ p' ≤ n
theorem ch_lt {t : Nat → Int32} {n p : Nat} {c : Int32} (h : chS t n p = c) (hc : ¬ c = -1) : p < n := chS_lt (fun e => hc (h.symm.trans e))
theorem mulO_lt {t : Nat → Int32} {n p q : Nat} (h : mulO (chS t n p) = some q) : p < n := chS_lt (fun e => by rw [e, show mulO (-1) = none from by decide] at h; cases h)
theorem addO_lt {t : Nat → Int32} {n p q : Nat} (h : addO (chS t n p) = some q) : p < n := chS_lt (fun e => by rw [e, show addO (-1) = none from by decide] at h; cases h)
theorem cmO_lt {t : Nat → Int32} {n p q : Nat} (h : cmO (chS t n p) = some q) : p < n := chS_lt (fun e => by rw [e, show cmO (-1) = none from by decide] at h; cases h)
theorem facO_lt {t : Nat → Int32} {n p q : Nat} (h : facO (chS t n p) = some q) : p < n := chS_lt (fun e => by rw [e, show facO (-1) = none from by decide] at h; cases h)
theorem digC_lt {t : Nat → Int32} {n p : Nat} (h : digC (chS t n p) = true) : p < n := chS_lt (fun e => by rw [e] at h; exact absurd h (by decide))
theorem prL_ok {t : Nat → Int32} {n : Nat} {F : Nat → PR Den} (hF : Gd n F) : ∀ f d p d' p', p ≤ n → prL t n F f d p = .inr (d', p') → p ≤ p' ∧ p' ≤ n := by
  intro f
  induction f with
  | zero => intro d p d' p' hp h; cases h; exact ⟨Nat.le_refl _, hp⟩
  | succ f ih =>
    intro d p d' p' hp h
    unfold prL at h
    cases hm : mulO (chS t n p) with
    | none => rw [hm] at h; cases h; exact ⟨Nat.le_refl _, hp⟩
    | some q =>
      rw [hm] at h
      dsimp only at h
      cases hf : F (p + 1) with
      | inl e => rw [hf] at h; cases h
      | inr x =>
        obtain ⟨y, p1⟩ := x
        rw [hf] at h
        dsimp only at h
        obtain ⟨a, b⟩ := hF _ _ _ hf
        obtain ⟨c, e⟩ := ih _ _ _ _ b h
        exact ⟨by omega, e⟩
theorem prS_ok {t : Nat → Int32} {n : Nat} {F : Nat → PR Den} (hF : Gd n F) : Gd n (prS t n F) := by
  intro p d p' h
  unfold prS at h
  cases hf : F p with
  | inl e => rw [hf] at h; cases h
  | inr x =>
    obtain ⟨y, p1⟩ := x
    rw [hf] at h
    dsimp only at h
    obtain ⟨a, b⟩ := hF _ _ _ hf
    obtain ⟨c, e⟩ := prL_ok hF _ _ _ _ _ b h
    exact ⟨by omega, e⟩
theorem smL_ok {t : Nat → Int32} {n : Nat} {F : Nat → PR Den} (hF : Gd n F) : ∀ f d p d' p', p ≤ n → smL t n F f d p = .inr (d', p') → p ≤ p' ∧ p' ≤ n := by
  intro f
  induction f with
  | zero => intro d p d' p' hp h; cases h; exact ⟨Nat.le_refl _, hp⟩
  | succ f ih =>
    intro d p d' p' hp h
    unfold smL at h
    cases hm : addO (chS t n p) with
    | none => rw [hm] at h; cases h; exact ⟨Nat.le_refl _, hp⟩
    | some q =>
      rw [hm] at h
      dsimp only at h
      cases hf : prS t n F (p + 1) with
      | inl e => rw [hf] at h; cases h
      | inr x =>
        obtain ⟨y, p1⟩ := x
        rw [hf] at h
        dsimp only at h
        obtain ⟨a, b⟩ := prS_ok hF _ _ _ hf
        obtain ⟨c, e⟩ := ih _ _ _ _ b h
        exact ⟨by omega, e⟩
theorem suS_ok {t : Nat → Int32} {n : Nat} {F : Nat → PR Den} (hF : Gd n F) : Gd n (suS t n F) := by
  intro p d p' h
  unfold suS at h
  cases hf : prS t n F p with
  | inl e => rw [hf] at h; cases h
  | inr x =>
    obtain ⟨y, p1⟩ := x
    rw [hf] at h
    dsimp only at h
    obtain ⟨a, b⟩ := prS_ok hF _ _ _ hf
    obtain ⟨c, e⟩ := smL_ok hF _ _ _ _ _ b h
    exact ⟨by omega, e⟩
theorem numL_ok {t : Nat → Int32} {n : Nat} : ∀ j p v v' p', p ≤ n → numL t n j p v = .inr (v', p') → p ≤ p' ∧ p' ≤ n ∧ (digC (chS t n p) = true → p < p') := by
  intro j
  induction j with
  | zero =>
    intro p v v' p' hp h
    unfold numL at h
    by_cases e : digC (chS t n p) = true
    · rw [if_pos e] at h; cases h
    · rw [if_neg e] at h; cases h; exact ⟨Nat.le_refl _, hp, fun x => absurd x e⟩
  | succ j ih =>
    intro p v v' p' hp h
    unfold numL at h
    by_cases e : digC (chS t n p) = true
    · rw [if_pos e] at h
      have := digC_lt e
      obtain ⟨a, b, _⟩ := ih _ _ _ _ (by omega) h
      exact ⟨by omega, b, fun _ => by omega⟩
    · rw [if_neg e] at h; cases h; exact ⟨Nat.le_refl _, hp, fun x => absurd x e⟩
theorem numL_lt {t : Nat → Int32} {n : Nat} : ∀ j p v v' p' k, v < 10 ^ k → numL t n j p v = .inr (v', p') → v' < 10 ^ (k + j) := by
  intro j
  induction j with
  | zero =>
    intro p v v' p' k hv h
    unfold numL at h
    split at h
    · cases h
    · cases h; exact hv
  | succ j ih =>
    intro p v v' p' k hv h
    unfold numL at h
    split at h
    · rename_i e
      have hd : ix_ (chS t n p - 48) ≤ 9 := by
        unfold digC at e
        obtain ⟨q, h1, h2, h3⟩ := inS_ab (a := 48) (b := 57) (by omega) (by omega) e
        rw [h3, show nI q - (48 : Int32) = nI (q - 48) from (show nI q - nI 48 = _ from pk_sub (by omega)), ixN (by omega)]
        omega
      have := ih _ _ _ _ (k + 1) (by rw [Nat.pow_succ]; omega) h
      rw [show k + (j + 1) = k + 1 + j by omega]
      exact this
    · cases h
      exact Nat.lt_of_lt_of_le hv (Nat.pow_le_pow_right (by omega) (by omega))
theorem facB_ok {t : Nat → Int32} {n : Nat} {S : Option (Nat → PR Den)} (hS : ∀ S', S = some S' → Gd n S') : Gd n (facB t n S) := by
  intro p d p' h
  unfold facB at h
  by_cases e1 : chS t n p = 91
  · rw [if_pos e1] at h
    cases S with
    | none => cases h
    | some S =>
      dsimp only at h
      cases hf : S (p + 1) with
      | inl e => rw [hf] at h; cases h
      | inr x =>
        obtain ⟨y, p1⟩ := x
        rw [hf] at h
        dsimp only at h
        obtain ⟨a, b⟩ := hS S rfl _ _ _ hf
        by_cases e2 : chS t n p1 = 93
        · rw [if_pos e2] at h
          cases h
          have := ch_lt e2 (by decide)
          exact ⟨by omega, by omega⟩
        · rw [if_neg e2] at h; cases h
  · rw [if_neg e1] at h
    by_cases e2 : digC (chS t n p) = true
    · rw [if_pos e2] at h
      cases hf : numL t n 5 p 0 with
      | inl e => rw [hf] at h; cases h
      | inr x =>
        obtain ⟨v, p1⟩ := x
        rw [hf] at h
        dsimp only at h
        cases h
        obtain ⟨_, b, c⟩ := numL_ok 5 p 0 v _ (by have := digC_lt e2; omega) hf
        exact ⟨c e2, b⟩
    · rw [if_neg e2] at h
      cases hf : facO (chS t n p) with
      | none => rw [hf] at h; cases h
      | some k =>
        rw [hf] at h
        cases h
        have := facO_lt hf
        exact ⟨by omega, by omega⟩
theorem facS_ok {t : Nat → Int32} {n : Nat} : ∀ r, Gd n (facS t n r) := by
  intro r
  induction r with
  | zero => exact facB_ok (S := none) (fun S' e => by cases e)
  | succ r ih => exact facB_ok (S := some (suS t n (facS t n r))) (fun S' e => by cases e; exact suS_ok ih)
theorem su_ok {t : Nat → Int32} {n r : Nat} : Gd n (suS t n (facS t n r)) := suS_ok (facS_ok r)
theorem coP_ok {t : Nat → Int32} {n r : Nat} : Gd n (coP t n r) := by
  intro p d p' h
  unfold coP at h
  cases hf : suS t n (facS t n r) p with
  | inl e => rw [hf] at h; cases h
  | inr x =>
    obtain ⟨y, p1⟩ := x
    rw [hf] at h
    dsimp only at h
    obtain ⟨a, b⟩ := su_ok _ _ _ hf
    cases hm : cmO (chS t n p1) with
    | none => rw [hm] at h; cases h
    | some q =>
      rw [hm] at h
      dsimp only at h
      cases hg : suS t n (facS t n r) (p1 + 1) with
      | inl e => rw [hg] at h; cases h
      | inr x =>
        obtain ⟨y2, p2⟩ := x
        rw [hg] at h
        dsimp only at h
        cases h
        obtain ⟨c, e⟩ := su_ok _ _ _ hg
        exact ⟨by omega, e⟩
theorem anL_ok {t : Nat → Int32} {n : Nat} {P : Nat → PR Den} (hP : Gd n P) : ∀ f d p d' p', p ≤ n → anL t n P f d p = .inr (d', p') → p ≤ p' ∧ p' ≤ n := by
  intro f
  induction f with
  | zero => intro d p d' p' hp h; cases h; exact ⟨Nat.le_refl _, hp⟩
  | succ f ih =>
    intro d p d' p' hp h
    unfold anL at h
    by_cases e : chS t n p = 38
    · rw [if_pos e] at h
      cases hf : P (p + 1) with
      | inl e => rw [hf] at h; cases h
      | inr x =>
        obtain ⟨y, p1⟩ := x
        rw [hf] at h
        dsimp only at h
        obtain ⟨a, b⟩ := hP _ _ _ hf
        obtain ⟨c, e⟩ := ih _ _ _ _ b h
        exact ⟨by omega, e⟩
    · rw [if_neg e] at h; cases h; exact ⟨Nat.le_refl _, hp⟩
theorem anS_ok {t : Nat → Int32} {n : Nat} {P : Nat → PR Den} (hP : Gd n P) : Gd n (anS t n P) := by
  intro p d p' h
  unfold anS at h
  cases hf : P p with
  | inl e => rw [hf] at h; cases h
  | inr x =>
    obtain ⟨y, p1⟩ := x
    rw [hf] at h
    dsimp only at h
    obtain ⟨a, b⟩ := hP _ _ _ hf
    obtain ⟨c, e⟩ := anL_ok hP _ _ _ _ _ b h
    exact ⟨by omega, e⟩
theorem orL_ok {t : Nat → Int32} {n : Nat} {P : Nat → PR Den} (hP : Gd n P) : ∀ f d p d' p', p ≤ n → orL t n P f d p = .inr (d', p') → p ≤ p' ∧ p' ≤ n := by
  intro f
  induction f with
  | zero => intro d p d' p' hp h; cases h; exact ⟨Nat.le_refl _, hp⟩
  | succ f ih =>
    intro d p d' p' hp h
    unfold orL at h
    by_cases e : chS t n p = 124
    · rw [if_pos e] at h
      cases hf : anS t n P (p + 1) with
      | inl e => rw [hf] at h; cases h
      | inr x =>
        obtain ⟨y, p1⟩ := x
        rw [hf] at h
        dsimp only at h
        obtain ⟨a, b⟩ := anS_ok hP _ _ _ hf
        obtain ⟨c, e⟩ := ih _ _ _ _ b h
        exact ⟨by omega, e⟩
    · rw [if_neg e] at h; cases h; exact ⟨Nat.le_refl _, hp⟩
theorem orS_ok {t : Nat → Int32} {n : Nat} {P : Nat → PR Den} (hP : Gd n P) : Gd n (orS t n P) := by
  intro p d p' h
  unfold orS at h
  cases hf : anS t n P p with
  | inl e => rw [hf] at h; cases h
  | inr x =>
    obtain ⟨y, p1⟩ := x
    rw [hf] at h
    dsimp only at h
    obtain ⟨a, b⟩ := anS_ok hP _ _ _ hf
    obtain ⟨c, e⟩ := orL_ok hP _ _ _ _ _ b h
    exact ⟨by omega, e⟩
theorem grB_ok {t : Nat → Int32} {n : Nat} {P : Option (Nat → PR Den)} (hP : ∀ P', P = some P' → Gd n P') : Gd n (grB t n P) := by
  intro p d p' h
  cases P with
  | none => cases h
  | some P =>
    unfold grB at h
    dsimp only at h
    cases hf : orS t n P (p + 1) with
    | inl e => rw [hf] at h; cases h
    | inr x =>
      obtain ⟨y, p1⟩ := x
      rw [hf] at h
      dsimp only at h
      obtain ⟨a, b⟩ := orS_ok (hP P rfl) _ _ _ hf
      by_cases e2 : chS t n p1 = 41
      · rw [if_pos e2] at h
        cases h
        have := ch_lt e2 (by decide)
        exact ⟨by omega, by omega⟩
      · rw [if_neg e2] at h; cases h
theorem pcB_ok {t : Nat → Int32} {n r : Nat} {P : Option (Nat → PR Den)} (hP : ∀ P', P = some P' → Gd n P') : Gd n (pcB t n r P) := by
  intro p d p' h
  unfold pcB at h
  by_cases e1 : chS t n p = 33
  · rw [if_pos e1] at h
    cases P with
    | none => cases h
    | some P =>
      unfold ngB at h
      dsimp only at h
      cases hf : P (p + 1) with
      | inl e => rw [hf] at h; cases h
      | inr x =>
        obtain ⟨y, p1⟩ := x
        rw [hf] at h
        dsimp only at h
        cases h
        obtain ⟨a, b⟩ := hP P rfl _ _ _ hf
        exact ⟨by omega, b⟩
  · rw [if_neg e1] at h
    by_cases e2 : chS t n p = 40
    · rw [if_pos e2] at h; exact grB_ok hP _ _ _ h
    · rw [if_neg e2] at h; exact coP_ok _ _ _ h
theorem pcS_ok {t : Nat → Int32} {n : Nat} : ∀ r, Gd n (pcS t n r) := by
  intro r
  induction r with
  | zero => exact pcB_ok (P := none) (fun P' e => by cases e)
  | succ r ih => exact pcB_ok (P := some (pcS t n r)) (fun P' e => by cases e; exact ih)
