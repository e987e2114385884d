/-! STAGE 2. plain Lean: the flat memory's reads and writes; layouts; loops that count -/
set_option maxRecDepth 100000
theorem mgI_sI {M : MM} {a k b j : Nat} {v : Int32} : mgI (msI M a k v) b j = if b = a ∧ j = k then v else mgI M b j := rfl
theorem mgI_sL {M : MM} {a k b j : Nat} {v : Int64} : mgI (msL M a k v) b j = mgI M b j := rfl
theorem mgL_sI {M : MM} {a k b j : Nat} {v : Int32} : mgL (msI M a k v) b j = mgL M b j := rfl
theorem mgL_sL {M : MM} {a k b j : Nat} {v : Int64} : mgL (msL M a k v) b j = if b = a ∧ j = k then v else mgL M b j := rfl
theorem mgR_sI {M : MM} {a k b j : Nat} {v : Int32} : mgR (msI M a k v) b j = mgR M b j := rfl
theorem mgR_sL {M : MM} {a k b j : Nat} {v : Int64} : mgR (msL M a k v) b j = mgR M b j := rfl
theorem mkd_sI {M : MM} {a k b : Nat} {v : Int32} : mkd (msI M a k v) b = mkd M b := rfl
theorem mkd_sL {M : MM} {a k b : Nat} {v : Int64} : mkd (msL M a k v) b = mkd M b := rfl
theorem mln_sI {M : MM} {a k b : Nat} {v : Int32} : mln (msI M a k v) b = mln M b := rfl
theorem mln_sL {M : MM} {a k b : Nat} {v : Int64} : mln (msL M a k v) b = mln M b := rfl
theorem m2_sI {M : MM} {a k : Nat} {v : Int32} : (msI M a k v).2 = M.2 := rfl
theorem m22_sL {M : MM} {a k : Nat} {v : Int64} : (msL M a k v).2.2 = M.2.2 := rfl
/-- only ints at P change -/
def fI (P : Nat → Nat → Prop) (M M' : MM) : Prop := M'.2 = M.2 ∧ ∀ a k, ¬ P a k → mgI M' a k = mgI M a k
theorem fI.rf {P : Nat → Nat → Prop} {M : MM} : fI P M M := ⟨rfl, fun _ _ _ => rfl⟩
theorem fI.tr {P : Nat → Nat → Prop} {M M1 M2 : MM} (h : fI P M M1) (g : fI P M1 M2) : fI P M M2 := ⟨g.1.trans h.1, fun a k hp => (g.2 a k hp).trans (h.2 a k hp)⟩
theorem fI.mono {P Q : Nat → Nat → Prop} {M M1 : MM} (h : fI P M M1) (hs : ∀ a k, P a k → Q a k) : fI Q M M1 := ⟨h.1, fun a k hq => h.2 a k (fun hp => hq (hs a k hp))⟩
theorem fI.s {P : Nat → Nat → Prop} {M M1 : MM} {a k : Nat} {v : Int32} (h : fI P M M1) (hp : P a k) : fI P M (msI M1 a k v) := ⟨h.1, fun b j hb => by
  rw [mgI_sI, if_neg (fun e => hb (by rw [e.1, e.2]; exact hp))]; exact h.2 b j hb⟩
theorem fI.at' {P : Nat → Nat → Prop} {M M1 : MM} (h : fI P M M1) {a k : Nat} (hp : ¬ P a k) : mgI M1 a k = mgI M a k := h.2 a k hp
theorem fI.L {P : Nat → Nat → Prop} {M M1 : MM} (h : fI P M M1) (a k : Nat) : mgL M1 a k = mgL M a k := by unfold mgL; rw [h.1]
theorem fI.R {P : Nat → Nat → Prop} {M M1 : MM} (h : fI P M M1) (a k : Nat) : mgR M1 a k = mgR M a k := by unfold mgR; rw [h.1]
theorem fI.e {P : Nat → Nat → Prop} {M M1 : MM} (h : fI P M M1) : M1.2.2 = M.2.2 := by rw [h.1]
theorem m22_sI {M : MM} {a k : Nat} {v : Int32} : (msI M a k v).2.2 = M.2.2 := rfl
theorem ixN {n : Nat} (h : n < 2147483648) : ix_ (nI n) = n := nI_clamp h
theorem vpN {n N : Nat} (h : n < N) (hN : N < 2147483648) : vp_in (nI n) N = True := eq_true (vp_in_nI h hN)
theorem natF {a b : Nat} (h : a < b ∨ b < a) : (a = b) = False := eq_false (by omega)
theorem ia0 {l : Nat} : (0 : Int32) + nI l = nI l := by have := nI_add 0 l; rw [Nat.zero_add] at this; exact this
theorem ia4 {l : Nat} : (4 : Int32) + nI l = nI (4 + l) := nI_add 4 l
theorem ia8 {l : Nat} : (8 : Int32) + nI l = nI (8 + l) := nI_add 8 l
theorem ia12 {l : Nat} : (12 : Int32) + nI l = nI (12 + l) := nI_add 12 l
theorem ia16 {l : Nat} : (16 : Int32) + nI l = nI (16 + l) := nI_add 16 l
theorem ia20 {l : Nat} : (20 : Int32) + nI l = nI (20 + l) := nI_add 20 l
theorem ia24 {l : Nat} : (24 : Int32) + nI l = nI (24 + l) := nI_add 24 l
theorem ia52 {l : Nat} : (52 : Int32) + nI l = nI (52 + l) := nI_add 52 l
theorem ia60 {l : Nat} : (60 : Int32) + nI l = nI (60 + l) := nI_add 60 l
theorem ia68 {l : Nat} : (68 : Int32) + nI l = nI (68 + l) := nI_add 68 l
theorem im7 {l : Nat} : (7 : Int32) * nI l = nI (7 * l) := pk_mul 7 l
theorem im14 {l : Nat} : (14 : Int32) * nI l = nI (14 * l) := pk_mul 14 l
theorem ap6 {l : Nat} : nI l + (6 : Int32) = nI (l + 6) := nI_add l 6
theorem iaN {l m : Nat} : nI l + nI m = nI (l + m) := nI_add l m
theorem ap1 {l : Nat} : nI l + (1 : Int32) = nI (l + 1) := nI_add l 1
theorem am1 {l : Nat} : nI (l + 1) + (-1 : Int32) = nI l := pk_m1 l
/-- a loop that counts from i to N, by its fuel -/
theorem cl_ {α : Type} (W : Nat → α → Nat → Prop) (Inv : Nat → α → Prop) (N : Nat) (step : ∀ n i s, i < N → Inv i s → (∀ s', Inv (i + 1) s' → W n s' (i + 1)) → W (n + 1) s i) (done : ∀ n s, Inv N s → W (n + 1) s N) (s : α) (i : Nat) (hi : i ≤ N) (h : Inv i s) : ∃ n, W n s i := by
  have key : ∀ j i s, i + j = N → Inv i s → W (j + 1) s i := by
    intro j
    induction j with
    | zero => intro i s e hI; rw [Nat.add_zero] at e; subst e; exact done 0 s hI
    | succ j ih => intro i s e hI; exact step (j + 1) i s (by omega) hI (fun s' hs' => ih (i + 1) s' (by omega) hs')
  exact ⟨N - i + 1, key (N - i) i s (by omega) h⟩
/-- a loop that counts down to 0 -/
theorem cd_ {α : Type} (W : Nat → α → Nat → Prop) (Inv : Nat → α → Prop) (step : ∀ n i s, Inv (i + 1) s → (∀ s', Inv i s' → W n s' i) → W (n + 1) s (i + 1)) (done : ∀ n s, Inv 0 s → W (n + 1) s 0) (s : α) (i : Nat) (h : Inv i s) : ∃ n, W n s i := by
  have key : ∀ i s, Inv i s → W (i + 1) s i := by
    intro i
    induction i with
    | zero => intro s hI; exact done 0 s hI
    | succ i ih => intro s hI; exact step (i + 1) i s hI (fun s' hs' => ih s' hs')
  exact ⟨i + 1, key i s h⟩
/-! the model's layout: o is the model, o + 1 .. o + 32 its arrays -/
def ML (o : Nat) (M : MM) : Prop :=
  mgR M o 0 = some (o + 1) ∧
  mkd M (o + 1) = 100 ∧
  mln M (o + 1) = 81 ∧
  mgR M o 1 = some (o + 2) ∧
  mkd M (o + 2) = 100 ∧
  mln M (o + 2) = 81 ∧
  mgR M o 2 = some (o + 3) ∧
  mkd M (o + 3) = 100 ∧
  mln M (o + 3) = 81 ∧
  mgR M o 3 = some (o + 4) ∧
  mkd M (o + 4) = 102 ∧
  mln M (o + 4) = 220 ∧
  mgR M o 13 = some (o + 5) ∧
  mkd M (o + 5) = 100 ∧
  mln M (o + 5) = 220 ∧
  mgR M o 14 = some (o + 6) ∧
  mkd M (o + 6) = 100 ∧
  mln M (o + 6) = 220 ∧
  mgR M o 15 = some (o + 7) ∧
  mkd M (o + 7) = 100 ∧
  mln M (o + 7) = 14 ∧
  mgR M o 16 = some (o + 8) ∧
  mkd M (o + 8) = 100 ∧
  mln M (o + 8) = 14 ∧
  mgR M o 17 = some (o + 9) ∧
  mkd M (o + 9) = 100 ∧
  mln M (o + 9) = 14 ∧
  mgR M o 18 = some (o + 10) ∧
  mkd M (o + 10) = 100 ∧
  mln M (o + 10) = 14 ∧
  mgR M o 19 = some (o + 11) ∧
  mkd M (o + 11) = 100 ∧
  mln M (o + 11) = 1100 ∧
  mgR M o 20 = some (o + 12) ∧
  mkd M (o + 12) = 100 ∧
  mln M (o + 12) = 5 ∧
  mgR M o 21 = some (o + 13) ∧
  mkd M (o + 13) = 100 ∧
  mln M (o + 13) = 70 ∧
  mgR M o 22 = some (o + 14) ∧
  mkd M (o + 14) = 100 ∧
  mln M (o + 14) = 70 ∧
  mgR M o 23 = some (o + 15) ∧
  mkd M (o + 15) = 100 ∧
  mln M (o + 15) = 70 ∧
  mgR M o 24 = some (o + 16) ∧
  mkd M (o + 16) = 100 ∧
  mln M (o + 16) = 70 ∧
  mgR M o 25 = some (o + 17) ∧
  mkd M (o + 17) = 100 ∧
  mln M (o + 17) = 220 ∧
  mgR M o 26 = some (o + 18) ∧
  mkd M (o + 18) = 100 ∧
  mln M (o + 18) = 13 ∧
  mgR M o 30 = some (o + 19) ∧
  mkd M (o + 19) = 100 ∧
  mln M (o + 19) = 8 ∧
  mgR M o 35 = some (o + 20) ∧
  mkd M (o + 20) = 100 ∧
  mln M (o + 20) = 8 ∧
  mgR M o 36 = some (o + 21) ∧
  mkd M (o + 21) = 100 ∧
  mln M (o + 21) = 8 ∧
  mgR M o 37 = some (o + 22) ∧
  mkd M (o + 22) = 101 ∧
  mln M (o + 22) = 500 ∧
  mgR M o 38 = some (o + 23) ∧
  mkd M (o + 23) = 101 ∧
  mln M (o + 23) = 500 ∧
  mgR M o 40 = some (o + 24) ∧
  mkd M (o + 24) = 101 ∧
  mln M (o + 24) = 25 ∧
  mgR M o 41 = some (o + 25) ∧
  mkd M (o + 25) = 101 ∧
  mln M (o + 25) = 25 ∧
  mgR M o 42 = some (o + 26) ∧
  mkd M (o + 26) = 100 ∧
  mln M (o + 26) = 100 ∧
  mgR M o 43 = some (o + 27) ∧
  mkd M (o + 27) = 100 ∧
  mln M (o + 27) = 4 ∧
  mgR M o 44 = some (o + 28) ∧
  mkd M (o + 28) = 100 ∧
  mln M (o + 28) = 4 ∧
  mgR M o 45 = some (o + 29) ∧
  mkd M (o + 29) = 101 ∧
  mln M (o + 29) = 13 ∧
  mgR M o 48 = some (o + 30) ∧
  mkd M (o + 30) = 100 ∧
  mln M (o + 30) = 84 ∧
  mgR M o 51 = some (o + 31) ∧
  mkd M (o + 31) = 100 ∧
  mln M (o + 31) = 6 ∧
  mgR M o 52 = some (o + 32) ∧
  mkd M (o + 32) = 100 ∧
  mln M (o + 32) = 6
theorem ML_r0 {o : Nat} {M : MM} (h : ML o M) : mgR M o 0 = some (o + 1) := h.1
theorem ML_k1 {o : Nat} {M : MM} (h : ML o M) : mkd M (o + 1) = 100 := h.2.1
theorem ML_l1 {o : Nat} {M : MM} (h : ML o M) : mln M (o + 1) = 81 := h.2.2.1
theorem ML_r1 {o : Nat} {M : MM} (h : ML o M) : mgR M o 1 = some (o + 2) := h.2.2.2.1
theorem ML_k2 {o : Nat} {M : MM} (h : ML o M) : mkd M (o + 2) = 100 := h.2.2.2.2.1
theorem ML_l2 {o : Nat} {M : MM} (h : ML o M) : mln M (o + 2) = 81 := h.2.2.2.2.2.1
theorem ML_r2 {o : Nat} {M : MM} (h : ML o M) : mgR M o 2 = some (o + 3) := h.2.2.2.2.2.2.1
theorem ML_k3 {o : Nat} {M : MM} (h : ML o M) : mkd M (o + 3) = 100 := h.2.2.2.2.2.2.2.1
theorem ML_l3 {o : Nat} {M : MM} (h : ML o M) : mln M (o + 3) = 81 := h.2.2.2.2.2.2.2.2.1
theorem ML_r3 {o : Nat} {M : MM} (h : ML o M) : mgR M o 3 = some (o + 4) := h.2.2.2.2.2.2.2.2.2.1
theorem ML_k4 {o : Nat} {M : MM} (h : ML o M) : mkd M (o + 4) = 102 := h.2.2.2.2.2.2.2.2.2.2.1
theorem ML_l4 {o : Nat} {M : MM} (h : ML o M) : mln M (o + 4) = 220 := h.2.2.2.2.2.2.2.2.2.2.2.1
theorem ML_r13 {o : Nat} {M : MM} (h : ML o M) : mgR M o 13 = some (o + 5) := h.2.2.2.2.2.2.2.2.2.2.2.2.1
theorem ML_k5 {o : Nat} {M : MM} (h : ML o M) : mkd M (o + 5) = 100 := h.2.2.2.2.2.2.2.2.2.2.2.2.2.1
theorem ML_l5 {o : Nat} {M : MM} (h : ML o M) : mln M (o + 5) = 220 := h.2.2.2.2.2.2.2.2.2.2.2.2.2.2.1
theorem ML_r14 {o : Nat} {M : MM} (h : ML o M) : mgR M o 14 = some (o + 6) := h.2.2.2.2.2.2.2.2.2.2.2.2.2.2.2.1
theorem ML_k6 {o : Nat} {M : MM} (h : ML o M) : mkd M (o + 6) = 100 := h.2.2.2.2.2.2.2.2.2.2.2.2.2.2.2.2.1
theorem ML_l6 {o : Nat} {M : MM} (h : ML o M) : mln M (o + 6) = 220 := h.2.2.2.2.2.2.2.2.2.2.2.2.2.2.2.2.2.1
theorem ML_r15 {o : Nat} {M : MM} (h : ML o M) : mgR M o 15 = some (o + 7) := h.2.2.2.2.2.2.2.2.2.2.2.2.2.2.2.2.2.2.1
theorem ML_k7 {o : Nat} {M : MM} (h : ML o M) : mkd M (o + 7) = 100 := h.2.2.2.2.2.2.2.2.2.2.2.2.2.2.2.2.2.2.2.1
theorem ML_l7 {o : Nat} {M : MM} (h : ML o M) : mln M (o + 7) = 14 := h.2.2.2.2.2.2.2.2.2.2.2.2.2.2.2.2.2.2.2.2.1
theorem ML_r16 {o : Nat} {M : MM} (h : ML o M) : mgR M o 16 = some (o + 8) := h.2.2.2.2.2.2.2.2.2.2.2.2.2.2.2.2.2.2.2.2.2.1
theorem ML_k8 {o : Nat} {M : MM} (h : ML o M) : mkd M (o + 8) = 100 := h.2.2.2.2.2.2.2.2.2.2.2.2.2.2.2.2.2.2.2.2.2.2.1
theorem ML_l8 {o : Nat} {M : MM} (h : ML o M) : mln M (o + 8) = 14 := h.2.2.2.2.2.2.2.2.2.2.2.2.2.2.2.2.2.2.2.2.2.2.2.1
theorem ML_r17 {o : Nat} {M : MM} (h : ML o M) : mgR M o 17 = some (o + 9) := h.2.2.2.2.2.2.2.2.2.2.2.2.2.2.2.2.2.2.2.2.2.2.2.2.1
theorem ML_k9 {o : Nat} {M : MM} (h : ML o M) : mkd M (o + 9) = 100 := h.2.2.2.2.2.2.2.2.2.2.2.2.2.2.2.2.2.2.2.2.2.2.2.2.2.1
theorem ML_l9 {o : Nat} {M : MM} (h : ML o M) : mln M (o + 9) = 14 := h.2.2.2.2.2.2.2.2.2.2.2.2.2.2.2.2.2.2.2.2.2.2.2.2.2.2.1
theorem ML_r18 {o : Nat} {M : MM} (h : ML o M) : mgR M o 18 = some (o + 10) := h.2.2.2.2.2.2.2.2.2.2.2.2.2.2.2.2.2.2.2.2.2.2.2.2.2.2.2.1
theorem ML_k10 {o : Nat} {M : MM} (h : ML o M) : mkd M (o + 10) = 100 := h.2.2.2.2.2.2.2.2.2.2.2.2.2.2.2.2.2.2.2.2.2.2.2.2.2.2.2.2.1
theorem ML_l10 {o : Nat} {M : MM} (h : ML o M) : mln M (o + 10) = 14 := h.2.2.2.2.2.2.2.2.2.2.2.2.2.2.2.2.2.2.2.2.2.2.2.2.2.2.2.2.2.1
theorem ML_r19 {o : Nat} {M : MM} (h : ML o M) : mgR M o 19 = some (o + 11) := h.2.2.2.2.2.2.2.2.2.2.2.2.2.2.2.2.2.2.2.2.2.2.2.2.2.2.2.2.2.2.1
theorem ML_k11 {o : Nat} {M : MM} (h : ML o M) : mkd M (o + 11) = 100 := h.2.2.2.2.2.2.2.2.2.2.2.2.2.2.2.2.2.2.2.2.2.2.2.2.2.2.2.2.2.2.2.1
theorem ML_l11 {o : Nat} {M : MM} (h : ML o M) : mln M (o + 11) = 1100 := h.2.2.2.2.2.2.2.2.2.2.2.2.2.2.2.2.2.2.2.2.2.2.2.2.2.2.2.2.2.2.2.2.1
theorem ML_r20 {o : Nat} {M : MM} (h : ML o M) : mgR M o 20 = some (o + 12) := h.2.2.2.2.2.2.2.2.2.2.2.2.2.2.2.2.2.2.2.2.2.2.2.2.2.2.2.2.2.2.2.2.2.1
theorem ML_k12 {o : Nat} {M : MM} (h : ML o M) : mkd M (o + 12) = 100 := h.2.2.2.2.2.2.2.2.2.2.2.2.2.2.2.2.2.2.2.2.2.2.2.2.2.2.2.2.2.2.2.2.2.2.1
theorem ML_l12 {o : Nat} {M : MM} (h : ML o M) : mln M (o + 12) = 5 := h.2.2.2.2.2.2.2.2.2.2.2.2.2.2.2.2.2.2.2.2.2.2.2.2.2.2.2.2.2.2.2.2.2.2.2.1
theorem ML_r21 {o : Nat} {M : MM} (h : ML o M) : mgR M o 21 = some (o + 13) := h.2.2.2.2.2.2.2.2.2.2.2.2.2.2.2.2.2.2.2.2.2.2.2.2.2.2.2.2.2.2.2.2.2.2.2.2.1
theorem ML_k13 {o : Nat} {M : MM} (h : ML o M) : mkd M (o + 13) = 100 := h.2.2.2.2.2.2.2.2.2.2.2.2.2.2.2.2.2.2.2.2.2.2.2.2.2.2.2.2.2.2.2.2.2.2.2.2.2.1
theorem ML_l13 {o : Nat} {M : MM} (h : ML o M) : mln M (o + 13) = 70 := h.2.2.2.2.2.2.2.2.2.2.2.2.2.2.2.2.2.2.2.2.2.2.2.2.2.2.2.2.2.2.2.2.2.2.2.2.2.2.1
theorem ML_r22 {o : Nat} {M : MM} (h : ML o M) : mgR M o 22 = some (o + 14) := h.2.2.2.2.2.2.2.2.2.2.2.2.2.2.2.2.2.2.2.2.2.2.2.2.2.2.2.2.2.2.2.2.2.2.2.2.2.2.2.1
theorem ML_k14 {o : Nat} {M : MM} (h : ML o M) : mkd M (o + 14) = 100 := h.2.2.2.2.2.2.2.2.2.2.2.2.2.2.2.2.2.2.2.2.2.2.2.2.2.2.2.2.2.2.2.2.2.2.2.2.2.2.2.2.1
theorem ML_l14 {o : Nat} {M : MM} (h : ML o M) : mln M (o + 14) = 70 := h.2.2.2.2.2.2.2.2.2.2.2.2.2.2.2.2.2.2.2.2.2.2.2.2.2.2.2.2.2.2.2.2.2.2.2.2.2.2.2.2.2.1
theorem ML_r23 {o : Nat} {M : MM} (h : ML o M) : mgR M o 23 = some (o + 15) := h.2.2.2.2.2.2.2.2.2.2.2.2.2.2.2.2.2.2.2.2.2.2.2.2.2.2.2.2.2.2.2.2.2.2.2.2.2.2.2.2.2.2.1
theorem ML_k15 {o : Nat} {M : MM} (h : ML o M) : mkd M (o + 15) = 100 := h.2.2.2.2.2.2.2.2.2.2.2.2.2.2.2.2.2.2.2.2.2.2.2.2.2.2.2.2.2.2.2.2.2.2.2.2.2.2.2.2.2.2.2.1
theorem ML_l15 {o : Nat} {M : MM} (h : ML o M) : mln M (o + 15) = 70 := h.2.2.2.2.2.2.2.2.2.2.2.2.2.2.2.2.2.2.2.2.2.2.2.2.2.2.2.2.2.2.2.2.2.2.2.2.2.2.2.2.2.2.2.2.1
theorem ML_r24 {o : Nat} {M : MM} (h : ML o M) : mgR M o 24 = some (o + 16) := h.2.2.2.2.2.2.2.2.2.2.2.2.2.2.2.2.2.2.2.2.2.2.2.2.2.2.2.2.2.2.2.2.2.2.2.2.2.2.2.2.2.2.2.2.2.1
theorem ML_k16 {o : Nat} {M : MM} (h : ML o M) : mkd M (o + 16) = 100 := h.2.2.2.2.2.2.2.2.2.2.2.2.2.2.2.2.2.2.2.2.2.2.2.2.2.2.2.2.2.2.2.2.2.2.2.2.2.2.2.2.2.2.2.2.2.2.1
theorem ML_l16 {o : Nat} {M : MM} (h : ML o M) : mln M (o + 16) = 70 := h.2.2.2.2.2.2.2.2.2.2.2.2.2.2.2.2.2.2.2.2.2.2.2.2.2.2.2.2.2.2.2.2.2.2.2.2.2.2.2.2.2.2.2.2.2.2.2.1
theorem ML_r25 {o : Nat} {M : MM} (h : ML o M) : mgR M o 25 = some (o + 17) := h.2.2.2.2.2.2.2.2.2.2.2.2.2.2.2.2.2.2.2.2.2.2.2.2.2.2.2.2.2.2.2.2.2.2.2.2.2.2.2.2.2.2.2.2.2.2.2.2.1
theorem ML_k17 {o : Nat} {M : MM} (h : ML o M) : mkd M (o + 17) = 100 := h.2.2.2.2.2.2.2.2.2.2.2.2.2.2.2.2.2.2.2.2.2.2.2.2.2.2.2.2.2.2.2.2.2.2.2.2.2.2.2.2.2.2.2.2.2.2.2.2.2.1
theorem ML_l17 {o : Nat} {M : MM} (h : ML o M) : mln M (o + 17) = 220 := h.2.2.2.2.2.2.2.2.2.2.2.2.2.2.2.2.2.2.2.2.2.2.2.2.2.2.2.2.2.2.2.2.2.2.2.2.2.2.2.2.2.2.2.2.2.2.2.2.2.2.1
theorem ML_r26 {o : Nat} {M : MM} (h : ML o M) : mgR M o 26 = some (o + 18) := h.2.2.2.2.2.2.2.2.2.2.2.2.2.2.2.2.2.2.2.2.2.2.2.2.2.2.2.2.2.2.2.2.2.2.2.2.2.2.2.2.2.2.2.2.2.2.2.2.2.2.2.1
theorem ML_k18 {o : Nat} {M : MM} (h : ML o M) : mkd M (o + 18) = 100 := h.2.2.2.2.2.2.2.2.2.2.2.2.2.2.2.2.2.2.2.2.2.2.2.2.2.2.2.2.2.2.2.2.2.2.2.2.2.2.2.2.2.2.2.2.2.2.2.2.2.2.2.2.1
theorem ML_l18 {o : Nat} {M : MM} (h : ML o M) : mln M (o + 18) = 13 := h.2.2.2.2.2.2.2.2.2.2.2.2.2.2.2.2.2.2.2.2.2.2.2.2.2.2.2.2.2.2.2.2.2.2.2.2.2.2.2.2.2.2.2.2.2.2.2.2.2.2.2.2.2.1
theorem ML_r30 {o : Nat} {M : MM} (h : ML o M) : mgR M o 30 = some (o + 19) := h.2.2.2.2.2.2.2.2.2.2.2.2.2.2.2.2.2.2.2.2.2.2.2.2.2.2.2.2.2.2.2.2.2.2.2.2.2.2.2.2.2.2.2.2.2.2.2.2.2.2.2.2.2.2.1
theorem ML_k19 {o : Nat} {M : MM} (h : ML o M) : mkd M (o + 19) = 100 := h.2.2.2.2.2.2.2.2.2.2.2.2.2.2.2.2.2.2.2.2.2.2.2.2.2.2.2.2.2.2.2.2.2.2.2.2.2.2.2.2.2.2.2.2.2.2.2.2.2.2.2.2.2.2.2.1
theorem ML_l19 {o : Nat} {M : MM} (h : ML o M) : mln M (o + 19) = 8 := h.2.2.2.2.2.2.2.2.2.2.2.2.2.2.2.2.2.2.2.2.2.2.2.2.2.2.2.2.2.2.2.2.2.2.2.2.2.2.2.2.2.2.2.2.2.2.2.2.2.2.2.2.2.2.2.2.1
theorem ML_r35 {o : Nat} {M : MM} (h : ML o M) : mgR M o 35 = some (o + 20) := h.2.2.2.2.2.2.2.2.2.2.2.2.2.2.2.2.2.2.2.2.2.2.2.2.2.2.2.2.2.2.2.2.2.2.2.2.2.2.2.2.2.2.2.2.2.2.2.2.2.2.2.2.2.2.2.2.2.1
theorem ML_k20 {o : Nat} {M : MM} (h : ML o M) : mkd M (o + 20) = 100 := h.2.2.2.2.2.2.2.2.2.2.2.2.2.2.2.2.2.2.2.2.2.2.2.2.2.2.2.2.2.2.2.2.2.2.2.2.2.2.2.2.2.2.2.2.2.2.2.2.2.2.2.2.2.2.2.2.2.2.1
theorem ML_l20 {o : Nat} {M : MM} (h : ML o M) : mln M (o + 20) = 8 := h.2.2.2.2.2.2.2.2.2.2.2.2.2.2.2.2.2.2.2.2.2.2.2.2.2.2.2.2.2.2.2.2.2.2.2.2.2.2.2.2.2.2.2.2.2.2.2.2.2.2.2.2.2.2.2.2.2.2.2.1
theorem ML_r36 {o : Nat} {M : MM} (h : ML o M) : mgR M o 36 = some (o + 21) := h.2.2.2.2.2.2.2.2.2.2.2.2.2.2.2.2.2.2.2.2.2.2.2.2.2.2.2.2.2.2.2.2.2.2.2.2.2.2.2.2.2.2.2.2.2.2.2.2.2.2.2.2.2.2.2.2.2.2.2.2.1
theorem ML_k21 {o : Nat} {M : MM} (h : ML o M) : mkd M (o + 21) = 100 := h.2.2.2.2.2.2.2.2.2.2.2.2.2.2.2.2.2.2.2.2.2.2.2.2.2.2.2.2.2.2.2.2.2.2.2.2.2.2.2.2.2.2.2.2.2.2.2.2.2.2.2.2.2.2.2.2.2.2.2.2.2.1
theorem ML_l21 {o : Nat} {M : MM} (h : ML o M) : mln M (o + 21) = 8 := h.2.2.2.2.2.2.2.2.2.2.2.2.2.2.2.2.2.2.2.2.2.2.2.2.2.2.2.2.2.2.2.2.2.2.2.2.2.2.2.2.2.2.2.2.2.2.2.2.2.2.2.2.2.2.2.2.2.2.2.2.2.2.1
theorem ML_r37 {o : Nat} {M : MM} (h : ML o M) : mgR M o 37 = some (o + 22) := h.2.2.2.2.2.2.2.2.2.2.2.2.2.2.2.2.2.2.2.2.2.2.2.2.2.2.2.2.2.2.2.2.2.2.2.2.2.2.2.2.2.2.2.2.2.2.2.2.2.2.2.2.2.2.2.2.2.2.2.2.2.2.2.1
theorem ML_k22 {o : Nat} {M : MM} (h : ML o M) : mkd M (o + 22) = 101 := h.2.2.2.2.2.2.2.2.2.2.2.2.2.2.2.2.2.2.2.2.2.2.2.2.2.2.2.2.2.2.2.2.2.2.2.2.2.2.2.2.2.2.2.2.2.2.2.2.2.2.2.2.2.2.2.2.2.2.2.2.2.2.2.2.1
theorem ML_l22 {o : Nat} {M : MM} (h : ML o M) : mln M (o + 22) = 500 := h.2.2.2.2.2.2.2.2.2.2.2.2.2.2.2.2.2.2.2.2.2.2.2.2.2.2.2.2.2.2.2.2.2.2.2.2.2.2.2.2.2.2.2.2.2.2.2.2.2.2.2.2.2.2.2.2.2.2.2.2.2.2.2.2.2.1
theorem ML_r38 {o : Nat} {M : MM} (h : ML o M) : mgR M o 38 = some (o + 23) := h.2.2.2.2.2.2.2.2.2.2.2.2.2.2.2.2.2.2.2.2.2.2.2.2.2.2.2.2.2.2.2.2.2.2.2.2.2.2.2.2.2.2.2.2.2.2.2.2.2.2.2.2.2.2.2.2.2.2.2.2.2.2.2.2.2.2.1
theorem ML_k23 {o : Nat} {M : MM} (h : ML o M) : mkd M (o + 23) = 101 := h.2.2.2.2.2.2.2.2.2.2.2.2.2.2.2.2.2.2.2.2.2.2.2.2.2.2.2.2.2.2.2.2.2.2.2.2.2.2.2.2.2.2.2.2.2.2.2.2.2.2.2.2.2.2.2.2.2.2.2.2.2.2.2.2.2.2.2.1
theorem ML_l23 {o : Nat} {M : MM} (h : ML o M) : mln M (o + 23) = 500 := h.2.2.2.2.2.2.2.2.2.2.2.2.2.2.2.2.2.2.2.2.2.2.2.2.2.2.2.2.2.2.2.2.2.2.2.2.2.2.2.2.2.2.2.2.2.2.2.2.2.2.2.2.2.2.2.2.2.2.2.2.2.2.2.2.2.2.2.2.1
theorem ML_r40 {o : Nat} {M : MM} (h : ML o M) : mgR M o 40 = some (o + 24) := h.2.2.2.2.2.2.2.2.2.2.2.2.2.2.2.2.2.2.2.2.2.2.2.2.2.2.2.2.2.2.2.2.2.2.2.2.2.2.2.2.2.2.2.2.2.2.2.2.2.2.2.2.2.2.2.2.2.2.2.2.2.2.2.2.2.2.2.2.2.1
theorem ML_k24 {o : Nat} {M : MM} (h : ML o M) : mkd M (o + 24) = 101 := h.2.2.2.2.2.2.2.2.2.2.2.2.2.2.2.2.2.2.2.2.2.2.2.2.2.2.2.2.2.2.2.2.2.2.2.2.2.2.2.2.2.2.2.2.2.2.2.2.2.2.2.2.2.2.2.2.2.2.2.2.2.2.2.2.2.2.2.2.2.2.1
theorem ML_l24 {o : Nat} {M : MM} (h : ML o M) : mln M (o + 24) = 25 := h.2.2.2.2.2.2.2.2.2.2.2.2.2.2.2.2.2.2.2.2.2.2.2.2.2.2.2.2.2.2.2.2.2.2.2.2.2.2.2.2.2.2.2.2.2.2.2.2.2.2.2.2.2.2.2.2.2.2.2.2.2.2.2.2.2.2.2.2.2.2.2.1
theorem ML_r41 {o : Nat} {M : MM} (h : ML o M) : mgR M o 41 = some (o + 25) := h.2.2.2.2.2.2.2.2.2.2.2.2.2.2.2.2.2.2.2.2.2.2.2.2.2.2.2.2.2.2.2.2.2.2.2.2.2.2.2.2.2.2.2.2.2.2.2.2.2.2.2.2.2.2.2.2.2.2.2.2.2.2.2.2.2.2.2.2.2.2.2.2.1
theorem ML_k25 {o : Nat} {M : MM} (h : ML o M) : mkd M (o + 25) = 101 := h.2.2.2.2.2.2.2.2.2.2.2.2.2.2.2.2.2.2.2.2.2.2.2.2.2.2.2.2.2.2.2.2.2.2.2.2.2.2.2.2.2.2.2.2.2.2.2.2.2.2.2.2.2.2.2.2.2.2.2.2.2.2.2.2.2.2.2.2.2.2.2.2.2.1
theorem ML_l25 {o : Nat} {M : MM} (h : ML o M) : mln M (o + 25) = 25 := h.2.2.2.2.2.2.2.2.2.2.2.2.2.2.2.2.2.2.2.2.2.2.2.2.2.2.2.2.2.2.2.2.2.2.2.2.2.2.2.2.2.2.2.2.2.2.2.2.2.2.2.2.2.2.2.2.2.2.2.2.2.2.2.2.2.2.2.2.2.2.2.2.2.2.1
theorem ML_r42 {o : Nat} {M : MM} (h : ML o M) : mgR M o 42 = some (o + 26) := h.2.2.2.2.2.2.2.2.2.2.2.2.2.2.2.2.2.2.2.2.2.2.2.2.2.2.2.2.2.2.2.2.2.2.2.2.2.2.2.2.2.2.2.2.2.2.2.2.2.2.2.2.2.2.2.2.2.2.2.2.2.2.2.2.2.2.2.2.2.2.2.2.2.2.2.1
theorem ML_k26 {o : Nat} {M : MM} (h : ML o M) : mkd M (o + 26) = 100 := h.2.2.2.2.2.2.2.2.2.2.2.2.2.2.2.2.2.2.2.2.2.2.2.2.2.2.2.2.2.2.2.2.2.2.2.2.2.2.2.2.2.2.2.2.2.2.2.2.2.2.2.2.2.2.2.2.2.2.2.2.2.2.2.2.2.2.2.2.2.2.2.2.2.2.2.2.1
theorem ML_l26 {o : Nat} {M : MM} (h : ML o M) : mln M (o + 26) = 100 := h.2.2.2.2.2.2.2.2.2.2.2.2.2.2.2.2.2.2.2.2.2.2.2.2.2.2.2.2.2.2.2.2.2.2.2.2.2.2.2.2.2.2.2.2.2.2.2.2.2.2.2.2.2.2.2.2.2.2.2.2.2.2.2.2.2.2.2.2.2.2.2.2.2.2.2.2.2.1
theorem ML_r43 {o : Nat} {M : MM} (h : ML o M) : mgR M o 43 = some (o + 27) := h.2.2.2.2.2.2.2.2.2.2.2.2.2.2.2.2.2.2.2.2.2.2.2.2.2.2.2.2.2.2.2.2.2.2.2.2.2.2.2.2.2.2.2.2.2.2.2.2.2.2.2.2.2.2.2.2.2.2.2.2.2.2.2.2.2.2.2.2.2.2.2.2.2.2.2.2.2.2.1
theorem ML_k27 {o : Nat} {M : MM} (h : ML o M) : mkd M (o + 27) = 100 := h.2.2.2.2.2.2.2.2.2.2.2.2.2.2.2.2.2.2.2.2.2.2.2.2.2.2.2.2.2.2.2.2.2.2.2.2.2.2.2.2.2.2.2.2.2.2.2.2.2.2.2.2.2.2.2.2.2.2.2.2.2.2.2.2.2.2.2.2.2.2.2.2.2.2.2.2.2.2.2.1
theorem ML_l27 {o : Nat} {M : MM} (h : ML o M) : mln M (o + 27) = 4 := h.2.2.2.2.2.2.2.2.2.2.2.2.2.2.2.2.2.2.2.2.2.2.2.2.2.2.2.2.2.2.2.2.2.2.2.2.2.2.2.2.2.2.2.2.2.2.2.2.2.2.2.2.2.2.2.2.2.2.2.2.2.2.2.2.2.2.2.2.2.2.2.2.2.2.2.2.2.2.2.2.1
theorem ML_r44 {o : Nat} {M : MM} (h : ML o M) : mgR M o 44 = some (o + 28) := h.2.2.2.2.2.2.2.2.2.2.2.2.2.2.2.2.2.2.2.2.2.2.2.2.2.2.2.2.2.2.2.2.2.2.2.2.2.2.2.2.2.2.2.2.2.2.2.2.2.2.2.2.2.2.2.2.2.2.2.2.2.2.2.2.2.2.2.2.2.2.2.2.2.2.2.2.2.2.2.2.2.1
theorem ML_k28 {o : Nat} {M : MM} (h : ML o M) : mkd M (o + 28) = 100 := h.2.2.2.2.2.2.2.2.2.2.2.2.2.2.2.2.2.2.2.2.2.2.2.2.2.2.2.2.2.2.2.2.2.2.2.2.2.2.2.2.2.2.2.2.2.2.2.2.2.2.2.2.2.2.2.2.2.2.2.2.2.2.2.2.2.2.2.2.2.2.2.2.2.2.2.2.2.2.2.2.2.2.1
theorem ML_l28 {o : Nat} {M : MM} (h : ML o M) : mln M (o + 28) = 4 := h.2.2.2.2.2.2.2.2.2.2.2.2.2.2.2.2.2.2.2.2.2.2.2.2.2.2.2.2.2.2.2.2.2.2.2.2.2.2.2.2.2.2.2.2.2.2.2.2.2.2.2.2.2.2.2.2.2.2.2.2.2.2.2.2.2.2.2.2.2.2.2.2.2.2.2.2.2.2.2.2.2.2.2.1
theorem ML_r45 {o : Nat} {M : MM} (h : ML o M) : mgR M o 45 = some (o + 29) := h.2.2.2.2.2.2.2.2.2.2.2.2.2.2.2.2.2.2.2.2.2.2.2.2.2.2.2.2.2.2.2.2.2.2.2.2.2.2.2.2.2.2.2.2.2.2.2.2.2.2.2.2.2.2.2.2.2.2.2.2.2.2.2.2.2.2.2.2.2.2.2.2.2.2.2.2.2.2.2.2.2.2.2.2.1
theorem ML_k29 {o : Nat} {M : MM} (h : ML o M) : mkd M (o + 29) = 101 := h.2.2.2.2.2.2.2.2.2.2.2.2.2.2.2.2.2.2.2.2.2.2.2.2.2.2.2.2.2.2.2.2.2.2.2.2.2.2.2.2.2.2.2.2.2.2.2.2.2.2.2.2.2.2.2.2.2.2.2.2.2.2.2.2.2.2.2.2.2.2.2.2.2.2.2.2.2.2.2.2.2.2.2.2.2.1
theorem ML_l29 {o : Nat} {M : MM} (h : ML o M) : mln M (o + 29) = 13 := h.2.2.2.2.2.2.2.2.2.2.2.2.2.2.2.2.2.2.2.2.2.2.2.2.2.2.2.2.2.2.2.2.2.2.2.2.2.2.2.2.2.2.2.2.2.2.2.2.2.2.2.2.2.2.2.2.2.2.2.2.2.2.2.2.2.2.2.2.2.2.2.2.2.2.2.2.2.2.2.2.2.2.2.2.2.2.1
theorem ML_r48 {o : Nat} {M : MM} (h : ML o M) : mgR M o 48 = some (o + 30) := h.2.2.2.2.2.2.2.2.2.2.2.2.2.2.2.2.2.2.2.2.2.2.2.2.2.2.2.2.2.2.2.2.2.2.2.2.2.2.2.2.2.2.2.2.2.2.2.2.2.2.2.2.2.2.2.2.2.2.2.2.2.2.2.2.2.2.2.2.2.2.2.2.2.2.2.2.2.2.2.2.2.2.2.2.2.2.2.1
theorem ML_k30 {o : Nat} {M : MM} (h : ML o M) : mkd M (o + 30) = 100 := h.2.2.2.2.2.2.2.2.2.2.2.2.2.2.2.2.2.2.2.2.2.2.2.2.2.2.2.2.2.2.2.2.2.2.2.2.2.2.2.2.2.2.2.2.2.2.2.2.2.2.2.2.2.2.2.2.2.2.2.2.2.2.2.2.2.2.2.2.2.2.2.2.2.2.2.2.2.2.2.2.2.2.2.2.2.2.2.2.1
theorem ML_l30 {o : Nat} {M : MM} (h : ML o M) : mln M (o + 30) = 84 := h.2.2.2.2.2.2.2.2.2.2.2.2.2.2.2.2.2.2.2.2.2.2.2.2.2.2.2.2.2.2.2.2.2.2.2.2.2.2.2.2.2.2.2.2.2.2.2.2.2.2.2.2.2.2.2.2.2.2.2.2.2.2.2.2.2.2.2.2.2.2.2.2.2.2.2.2.2.2.2.2.2.2.2.2.2.2.2.2.2.1
theorem ML_r51 {o : Nat} {M : MM} (h : ML o M) : mgR M o 51 = some (o + 31) := h.2.2.2.2.2.2.2.2.2.2.2.2.2.2.2.2.2.2.2.2.2.2.2.2.2.2.2.2.2.2.2.2.2.2.2.2.2.2.2.2.2.2.2.2.2.2.2.2.2.2.2.2.2.2.2.2.2.2.2.2.2.2.2.2.2.2.2.2.2.2.2.2.2.2.2.2.2.2.2.2.2.2.2.2.2.2.2.2.2.2.1
theorem ML_k31 {o : Nat} {M : MM} (h : ML o M) : mkd M (o + 31) = 100 := h.2.2.2.2.2.2.2.2.2.2.2.2.2.2.2.2.2.2.2.2.2.2.2.2.2.2.2.2.2.2.2.2.2.2.2.2.2.2.2.2.2.2.2.2.2.2.2.2.2.2.2.2.2.2.2.2.2.2.2.2.2.2.2.2.2.2.2.2.2.2.2.2.2.2.2.2.2.2.2.2.2.2.2.2.2.2.2.2.2.2.2.1
theorem ML_l31 {o : Nat} {M : MM} (h : ML o M) : mln M (o + 31) = 6 := h.2.2.2.2.2.2.2.2.2.2.2.2.2.2.2.2.2.2.2.2.2.2.2.2.2.2.2.2.2.2.2.2.2.2.2.2.2.2.2.2.2.2.2.2.2.2.2.2.2.2.2.2.2.2.2.2.2.2.2.2.2.2.2.2.2.2.2.2.2.2.2.2.2.2.2.2.2.2.2.2.2.2.2.2.2.2.2.2.2.2.2.2.1
theorem ML_r52 {o : Nat} {M : MM} (h : ML o M) : mgR M o 52 = some (o + 32) := h.2.2.2.2.2.2.2.2.2.2.2.2.2.2.2.2.2.2.2.2.2.2.2.2.2.2.2.2.2.2.2.2.2.2.2.2.2.2.2.2.2.2.2.2.2.2.2.2.2.2.2.2.2.2.2.2.2.2.2.2.2.2.2.2.2.2.2.2.2.2.2.2.2.2.2.2.2.2.2.2.2.2.2.2.2.2.2.2.2.2.2.2.2.1
theorem ML_k32 {o : Nat} {M : MM} (h : ML o M) : mkd M (o + 32) = 100 := h.2.2.2.2.2.2.2.2.2.2.2.2.2.2.2.2.2.2.2.2.2.2.2.2.2.2.2.2.2.2.2.2.2.2.2.2.2.2.2.2.2.2.2.2.2.2.2.2.2.2.2.2.2.2.2.2.2.2.2.2.2.2.2.2.2.2.2.2.2.2.2.2.2.2.2.2.2.2.2.2.2.2.2.2.2.2.2.2.2.2.2.2.2.2.1
theorem ML_l32 {o : Nat} {M : MM} (h : ML o M) : mln M (o + 32) = 6 := h.2.2.2.2.2.2.2.2.2.2.2.2.2.2.2.2.2.2.2.2.2.2.2.2.2.2.2.2.2.2.2.2.2.2.2.2.2.2.2.2.2.2.2.2.2.2.2.2.2.2.2.2.2.2.2.2.2.2.2.2.2.2.2.2.2.2.2.2.2.2.2.2.2.2.2.2.2.2.2.2.2.2.2.2.2.2.2.2.2.2.2.2.2.2.2
theorem ML_of {o : Nat} {M M' : MM} (e : M'.2.2 = M.2.2) (h : ML o M) : ML o M' := by
  unfold ML mgR mkd mln at h ⊢
  rw [e]; exact h
