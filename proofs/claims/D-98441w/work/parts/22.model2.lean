/-! the model: a day, days -/
set_option maxRecDepth 100000
/-- an array of the model -/
def ar (o c : Nat) (M : MM) : Nat → Int32 := fun k => mgI M (o + c) k
theorem arE {o c k : Nat} {M : MM} : mgI M (o + c) k = ar o c M k := rfl
theorem ar_s {o c d k : Nat} {M : MM} {v : Int32} : ar o c (msI M (o + d) k v) = if c = d then up (ar o c M) k v else ar o c M := by
  funext j
  unfold ar
  rw [mgI_sI]
  by_cases e : c = d
  · subst e; rw [if_pos rfl]; simp [up]
  · rw [if_neg (by omega), if_neg e]
theorem ar_0 {o c k : Nat} {M : MM} {v : Int32} (h : 0 < c) : ar o c (msI M o k v) = ar o c M := by
  funext j
  unfold ar
  rw [mgI_sI, if_neg (by omega)]
theorem fd_c {o c k j : Nat} {M : MM} {v : Int32} (h : 0 < c) : mgI (msI M (o + c) k v) o j = mgI M o j := by
  rw [mgI_sI, if_neg (by omega)]
theorem fd_e {o k : Nat} {M : MM} {v : Int32} : mgI (msI M o k v) o k = v := by rw [mgI_sI, if_pos ⟨rfl, rfl⟩]
theorem fd_n {o k j : Nat} {M : MM} {v : Int32} (h : j < k ∨ k < j) : mgI (msI M o k v) o j = mgI M o j := by
  rw [mgI_sI, if_neg (by omega)]
theorem nwE' {o : Nat} {M : MM} {k : Nat} : nw o M k = ar o 1 M k := rfl
theorem nwA {o : Nat} {M : MM} : nw o M = ar o 1 M := rfl
theorem as1 {n : Nat} (h : 0 < n) : nI n - (1 : Int32) = nI (n - 1) := pk_sub h
theorem up_eq {s : Nat → Int32} {k : Nat} {v : Int32} : up s k v k = v := if_pos rfl
theorem up_ne {s : Nat → Int32} {k j : Nat} {v : Int32} (h : j < k ∨ k < j) : up s k v j = s j := if_neg (by omega)
def itN {α : Type} (F : Nat → α → α) : Nat → α → α
  | 0, s => s
  | n + 1, s => F n (itN F n s)
def RuOk (s : Nat → Int32) : Prop := ∀ p, p < 8 → ∃ r, r < 4 ∧ s (60 + p) = nI r
/-- tenths and rules stay -/
def perm (s s' : Nat → Int32) : Prop := ∀ k, (52 ≤ k ∧ k < 68) ∨ 81 ≤ k → s' k = s k
theorem perm.ru {s s' : Nat → Int32} (h : perm s s') (g : RuOk s) : RuOk s' := fun p hp => by
  obtain ⟨r, h1, h2⟩ := g p hp
  exact ⟨r, h1, (h _ (by omega)).trans h2⟩
theorem perm.rf {s : Nat → Int32} : perm s s := fun _ _ => rfl
theorem perm.tr {s s1 s2 : Nat → Int32} (h : perm s s1) (g : perm s1 s2) : perm s s2 := fun k h1 => (g k h1).trans (h k h1)
theorem perm.up {s s1 : Nat → Int32} {k : Nat} {v : Int32} (h : perm s s1) (hk : k < 52 ∨ (68 ≤ k ∧ k < 81)) : perm s (up s1 k v) := fun j h1 => (up_ne (by omega)).trans (h j h1)
def gvS (T : Nat → Txt) (s : Nat → Int32) (p l : Nat) : Int32 := byS (T (ix_ (s (60 + p)) + 1)) 103 9 (fcG s p l)
/-- row, cups, over, sunny, given -/
abbrev Dy : Type := (Nat → Int32) × Int32 × Int32 × Int32 × (Nat → Int32)
def watR (s : Nat → Int32) (g : Int32) (p l : Nat) : Nat → Int32 :=
  let s2 := up (up s (4 + l) (mi_ (s l) (s (4 + l) + g))) (68 + p) (s (68 + p) + g)
  if g ≤ 0 then s2 else if s (20 + l) = -2 then s2 else up s2 (20 + l) (s 79)
def watA (T : Nat → Txt) (s : Dy) (p l : Nat) : Dy :=
  let g := gvS T s.1 p l
  (watR s.1 g p l, s.2.1 + g, (s.2.2.1 + (s.1 (4 + l) + g)) - mi_ (s.1 l) (s.1 (4 + l) + g), s.2.2.2.1, up s.2.2.2.2 p (s.2.2.2.2 p + g))
def dyE (o : Nat) (M : MM) (s : Dy) : Prop := nw o M = s.1 ∧ mgI M o 27 = s.2.1 ∧ mgI M o 28 = s.2.2.1 ∧ mgI M o 29 = s.2.2.2.1 ∧ ∀ q, q < 8 → ar o 19 M q = s.2.2.2.2 q
def PD (o : Nat) : Nat → Nat → Prop := fun a k => a = o + 1 ∨ a = o + 17 ∨ a = o + 18 ∨ a = o + 19 ∨ (a = o ∧ (k = 27 ∨ k = 28 ∨ k = 29))
theorem watR_perm {s : Nat → Int32} {g : Int32} {p l : Nat} (hp : p < 8) (hl : l < 4) : perm s (watR s g p l) := by
  have h2 : perm s (up (up s (4 + l) (mi_ (s l) (s (4 + l) + g))) (68 + p) (s (68 + p) + g)) := (perm.rf.up (by omega)).up (by omega)
  show perm s (if g ≤ 0 then _ else if s (20 + l) = -2 then _ else up _ (20 + l) (s 79))
  split
  · exact h2
  · split
    · exact h2
    · exact h2.up (by omega)
theorem fI.PD1 {o : Nat} {M M' : MM} (h : fI (fun a _ => a = o + 17 ∨ a = o + 18) M M') : fI (PD o) M M' := h.mono (fun a k e => by rcases e with e | e <;> simp [PD, e])
theorem dyE.fc {o : Nat} {M M' : MM} {s : Dy} (h : dyE o M s) (hF : fI (fun a _ => a = o + 17 ∨ a = o + 18) M M') : dyE o M' s := by
  obtain ⟨h1, h2, h3, h4, h5⟩ := h
  exact ⟨(hF.nw (fun k => by omega)).trans h1, (hF.2 _ _ (by omega)).trans h2, (hF.2 _ _ (by omega)).trans h3, (hF.2 _ _ (by omega)).trans h4, fun q hq => (hF.2 _ _ (by omega)).trans (h5 q hq)⟩
theorem w7_waters {o p l : Nat} {M : MM} {T : Nat → Txt} {s : Dy} {Post : MM → Prop} (hL : ML o M) (hT : TM o M T) (hs : dyE o M s) (hr : RuOk s.1) (hp : p < 8) (hl : l < 4) (h : ∀ M', fI (PD o) M M' → dyE o M' (watA T s p l) → Post M') : wp_X7_waters M o (nI p) (nI l) Post := by
  obtain ⟨r, hr1, hr2⟩ := hr p hp
  unfold wp_X7_waters
  refine w7_cupsOf hL hT hp hl (by rw [hs.1]; exact hr2) hr1 (fun M1 hF => ?_)
  have h1 : ML o M1 := ML_of hF.e hL
  have hg : byS (T (r + 1)) 103 9 (fcG (nw o M) p l) = gvS T s.1 p l := by unfold gvS; rw [hs.1, hr2, ixN (by omega)]
  rw [hg]
  have hd := hs.fc hF
  obtain ⟨d1, d2, d3, d4, d5⟩ := hd
  have d5p := d5 p hp
  have d1 : ar o 1 M1 = s.1 := d1
  simp (disch := first | assumption | omega) only [mgR_sI, mgR_sL, mkd_sI, mkd_sL, mln_sI, mln_sL, Option.some.injEq, exists_eq_left', forall_eq, true_and, and_true, Nat.reduceLT, exists_eq_left, ML_r0, ML_k1, ML_l1, ML_r1, ML_k2, ML_l2, ML_r2, ML_k3, ML_l3, ML_r3, ML_k4, ML_l4, ML_r13, ML_k5, ML_l5, ML_r14, ML_k6, ML_l6, ML_r15, ML_k7, ML_l7, ML_r16, ML_k8, ML_l8, ML_r17, ML_k9, ML_l9, ML_r18, ML_k10, ML_l10, ML_r19, ML_k11, ML_l11, ML_r20, ML_k12, ML_l12, ML_r21, ML_k13, ML_l13, ML_r22, ML_k14, ML_l14, ML_r23, ML_k15, ML_l15, ML_r24, ML_k16, ML_l16, ML_r25, ML_k17, ML_l17, ML_r26, ML_k18, ML_l18, ML_r30, ML_k19, ML_l19, ML_r35, ML_k20, ML_l20, ML_r36, ML_k21, ML_l21, ML_r37, ML_k22, ML_l22, ML_r38, ML_k23, ML_l23, ML_r40, ML_k24, ML_l24, ML_r41, ML_k25, ML_l25, ML_r42, ML_k26, ML_l26, ML_r43, ML_k27, ML_l27, ML_r44, ML_k28, ML_l28, ML_r45, ML_k29, ML_l29, ML_r48, ML_k30, ML_l30, ML_r51, ML_k31, ML_l31, ML_r52, ML_k32, ML_l32, ia0, ia4, ia8, ia12, ia16, ia20, ia24, ia52, ia60, ia68, im7, im14, ap6, iaN, ap1, ixN, vpN, w7_min, arE (o := o) (c := 1), arE (o := o) (c := 19), ar_s, ar_0, fd_c, fd_e, fd_n, d1, d2, d3, d4, up_eq, up_ne, if_true, if_false, Nat.reduceEqDiff, d5p]
  have hF2 : fI (PD o) M M1 := hF.PD1
  have hF3 := ((((hF2.s (a := o + 1) (k := 4 + l) (v := mi_ (s.1 l) (s.1 (4 + l) + gvS T s.1 p l)) (by simp [PD])).s (a := o + 1) (k := 68 + p) (v := s.1 (68 + p) + gvS T s.1 p l) (by simp [PD])).s (a := o) (k := 27) (v := s.2.1 + gvS T s.1 p l) (by simp [PD])).s (a := o) (k := 28) (v := s.2.2.1 + (s.1 (4 + l) + gvS T s.1 p l) - mi_ (s.1 l) (s.1 (4 + l) + gvS T s.1 p l)) (by simp [PD])).s (a := o + 19) (k := p) (v := s.2.2.2.2 p + gvS T s.1 p l) (by simp [PD])
  have hw : ∀ R, R = watR s.1 (gvS T s.1 p l) p l → ∀ M', fI (PD o) M M' → ar o 1 M' = R → mgI M' o 27 = s.2.1 + gvS T s.1 p l → mgI M' o 28 = s.2.2.1 + (s.1 (4 + l) + gvS T s.1 p l) - mi_ (s.1 l) (s.1 (4 + l) + gvS T s.1 p l) → mgI M' o 29 = s.2.2.2.1 → ar o 19 M' = up (ar o 19 M1) p (s.2.2.2.2 p + gvS T s.1 p l) → Post M' :=
    fun R e M' k0 k1 k2 k3 k4 k5 => h M' k0 ⟨k1.trans e, k2, k3, k4, fun q hq => by
      rw [k5]
      show _ = up s.2.2.2.2 p (s.2.2.2.2 p + gvS T s.1 p l) q
      unfold up
      by_cases e : q = p
      · rw [if_pos e, if_pos e]
      · rw [if_neg e, if_neg e]; exact d5 q hq⟩
  by_cases g0 : gvS T s.1 p l ≤ 0
  · rw [if_pos g0]
    refine hw _ (by unfold watR; rw [if_pos g0]) _ hF3 ?_ ?_ ?_ ?_ ?_ <;> simp (disch := first | assumption | omega) only [ar_s, ar_0, fd_c, fd_e, fd_n, d1, d2, d3, d4, if_true, if_false, Nat.reduceEqDiff]
  · rw [if_neg g0]
    by_cases g1 : s.1 (20 + l) = -2
    · rw [if_pos g1]
      refine hw _ (by unfold watR; rw [if_neg g0, if_pos g1]) _ hF3 ?_ ?_ ?_ ?_ ?_ <;> simp (disch := first | assumption | omega) only [ar_s, ar_0, fd_c, fd_e, fd_n, d1, d2, d3, d4, if_true, if_false, Nat.reduceEqDiff]
    · rw [if_neg g1]
      refine hw _ (by unfold watR; rw [if_neg g0, if_neg g1]) _ (hF3.s (a := o + 1) (k := 20 + l) (v := s.1 79) (by simp [PD])) ?_ ?_ ?_ ?_ ?_ <;> simp (disch := first | assumption | omega) only [ar_s, ar_0, fd_c, fd_e, fd_n, d1, d2, d3, d4, if_true, if_false, Nat.reduceEqDiff]
