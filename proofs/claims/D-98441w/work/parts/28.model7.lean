/-! the model: weights; who comes, the sun, all days -/
set_option maxRecDepth 100000
theorem clS_nI {h : Nat} {v : Int32} (hh : h < 2147483648) : ∃ g, g ≤ h ∧ clS (nI h) v = nI g := by
  unfold clS
  by_cases e1 : 0 ≤ v
  · rw [if_pos e1]
    by_cases e2 : v ≤ nI h
    · rw [if_pos e2]
      exact nI_of2 (M := nI h) (nI_toInt hh) (by rw [Int32.lt_iff_toInt_lt]; rw [Int32.le_iff_toInt_le] at e1; omega) e2
    · rw [if_neg e2]; exact ⟨h, Nat.le_refl _, rfl⟩
  · rw [if_neg e1]; exact ⟨0, by omega, rfl⟩
theorem byS_nI {h : Nat} {c : Int32} {f : Nat → Int32} (hh : h < 2147483648) : ∀ t : Txt, ∃ g, g ≤ h ∧ byS t c (nI h) f = nI g := by
  intro t
  induction t with
  | nil => exact ⟨0, by omega, rfl⟩
  | cons q r ih =>
    unfold byS
    split
    · exact clS_nI hh
    · exact ih
theorem by9 {t : Txt} {c : Int32} {f : Nat → Int32} : ∃ g, g ≤ 9 ∧ byS t c 9 f = nI g := byS_nI (h := 9) (by omega) t
def dryN (s : Nat) : Nat := if s < 10 then s else 0
def drnN (s : Nat) : Nat := if s < 10 then 0 else s - 10
/-- the facts in a state -/
def fcX (s : Nat → Int32) (l : Nat) (th : Int32) (f k : Nat) : Nat → Int32 := up (up (up (up (up (fcP s l) 4 (nI f)) 5 th) 6 (nI (dryN k))) 7 (nI (drnN k))) 11 99
theorem rm20 {q : Nat} (h : q < 500) : rm_ (nI q) (20 : Int32) = nI (q % 20) := (show nI q - nI q / nI 20 * nI 20 = _ from pk_rem (by omega) (by omega) (by omega))
theorem w7_dryIn {M : MM} {q : Nat} {Post : Int32 → MM → Prop} (hq : q < 500) (h : Post (nI (dryN (q % 20))) M) : wp_X7_dryIn M (nI q) Post := by
  unfold wp_X7_dryIn
  rw [rm20 hq]
  unfold dryN at h
  by_cases e : q % 20 < 10
  · rw [if_pos e] at h
    rw [if_neg (show ¬ (10 : Int32) ≤ nI (q % 20) from (show ¬ nI 10 ≤ nI (q % 20) from nI_ge (by omega) (by omega)))]; exact h
  · rw [if_neg e] at h
    rw [if_pos (show (10 : Int32) ≤ nI (q % 20) from (show nI 10 ≤ nI (q % 20) from nI_le (by omega) (by omega)))]; exact h
theorem w7_drownedIn {M : MM} {q : Nat} {Post : Int32 → MM → Prop} (hq : q < 500) (h : Post (nI (drnN (q % 20))) M) : wp_X7_drownedIn M (nI q) Post := by
  unfold wp_X7_drownedIn
  rw [rm20 hq]
  unfold drnN at h
  by_cases e : q % 20 < 10
  · rw [if_pos e] at h
    rw [if_neg (show ¬ (10 : Int32) ≤ nI (q % 20) from (show ¬ nI 10 ≤ nI (q % 20) from nI_ge (by omega) (by omega)))]; exact h
  · rw [if_neg e] at h
    rw [if_pos (show (10 : Int32) ≤ nI (q % 20) from (show nI 10 ≤ nI (q % 20) from nI_le (by omega) (by omega)))]
    rw [show nI (q % 20) - (10 : Int32) = nI (q % 20 - 10) from (show nI (q % 20) - nI 10 = _ from pk_sub (by omega))]; exact h
theorem w7_feelsState {o l q f : Nat} {th : Int32} {M : MM} {s : Nat → Int32} {Post : MM → Prop} (hL : ML o M) (hl : l < 4) (hs : ar o 1 M = s) (h33 : mgI M o 33 = nI l) (h34 : mgI M o 34 = th) (hq : q < 500) (h : ∀ M', fI (fun a _ => a = o + 18) M M' → fcE o M' (fcX s l th f (q % 20)) → Post M') : wp_X7_feelsState M o (nI q) (nI f) Post := by
  unfold wp_X7_feelsState
  rw [h33]
  refine w7_feelsPlant hL hl (fun M1 hF h0 => ?_)
  have h1 : ML o M1 := ML_of hF.e hL
  have hn : nw o M = s := hs
  rw [hn] at h0
  have g34 : mgI M1 o 34 = th := (hF.2 _ _ (by omega)).trans h34
  simp (disch := first | assumption | omega) only [mgR_sI, mgR_sL, mkd_sI, mkd_sL, mln_sI, mln_sL, Option.some.injEq, exists_eq_left', forall_eq, true_and, and_true, Nat.reduceLT, exists_eq_left, ML_r0, ML_k1, ML_l1, ML_r1, ML_k2, ML_l2, ML_r2, ML_k3, ML_l3, ML_r3, ML_k4, ML_l4, ML_r13, ML_k5, ML_l5, ML_r14, ML_k6, ML_l6, ML_r15, ML_k7, ML_l7, ML_r16, ML_k8, ML_l8, ML_r17, ML_k9, ML_l9, ML_r18, ML_k10, ML_l10, ML_r19, ML_k11, ML_l11, ML_r20, ML_k12, ML_l12, ML_r21, ML_k13, ML_l13, ML_r22, ML_k14, ML_l14, ML_r23, ML_k15, ML_l15, ML_r24, ML_k16, ML_l16, ML_r25, ML_k17, ML_l17, ML_r26, ML_k18, ML_l18, ML_r30, ML_k19, ML_l19, ML_r35, ML_k20, ML_l20, ML_r36, ML_k21, ML_l21, ML_r37, ML_k22, ML_l22, ML_r38, ML_k23, ML_l23, ML_r40, ML_k24, ML_l24, ML_r41, ML_k25, ML_l25, ML_r42, ML_k26, ML_l26, ML_r43, ML_k27, ML_l27, ML_r44, ML_k28, ML_l28, ML_r45, ML_k29, ML_l29, ML_r48, ML_k30, ML_l30, ML_r51, ML_k31, ML_l31, ML_r52, ML_k32, ML_l32, fd_c, g34]
  refine w7_dryIn hq ?_
  simp (disch := first | assumption | omega) only [mgR_sI, mgR_sL, mkd_sI, mkd_sL, mln_sI, mln_sL, Option.some.injEq, exists_eq_left', forall_eq, true_and, and_true, Nat.reduceLT, exists_eq_left, ML_r0, ML_k1, ML_l1, ML_r1, ML_k2, ML_l2, ML_r2, ML_k3, ML_l3, ML_r3, ML_k4, ML_l4, ML_r13, ML_k5, ML_l5, ML_r14, ML_k6, ML_l6, ML_r15, ML_k7, ML_l7, ML_r16, ML_k8, ML_l8, ML_r17, ML_k9, ML_l9, ML_r18, ML_k10, ML_l10, ML_r19, ML_k11, ML_l11, ML_r20, ML_k12, ML_l12, ML_r21, ML_k13, ML_l13, ML_r22, ML_k14, ML_l14, ML_r23, ML_k15, ML_l15, ML_r24, ML_k16, ML_l16, ML_r25, ML_k17, ML_l17, ML_r26, ML_k18, ML_l18, ML_r30, ML_k19, ML_l19, ML_r35, ML_k20, ML_l20, ML_r36, ML_k21, ML_l21, ML_r37, ML_k22, ML_l22, ML_r38, ML_k23, ML_l23, ML_r40, ML_k24, ML_l24, ML_r41, ML_k25, ML_l25, ML_r42, ML_k26, ML_l26, ML_r43, ML_k27, ML_l27, ML_r44, ML_k28, ML_l28, ML_r45, ML_k29, ML_l29, ML_r48, ML_k30, ML_l30, ML_r51, ML_k31, ML_l31, ML_r52, ML_k32, ML_l32]
  refine w7_drownedIn hq ?_
  simp (disch := first | assumption | omega) only [mgR_sI, mgR_sL, mkd_sI, mkd_sL, mln_sI, mln_sL, Option.some.injEq, exists_eq_left', forall_eq, true_and, and_true, Nat.reduceLT, exists_eq_left, ML_r0, ML_k1, ML_l1, ML_r1, ML_k2, ML_l2, ML_r2, ML_k3, ML_l3, ML_r3, ML_k4, ML_l4, ML_r13, ML_k5, ML_l5, ML_r14, ML_k6, ML_l6, ML_r15, ML_k7, ML_l7, ML_r16, ML_k8, ML_l8, ML_r17, ML_k9, ML_l9, ML_r18, ML_k10, ML_l10, ML_r19, ML_k11, ML_l11, ML_r20, ML_k12, ML_l12, ML_r21, ML_k13, ML_l13, ML_r22, ML_k14, ML_l14, ML_r23, ML_k15, ML_l15, ML_r24, ML_k16, ML_l16, ML_r25, ML_k17, ML_l17, ML_r26, ML_k18, ML_l18, ML_r30, ML_k19, ML_l19, ML_r35, ML_k20, ML_l20, ML_r36, ML_k21, ML_l21, ML_r37, ML_k22, ML_l22, ML_r38, ML_k23, ML_l23, ML_r40, ML_k24, ML_l24, ML_r41, ML_k25, ML_l25, ML_r42, ML_k26, ML_l26, ML_r43, ML_k27, ML_l27, ML_r44, ML_k28, ML_l28, ML_r45, ML_k29, ML_l29, ML_r48, ML_k30, ML_l30, ML_r51, ML_k31, ML_l31, ML_r52, ML_k32, ML_l32]
  exact h _ (((((hF.s rfl).s rfl).s rfl).s rfl).s rfl) (((((h0.s).s).s).s).s)
/-- cups of one who comes, by rules or by one rule for all -/
def cuS (T : Nat → Txt) (s : Nat → Int32) (l : Nat) (th rc rb : Int32) (p : Nat) (tn : Int32) (k f : Nat) : Int32 :=
  if rc = -1 then byS (T (ix_ (s (60 + p)) + 1)) 103 9 (up (up (fcX s l th f k) 8 (nI p)) 9 tn) else if rb ≤ nI f then 0 else rc
theorem w7_cupsIn {o l q f i p : Nat} {th rc rb tn : Int32} {M : MM} {T : Nat → Txt} {s : Nat → Int32} {Post : Int32 → MM → Prop} (hL : ML o M) (hT : TM o M T) (hl : l < 4) (hs : ar o 1 M = s) (hr : RuOk s) (h33 : mgI M o 33 = nI l) (h34 : mgI M o 34 = th) (h31 : mgI M o 31 = rc) (h32 : rc = -1 ∨ mgI M o 32 = rb) (hi : i < 8) (hp : ar o 20 M i = nI p) (hp8 : p < 8) (ht : ar o 21 M i = tn) (hq : q < 500) (h : ∀ M', fI (fun a _ => a = o + 17 ∨ a = o + 18) M M' → Post (cuS T s l th rc rb p tn (q % 20) f) M') : wp_X7_cupsIn M o (nI q) (nI f) (nI i) Post := by
  unfold wp_X7_cupsIn
  rw [h31]
  unfold cuS at h
  by_cases e : rc = -1
  · rw [if_pos e]
    rw [if_pos e] at h
    refine w7_feelsState (f := f) hL hl hs h33 h34 hq (fun M1 hF h0 => ?_)
    have h1 : ML o M1 := ML_of hF.e hL
    have a1 : ar o 1 M1 = s := (hF.nw (fun k => by omega)).trans hs
    have a20 : ar o 20 M1 i = nI p := (hF.2 _ _ (by omega)).trans hp
    have a21 : ar o 21 M1 i = tn := (hF.2 _ _ (by omega)).trans ht
    obtain ⟨r, hr1, hr2⟩ := hr p hp8
    have hrr : s (60 + p) + (1 : Int32) = nI (r + 1) := by rw [hr2]; exact ap1
    simp (disch := first | assumption | omega) only [mgR_sI, mgR_sL, mkd_sI, mkd_sL, mln_sI, mln_sL, Option.some.injEq, exists_eq_left', forall_eq, true_and, and_true, Nat.reduceLT, exists_eq_left, ML_r0, ML_k1, ML_l1, ML_r1, ML_k2, ML_l2, ML_r2, ML_k3, ML_l3, ML_r3, ML_k4, ML_l4, ML_r13, ML_k5, ML_l5, ML_r14, ML_k6, ML_l6, ML_r15, ML_k7, ML_l7, ML_r16, ML_k8, ML_l8, ML_r17, ML_k9, ML_l9, ML_r18, ML_k10, ML_l10, ML_r19, ML_k11, ML_l11, ML_r20, ML_k12, ML_l12, ML_r21, ML_k13, ML_l13, ML_r22, ML_k14, ML_l14, ML_r23, ML_k15, ML_l15, ML_r24, ML_k16, ML_l16, ML_r25, ML_k17, ML_l17, ML_r26, ML_k18, ML_l18, ML_r30, ML_k19, ML_l19, ML_r35, ML_k20, ML_l20, ML_r36, ML_k21, ML_l21, ML_r37, ML_k22, ML_l22, ML_r38, ML_k23, ML_l23, ML_r40, ML_k24, ML_l24, ML_r41, ML_k25, ML_l25, ML_r42, ML_k26, ML_l26, ML_r43, ML_k27, ML_l27, ML_r44, ML_k28, ML_l28, ML_r45, ML_k29, ML_l29, ML_r48, ML_k30, ML_l30, ML_r51, ML_k31, ML_l31, ML_r52, ML_k32, ML_l32, ia0, ia4, ia8, ia12, ia16, ia20, ia24, ia52, ia60, ia68, im7, im14, ap6, iaN, ap1, ixN, vpN, arE (o := o) (c := 1), arE (o := o) (c := 20), arE (o := o) (c := 21), ar_s, if_false, if_true, Nat.reduceEqDiff, a1, a20, a21, hrr]
    have hF3 := (hF.s (a := o + 18) (k := 8) (v := nI p) rfl).s (a := o + 18) (k := 9) (v := tn) rfl
    refine w7_byText (T := T) (ML_of hF3.e hL) (hF3.tm (fun c h1 h2 k => by omega) hT) (by omega) ((h0.s).s) (fun M' hF' => ?_)
    have k := h M' ((hF3.mono (fun a k e => Or.inr e)).tr (hF'.mono (fun a k e => Or.inl e)))
    rw [hr2, ixN (by omega)] at k
    exact k
  · rw [if_neg e]
    rw [if_neg e] at h
    rw [h32.resolve_left e]
    by_cases e2 : rb ≤ nI f
    · rw [if_pos e2] at h ⊢; exact h M fI.rf
    · rw [if_neg e2] at h ⊢; exact h M fI.rf
/-- longs of the model -/
def aL (o c : Nat) (M : MM) : Nat → Int64 := fun k => mgL M (o + c) k
def upL (s : Nat → Int64) (k : Nat) (v : Int64) : Nat → Int64 := fun j => if j = k then v else s j
theorem aLE {o c k : Nat} {M : MM} : mgL M (o + c) k = aL o c M k := rfl
theorem aL_s {o c d k : Nat} {M : MM} {v : Int64} : aL o c (msL M (o + d) k v) = if c = d then upL (aL o c M) k v else aL o c M := by
  funext j
  unfold aL
  rw [mgL_sL]
  by_cases e : c = d
  · subst e; rw [if_pos rfl]; simp [upL]
  · rw [if_neg (by omega), if_neg e]
theorem aL_0 {o c k : Nat} {M : MM} {v : Int64} (h : 0 < c) : aL o c (msL M o k v) = aL o c M := by
  funext j
  unfold aL
  rw [mgL_sL, if_neg (by omega)]
theorem ar_L {o c a k : Nat} {M : MM} {v : Int64} : ar o c (msL M a k v) = ar o c M := rfl
theorem aL_I {o c a k : Nat} {M : MM} {v : Int32} : aL o c (msI M a k v) = aL o c M := rfl
/-- only longs at P change -/
def fL (P : Nat → Prop) (M M' : MM) : Prop := M'.1 = M.1 ∧ M'.2.2 = M.2.2 ∧ ∀ a k, ¬ P a → mgL M' a k = mgL M a k
theorem fL.rf {P : Nat → Prop} {M : MM} : fL P M M := ⟨rfl, rfl, fun _ _ _ => rfl⟩
theorem fL.s {P : Nat → Prop} {M M1 : MM} {a k : Nat} {v : Int64} (h : fL P M M1) (hp : P a) : fL P M (msL M1 a k v) := ⟨h.1, h.2.1, fun b j hb => by
  rw [mgL_sL, if_neg (fun e => hb (by rw [e.1]; exact hp))]; exact h.2.2 b j hb⟩
theorem fL.tr {P : Nat → Prop} {M M1 M2 : MM} (h : fL P M M1) (g : fL P M1 M2) : fL P M M2 := ⟨g.1.trans h.1, g.2.1.trans h.2.1, fun a k hp => (g.2.2 a k hp).trans (h.2.2 a k hp)⟩
theorem fL.I {P : Nat → Prop} {M M1 : MM} (h : fL P M M1) (a k : Nat) : mgI M1 a k = mgI M a k := by unfold mgI; rw [h.1]
theorem fL.ar {P : Nat → Prop} {M M1 : MM} (h : fL P M M1) (o c : Nat) : ar o c M1 = ar o c M := funext fun k => h.I _ _
theorem fL.g {o : Nat} {P : Nat → Prop} {M M1 : MM} (h : fL P M M1) (hp : ∀ a, P a → o ≤ a ∧ a < o + 33) : gF o M M1 := ⟨h.2.1, fun a k _ => h.I a k, fun a k e => h.2.2 a k (fun x => by have := hp a x; omega)⟩
/-- a loop of the model that lays longs by a rule -/
theorem w7_cb2 {o q : Nat} {x2 : Int32} {M : MM} {w : Nat → Int64} {X : MM → Prop} (hL : ML o M) (hq : q < 500) (hw : aL o 22 M = w) (h : ∀ M', fL (fun a => a = o + 24) M M' → (∀ f, f < 25 → aL o 24 M' f = dlt (q / 20) (w q) f) → X M') : ∃ n, wl_X7_comesBy_2 o (nI q) x2 X n M (nI 0) := by
  refine cl_ (fun n M1 i => wl_X7_comesBy_2 o (nI q) x2 X n M1 (nI i)) (fun i M1 => fL (fun a => a = o + 24) M M1 ∧ ∀ f, f < i → aL o 24 M1 f = dlt (q / 20) (w q) f) 25 ?_ ?_ M 0 (by omega) ⟨fL.rf, fun f hf => by omega⟩
  · intro n i M1 hi ⟨hF, hr⟩ hs'
    have h1 : ML o M1 := ML_of hF.2.1 hL
    have hw1 : aL o 22 M1 = w := (funext fun k => hF.2.2 _ _ (by omega)).trans hw
    show wl_X7_comesBy_2 o (nI q) x2 X (n + 1) M1 (nI i)
    unfold wl_X7_comesBy_2
    rw [if_neg (show ¬ (24 : Int32) < nI i from (show ¬ nI 24 < nI i from nI_nlt (by omega) (by omega)))]
    have hd : nI q / (20 : Int32) = nI (q / 20) := (show nI q / nI 20 = _ from pk_div (by omega) (by omega) (by omega))
    unfold wb_X7_comesBy_31
    simp (disch := first | assumption | omega) only [mgR_sI, mgR_sL, mkd_sI, mkd_sL, mln_sI, mln_sL, Option.some.injEq, exists_eq_left', forall_eq, true_and, and_true, Nat.reduceLT, exists_eq_left, ML_r0, ML_k1, ML_l1, ML_r1, ML_k2, ML_l2, ML_r2, ML_k3, ML_l3, ML_r3, ML_k4, ML_l4, ML_r13, ML_k5, ML_l5, ML_r14, ML_k6, ML_l6, ML_r15, ML_k7, ML_l7, ML_r16, ML_k8, ML_l8, ML_r17, ML_k9, ML_l9, ML_r18, ML_k10, ML_l10, ML_r19, ML_k11, ML_l11, ML_r20, ML_k12, ML_l12, ML_r21, ML_k13, ML_l13, ML_r22, ML_k14, ML_l14, ML_r23, ML_k15, ML_l15, ML_r24, ML_k16, ML_l16, ML_r25, ML_k17, ML_l17, ML_r26, ML_k18, ML_l18, ML_r30, ML_k19, ML_l19, ML_r35, ML_k20, ML_l20, ML_r36, ML_k21, ML_l21, ML_r37, ML_k22, ML_l22, ML_r38, ML_k23, ML_l23, ML_r40, ML_k24, ML_l24, ML_r41, ML_k25, ML_l25, ML_r42, ML_k26, ML_l26, ML_r43, ML_k27, ML_l27, ML_r44, ML_k28, ML_l28, ML_r45, ML_k29, ML_l29, ML_r48, ML_k30, ML_l30, ML_r51, ML_k31, ML_l31, ML_r52, ML_k32, ML_l32, ia0, ia4, ia8, ia12, ia16, ia20, ia24, ia52, ia60, ia68, im7, im14, ap6, iaN, ap1, ixN, vpN, hd, aLE (o := o) (c := 22), hw1]
    have fin : ∀ v, v = dlt (q / 20) (w q) i → wl_X7_comesBy_2 o (nI q) x2 X n (msL M1 (o + 24) i v) (nI (i + 1)) := by
      intro v hv
      refine hs' _ ⟨hF.s rfl, fun f hf => ?_⟩
      rw [aL_s, if_pos rfl]
      unfold upL
      by_cases e : f = i
      · rw [if_pos e, hv, e]
      · rw [if_neg e]; exact hr f (by omega)
    by_cases e : i = q / 20
    · rw [if_pos (by rw [e])]
      exact fin _ (by unfold dlt; rw [if_pos e])
    · rw [if_neg (fun x => e ((nI_eq (by omega) (by omega)).mp x))]
      exact fin _ (by unfold dlt; rw [if_neg e])
  · intro n M1 ⟨hF, hr⟩
    show wl_X7_comesBy_2 o (nI q) x2 X (n + 1) M1 (nI 25)
    unfold wl_X7_comesBy_2
    rw [if_pos (show (24 : Int32) < nI 25 from by decide)]
    exact h M1 hF hr
theorem w7_cb48 {o i : Nat} {x1 x2 : Int32} {M : MM} {V : Nat → Int64} {t : Int32} {X : MM → Prop} (hL : ML o M) (hi8 : i < 8) (hV : aL o 24 M = V) (ht : ar o 21 M i = t) (h : ∀ M', fL (fun a => a = o + 25) M M' → (∀ f, f < 25 → aL o 25 M' f = V f * (10 - t).toInt64) → X M') : ∃ n, wl_X7_comesBy_48 o x1 x2 (nI i) X n M (nI 0) := by
  refine cl_ (fun n M1 j => wl_X7_comesBy_48 o x1 x2 (nI i) X n M1 (nI j)) (fun j M1 => fL (fun a => a = o + 25) M M1 ∧ ∀ f, f < j → aL o 25 M1 f = V f * (10 - t).toInt64) 25 ?_ ?_ M 0 (by omega) ⟨fL.rf, fun f hf => by omega⟩
  · intro n j M1 hj ⟨hF, hr⟩ hs'
    have h1 : ML o M1 := ML_of hF.2.1 hL
    have hV1 : aL o 24 M1 = V := (funext fun k => hF.2.2 _ _ (by omega)).trans hV
    have ht1 : ar o 21 M1 i = t := (hF.I _ _).trans ht
    show wl_X7_comesBy_48 o x1 x2 (nI i) X (n + 1) M1 (nI j)
    unfold wl_X7_comesBy_48
    rw [if_neg (show ¬ (24 : Int32) < nI j from (show ¬ nI 24 < nI j from nI_nlt (by omega) (by omega)))]
    simp (disch := first | assumption | omega) only [mgR_sI, mgR_sL, mkd_sI, mkd_sL, mln_sI, mln_sL, Option.some.injEq, exists_eq_left', forall_eq, true_and, and_true, Nat.reduceLT, exists_eq_left, ML_r0, ML_k1, ML_l1, ML_r1, ML_k2, ML_l2, ML_r2, ML_k3, ML_l3, ML_r3, ML_k4, ML_l4, ML_r13, ML_k5, ML_l5, ML_r14, ML_k6, ML_l6, ML_r15, ML_k7, ML_l7, ML_r16, ML_k8, ML_l8, ML_r17, ML_k9, ML_l9, ML_r18, ML_k10, ML_l10, ML_r19, ML_k11, ML_l11, ML_r20, ML_k12, ML_l12, ML_r21, ML_k13, ML_l13, ML_r22, ML_k14, ML_l14, ML_r23, ML_k15, ML_l15, ML_r24, ML_k16, ML_l16, ML_r25, ML_k17, ML_l17, ML_r26, ML_k18, ML_l18, ML_r30, ML_k19, ML_l19, ML_r35, ML_k20, ML_l20, ML_r36, ML_k21, ML_l21, ML_r37, ML_k22, ML_l22, ML_r38, ML_k23, ML_l23, ML_r40, ML_k24, ML_l24, ML_r41, ML_k25, ML_l25, ML_r42, ML_k26, ML_l26, ML_r43, ML_k27, ML_l27, ML_r44, ML_k28, ML_l28, ML_r45, ML_k29, ML_l29, ML_r48, ML_k30, ML_l30, ML_r51, ML_k31, ML_l31, ML_r52, ML_k32, ML_l32, ia0, ia4, ia8, ia12, ia16, ia20, ia24, ia52, ia60, ia68, im7, im14, ap6, iaN, ap1, ixN, vpN, aLE (o := o) (c := 24), hV1, arE (o := o) (c := 21), ht1]
    refine hs' _ ⟨hF.s rfl, fun f hf => ?_⟩
    rw [aL_s, if_pos rfl]
    unfold upL
    by_cases e : f = j
    · rw [if_pos e, e]
    · rw [if_neg e]; exact hr f (by omega)
  · intro n M1 ⟨hF, hr⟩
    show wl_X7_comesBy_48 o x1 x2 (nI i) X (n + 1) M1 (nI 25)
    unfold wl_X7_comesBy_48
    rw [if_pos (show (24 : Int32) < nI 25 from by decide)]
    exact h M1 hF hr
theorem w7_cb186 {o i : Nat} {x1 x2 : Int32} {M : MM} {V : Nat → Int64} {X : MM → Prop} (hL : ML o M) (hV : aL o 25 M = V) (h : ∀ M', fL (fun a => a = o + 24) M M' → (∀ f, f < 25 → aL o 24 M' f = V f) → X M') : ∃ n, wl_X7_comesBy_186 o x1 x2 (nI i) X n M (nI 0) := by
  refine cl_ (fun n M1 j => wl_X7_comesBy_186 o x1 x2 (nI i) X n M1 (nI j)) (fun j M1 => fL (fun a => a = o + 24) M M1 ∧ ∀ f, f < j → aL o 24 M1 f = V f) 25 ?_ ?_ M 0 (by omega) ⟨fL.rf, fun f hf => by omega⟩
  · intro n j M1 hj ⟨hF, hr⟩ hs'
    have h1 : ML o M1 := ML_of hF.2.1 hL
    have hV1 : aL o 25 M1 = V := (funext fun k => hF.2.2 _ _ (by omega)).trans hV
    show wl_X7_comesBy_186 o x1 x2 (nI i) X (n + 1) M1 (nI j)
    unfold wl_X7_comesBy_186
    rw [if_neg (show ¬ (24 : Int32) < nI j from (show ¬ nI 24 < nI j from nI_nlt (by omega) (by omega)))]
    simp (disch := first | assumption | omega) only [mgR_sI, mgR_sL, mkd_sI, mkd_sL, mln_sI, mln_sL, Option.some.injEq, exists_eq_left', forall_eq, true_and, and_true, Nat.reduceLT, exists_eq_left, ML_r0, ML_k1, ML_l1, ML_r1, ML_k2, ML_l2, ML_r2, ML_k3, ML_l3, ML_r3, ML_k4, ML_l4, ML_r13, ML_k5, ML_l5, ML_r14, ML_k6, ML_l6, ML_r15, ML_k7, ML_l7, ML_r16, ML_k8, ML_l8, ML_r17, ML_k9, ML_l9, ML_r18, ML_k10, ML_l10, ML_r19, ML_k11, ML_l11, ML_r20, ML_k12, ML_l12, ML_r21, ML_k13, ML_l13, ML_r22, ML_k14, ML_l14, ML_r23, ML_k15, ML_l15, ML_r24, ML_k16, ML_l16, ML_r25, ML_k17, ML_l17, ML_r26, ML_k18, ML_l18, ML_r30, ML_k19, ML_l19, ML_r35, ML_k20, ML_l20, ML_r36, ML_k21, ML_l21, ML_r37, ML_k22, ML_l22, ML_r38, ML_k23, ML_l23, ML_r40, ML_k24, ML_l24, ML_r41, ML_k25, ML_l25, ML_r42, ML_k26, ML_l26, ML_r43, ML_k27, ML_l27, ML_r44, ML_k28, ML_l28, ML_r45, ML_k29, ML_l29, ML_r48, ML_k30, ML_l30, ML_r51, ML_k31, ML_l31, ML_r52, ML_k32, ML_l32, ia0, ia4, ia8, ia12, ia16, ia20, ia24, ia52, ia60, ia68, im7, im14, ap6, iaN, ap1, ixN, vpN, aLE (o := o) (c := 25), hV1]
    refine hs' _ ⟨hF.s rfl, fun f hf => ?_⟩
    rw [aL_s, if_pos rfl]
    unfold upL
    by_cases e : f = j
    · rw [if_pos e, e]
    · rw [if_neg e]; exact hr f (by omega)
  · intro n M1 ⟨hF, hr⟩
    show wl_X7_comesBy_186 o x1 x2 (nI i) X (n + 1) M1 (nI 25)
    unfold wl_X7_comesBy_186
    rw [if_pos (show (24 : Int32) < nI 25 from by decide)]
    exact h M1 hF hr
