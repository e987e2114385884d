/-! the model: who comes from one state, the sun, all days -/
set_option maxRecDepth 100000
def dF (o : Nat) (M M' : MM) : Prop := M'.2.2 = M.2.2 ∧ (∀ a k, a ≠ o + 17 → a ≠ o + 18 → mgI M' a k = mgI M a k) ∧ ∀ a k, (a < o + 22 ∨ o + 26 ≤ a) → ¬ (a = o ∧ k = 39) → mgL M' a k = mgL M a k
theorem dF.rf {o : Nat} {M : MM} : dF o M M := ⟨rfl, fun _ _ _ _ => rfl, fun _ _ _ _ => rfl⟩
theorem dF.tr {o : Nat} {M M1 M2 : MM} (h : dF o M M1) (g : dF o M1 M2) : dF o M M2 := ⟨g.1.trans h.1, fun a k e1 e2 => (g.2.1 a k e1 e2).trans (h.2.1 a k e1 e2), fun a k e1 e2 => (g.2.2 a k e1 e2).trans (h.2.2 a k e1 e2)⟩
theorem fI.d {o : Nat} {M M1 : MM} (h : fI (fun a _ => a = o + 17 ∨ a = o + 18) M M1) : dF o M M1 := ⟨h.e, fun a k e1 e2 => h.2 a k (fun e => e.elim e1 e2), fun a k _ _ => h.L a k⟩
theorem fI.d18 {o : Nat} {M M1 : MM} (h : fI (fun a _ => a = o + 18) M M1) : dF o M M1 := (h.mono (Q := fun a _ => a = o + 17 ∨ a = o + 18) (fun a k e => Or.inr e)).d
theorem fI.d17 {o : Nat} {M M1 : MM} (h : fI (fun a _ => a = o + 17) M M1) : dF o M M1 := (h.mono (Q := fun a _ => a = o + 17 ∨ a = o + 18) (fun a k e => Or.inl e)).d
theorem fL.d {o : Nat} {P : Nat → Prop} {M M1 : MM} (h : fL P M M1) (hp : ∀ a, P a → o + 22 ≤ a ∧ a < o + 26) : dF o M M1 := ⟨h.2.1, fun a k _ _ => h.I a k, fun a k e _ => h.2.2 a k (fun x => by have := hp a x; omega)⟩
theorem dF.sL {o c k : Nat} {M M1 : MM} {v : Int64} (h : dF o M M1) (hc : 22 ≤ c ∧ c < 26) : dF o M (msL M1 (o + c) k v) := ⟨h.1, h.2.1, fun a j e1 e2 => by rw [mgL_sL, if_neg (by omega)]; exact h.2.2 a j e1 e2⟩
theorem dF.s39 {o : Nat} {M M1 : MM} {v : Int64} (h : dF o M M1) : dF o M (msL M1 o 39 v) := ⟨h.1, h.2.1, fun a j e1 e2 => by rw [mgL_sL, if_neg (by omega)]; exact h.2.2 a j e1 e2⟩
theorem dF.ar {o c : Nat} {M M1 : MM} (h : dF o M M1) (hc : c ≠ 17 ∧ c ≠ 18) : ar o c M1 = ar o c M := funext fun k => h.2.1 _ _ (by omega) (by omega)
theorem dF.g {o : Nat} {M M1 : MM} (h : dF o M M1) : gF o M M1 := ⟨h.1, fun a k e => h.2.1 a k (fun x => e (by unfold PSc; omega)) (fun x => e (by unfold PSc; omega)), fun a k e => h.2.2 a k (by omega) (by omega)⟩
def dC (o : Nat) (M M' : MM) : Prop := M'.2.2 = M.2.2 ∧ (∀ a k, a ≠ o + 17 → a ≠ o + 18 → mgI M' a k = mgI M a k) ∧ ∀ a k, (a < o + 24 ∨ o + 26 ≤ a) → mgL M' a k = mgL M a k
theorem dC.rf {o : Nat} {M : MM} : dC o M M := ⟨rfl, fun _ _ _ _ => rfl, fun _ _ _ => rfl⟩
theorem dC.tr {o : Nat} {M M1 M2 : MM} (h : dC o M M1) (g : dC o M1 M2) : dC o M M2 := ⟨g.1.trans h.1, fun a k e1 e2 => (g.2.1 a k e1 e2).trans (h.2.1 a k e1 e2), fun a k e1 => (g.2.2 a k e1).trans (h.2.2 a k e1)⟩
theorem fI.c {o : Nat} {M M1 : MM} (h : fI (fun a _ => a = o + 17 ∨ a = o + 18) M M1) : dC o M M1 := ⟨h.e, fun a k e1 e2 => h.2 a k (fun e => e.elim e1 e2), fun a k _ => h.L a k⟩
theorem fI.c18 {o : Nat} {M M1 : MM} (h : fI (fun a _ => a = o + 18) M M1) : dC o M M1 := (h.mono (Q := fun a _ => a = o + 17 ∨ a = o + 18) (fun a k e => Or.inr e)).c
theorem fI.c17 {o : Nat} {M M1 : MM} (h : fI (fun a _ => a = o + 17) M M1) : dC o M M1 := (h.mono (Q := fun a _ => a = o + 17 ∨ a = o + 18) (fun a k e => Or.inl e)).c
theorem fL.c {o : Nat} {P : Nat → Prop} {M M1 : MM} (h : fL P M M1) (hp : ∀ a, P a → o + 24 ≤ a ∧ a < o + 26) : dC o M M1 := ⟨h.2.1, fun a k _ _ => h.I a k, fun a k e => h.2.2 a k (fun x => by have := hp a x; omega)⟩
theorem dC.sL {o c k : Nat} {M M1 : MM} {v : Int64} (h : dC o M M1) (hc : 24 ≤ c ∧ c < 26) : dC o M (msL M1 (o + c) k v) := ⟨h.1, h.2.1, fun a j e1 => by rw [mgL_sL, if_neg (by omega)]; exact h.2.2 a j e1⟩
theorem dC.ar {o c : Nat} {M M1 : MM} (h : dC o M M1) (hc : c ≠ 17 ∧ c ≠ 18) : ar o c M1 = ar o c M := funext fun k => h.2.1 _ _ (by omega) (by omega)
theorem dC.d {o : Nat} {M M1 : MM} (h : dC o M M1) : dF o M M1 := ⟨h.1, h.2.1, fun a k e _ => h.2.2 a k (by omega)⟩
/-- what stands while weights are laid: the plant, what was seen, one rule for all, who comes, the row -/
def DPc (o : Nat) (M : MM) (l : Nat) (th rc rb : Int32) (who : Nat → Nat) (tn : Nat → Int32) (m : Nat) (s : Nat → Int32) (T : Nat → Txt) : Prop :=
  ML o M ∧ TM o M T ∧ ar o 1 M = s ∧ mgI M o 33 = nI l ∧ mgI M o 34 = th ∧ mgI M o 31 = rc ∧ (rc = -1 ∨ mgI M o 32 = rb) ∧ ∀ i, i < m → ar o 20 M i = nI (who i) ∧ ar o 21 M i = tn i
theorem DPc.d {o : Nat} {M M1 : MM} {l : Nat} {th rc rb : Int32} {who : Nat → Nat} {tn : Nat → Int32} {m : Nat} {s : Nat → Int32} {T : Nat → Txt} (h : DPc o M l th rc rb who tn m s T) (hF : dF o M M1) : DPc o M1 l th rc rb who tn m s T := by
  obtain ⟨h1, h2, h3, h4, h5, h6, h7, h8⟩ := h
  refine ⟨ML_of hF.1 h1, h2.of (fun c a b k => hF.2.1 _ _ (by omega) (by omega)), (hF.ar (by omega)).trans h3, (hF.2.1 _ _ (by omega) (by omega)).trans h4, (hF.2.1 _ _ (by omega) (by omega)).trans h5, (hF.2.1 _ _ (by omega) (by omega)).trans h6, h7.imp id (fun h7 => (hF.2.1 _ _ (by omega) (by omega)).trans h7), fun i hi => ?_⟩
  rw [hF.ar (c := 20) (by omega), hF.ar (c := 21) (by omega)]
  exact h8 i hi
theorem mi_nI {a b : Nat} (ha : a < 2147483648) (hb : b < 2147483648) : mi_ (nI a) (nI b) = nI (min a b) := by
  unfold mi_
  by_cases e : b ≤ a
  · rw [if_pos (nI_le e ha), Nat.min_eq_right e]
  · rw [if_neg (nI_ge (by omega) hb), Nat.min_eq_left (by omega)]
theorem ma_sub {a b : Nat} (ha : a < 1000000) (hb : b < 1000000) : ma_ 0 (nI a - nI b) = nI (a - b) := by
  unfold ma_
  by_cases e : b ≤ a
  · rw [pk_sub e, if_pos (nI_pos' (by omega))]
  · have h := pk_sneg (a := a) (b := b) (by omega) (by omega)
    rw [if_neg (fun x => by rw [Int32.lt_iff_toInt_lt] at h; rw [Int32.le_iff_toInt_le] at x; omega), show a - b = 0 by omega]; rfl
theorem cuS_nI {T : Nat → Txt} {s : Nat → Int32} {l : Nat} {th rc rb : Int32} {p : Nat} {tn : Int32} {k f : Nat} (h : rc = -1 ∨ ∃ r, r ≤ 9 ∧ rc = nI r) : ∃ g, g ≤ 9 ∧ cuS T s l th rc rb p tn k f = nI g := by
  unfold cuS
  by_cases e : rc = -1
  · rw [if_pos e]; exact by9
  · rw [if_neg e]
    split
    · exact ⟨0, by omega, rfl⟩
    · rcases h with h | h
      · exact absurd h e
      · exact h
/-- to how wet one who comes brings it -/
def toN (T : Nat → Txt) (s : Nat → Int32) (l : Nat) (th rc rb : Int32) (p : Nat) (tn : Int32) (pot k f : Nat) : Nat := min pot (f + ix_ (cuS T s l th rc rb p tn k f))
theorem w7_cb89 {o l q i m : Nat} {th rc rb x2 : Int32} {who : Nat → Nat} {tn : Nat → Int32} {pot : Nat} {M : MM} {T : Nat → Txt} {s : Nat → Int32} {V : Nat → Int64} {u : Int64} {X : MM → Prop} (hD : DPc o M l th rc rb who tn m s T) (hl : l < 4) (hq : q < 500) (hr : RuOk s) (hrc : rc = -1 ∨ ∃ r, r ≤ 9 ∧ rc = nI r) (hpot : s l = nI pot) (hpot2 : pot ≤ 24) (him : i < m) (hi8 : i < 8) (hwho : who i < 8) (hV : aL o 24 M = V) (hW : ∀ f, f < 25 → aL o 25 M f = V f * u)
    (h : ∀ M', dC o M M' → (∀ f, f < 25 → aL o 24 M' f = V f) → (∀ f, f < 25 → aL o 25 M' f = colV (tn i).toInt64 u (toN T s l th rc rb (who i) (tn i) pot (q % 20)) V f) → X M') : ∃ n, wl_X7_comesBy_89 o (nI q) x2 (nI i) X n M (nI 0) := by
  refine cl_ (fun n M1 j => wl_X7_comesBy_89 o (nI q) x2 (nI i) X n M1 (nI j)) (fun j M1 => dC o M M1 ∧ aL o 24 M1 = V ∧ ∀ f, f < 25 → aL o 25 M1 f = V f * u + sm j (fun g => if toN T s l th rc rb (who i) (tn i) pot (q % 20) g = f then V g * (tn i).toInt64 else 0)) 25 ?_ ?_ M 0 (by omega) ⟨dC.rf, hV, fun f hf => ?_⟩
  · intro n j M1 hj ⟨hF, hV1, hW1⟩ hs'
    have hD1 := hD.d hF.d
    obtain ⟨h1, h2, h3, h4, h5, h6, h7, h8⟩ := hD1
    obtain ⟨h8a, h8b⟩ := h8 i him
    show wl_X7_comesBy_89 o (nI q) x2 (nI i) X (n + 1) M1 (nI j)
    unfold wl_X7_comesBy_89
    rw [if_neg (show ¬ (24 : Int32) < nI j from (show ¬ nI 24 < nI j from nI_nlt (by omega) (by omega)))]
    have skip : (V j = 0 ∨ tn i = 0) → wl_X7_comesBy_89 o (nI q) x2 (nI i) X n M1 (nI (j + 1)) := by
      intro e
      refine hs' M1 ⟨hF, hV1, fun f hf => ?_⟩
      rw [hW1 f hf]
      show _ = V f * u + (sm j _ + _)
      have z : V j * (tn i).toInt64 = 0 := by
        rcases e with e | e
        · rw [e, Int64.zero_mul]
        · rw [e]; exact Int64.mul_zero
      dsimp only
      rw [z]
      simp
    simp (disch := first | assumption | omega) only [mgR_sI, mgR_sL, mkd_sI, mkd_sL, mln_sI, mln_sL, Option.some.injEq, exists_eq_left', forall_eq, true_and, and_true, Nat.reduceLT, exists_eq_left, ML_r0, ML_k1, ML_l1, ML_r1, ML_k2, ML_l2, ML_r2, ML_k3, ML_l3, ML_r3, ML_k4, ML_l4, ML_r13, ML_k5, ML_l5, ML_r14, ML_k6, ML_l6, ML_r15, ML_k7, ML_l7, ML_r16, ML_k8, ML_l8, ML_r17, ML_k9, ML_l9, ML_r18, ML_k10, ML_l10, ML_r19, ML_k11, ML_l11, ML_r20, ML_k12, ML_l12, ML_r21, ML_k13, ML_l13, ML_r22, ML_k14, ML_l14, ML_r23, ML_k15, ML_l15, ML_r24, ML_k16, ML_l16, ML_r25, ML_k17, ML_l17, ML_r26, ML_k18, ML_l18, ML_r30, ML_k19, ML_l19, ML_r35, ML_k20, ML_l20, ML_r36, ML_k21, ML_l21, ML_r37, ML_k22, ML_l22, ML_r38, ML_k23, ML_l23, ML_r40, ML_k24, ML_l24, ML_r41, ML_k25, ML_l25, ML_r42, ML_k26, ML_l26, ML_r43, ML_k27, ML_l27, ML_r44, ML_k28, ML_l28, ML_r45, ML_k29, ML_l29, ML_r48, ML_k30, ML_l30, ML_r51, ML_k31, ML_l31, ML_r52, ML_k32, ML_l32, ia0, ia4, ia8, ia12, ia16, ia20, ia24, ia52, ia60, ia68, im7, im14, ap6, iaN, ap1, ixN, vpN, aLE (o := o) (c := 24), hV1, arE (o := o) (c := 21), h8b]
    by_cases e1 : V j = 0
    · rw [if_pos e1]; exact skip (Or.inl e1)
    rw [if_neg e1]
    by_cases e2 : tn i = 0
    · rw [if_pos e2]; exact skip (Or.inr e2)
    rw [if_neg e2, h4]
    simp (disch := first | assumption | omega) only [mgR_sI, mgR_sL, mkd_sI, mkd_sL, mln_sI, mln_sL, Option.some.injEq, exists_eq_left', forall_eq, true_and, and_true, Nat.reduceLT, exists_eq_left, ML_r0, ML_k1, ML_l1, ML_r1, ML_k2, ML_l2, ML_r2, ML_k3, ML_l3, ML_r3, ML_k4, ML_l4, ML_r13, ML_k5, ML_l5, ML_r14, ML_k6, ML_l6, ML_r15, ML_k7, ML_l7, ML_r16, ML_k8, ML_l8, ML_r17, ML_k9, ML_l9, ML_r18, ML_k10, ML_l10, ML_r19, ML_k11, ML_l11, ML_r20, ML_k12, ML_l12, ML_r21, ML_k13, ML_l13, ML_r22, ML_k14, ML_l14, ML_r23, ML_k15, ML_l15, ML_r24, ML_k16, ML_l16, ML_r25, ML_k17, ML_l17, ML_r26, ML_k18, ML_l18, ML_r30, ML_k19, ML_l19, ML_r35, ML_k20, ML_l20, ML_r36, ML_k21, ML_l21, ML_r37, ML_k22, ML_l22, ML_r38, ML_k23, ML_l23, ML_r40, ML_k24, ML_l24, ML_r41, ML_k25, ML_l25, ML_r42, ML_k26, ML_l26, ML_r43, ML_k27, ML_l27, ML_r44, ML_k28, ML_l28, ML_r45, ML_k29, ML_l29, ML_r48, ML_k30, ML_l30, ML_r51, ML_k31, ML_l31, ML_r52, ML_k32, ML_l32, ia0, ia4, ia8, ia12, ia16, ia20, ia24, ia52, ia60, ia68, im7, im14, ap6, iaN, ap1, ixN, vpN, arE (o := o) (c := 1), h3, hpot]
    refine w7_cupsIn (T := T) h1 h2 hl h3 hr h4 h5 h6 h7 hi8 h8a hwho h8b hq (fun M2 hF2 => ?_)
    have hF02 := hF.tr hF2.c
    have hV2 : aL o 24 M2 = V := (funext fun k => hF2.L _ _).trans hV1
    have hW2 : aL o 25 M2 = aL o 25 M1 := funext fun k => hF2.L _ _
    have hL2 : ML o M2 := ML_of hF2.e h1
    have h8b2 : ar o 21 M2 i = tn i := by rw [hF2.c.ar (c := 21) (by omega)]; exact h8b
    obtain ⟨g, hg1, hg2⟩ := cuS_nI (T := T) (s := s) (l := l) (th := th) (rb := rb) (p := who i) (tn := tn i) (k := q % 20) (f := j) hrc
    have hto : toN T s l th rc rb (who i) (tn i) pot (q % 20) j = min pot (j + g) := by unfold toN; rw [hg2, ixN (by omega)]
    have hmn : min pot (j + g) < 25 := by have := Nat.min_le_left pot (j + g); omega
    rw [hg2, iaN, w7_min, mi_nI (by omega) (by omega)]
    simp (disch := first | assumption | omega) only [mgR_sI, mgR_sL, mkd_sI, mkd_sL, mln_sI, mln_sL, Option.some.injEq, exists_eq_left', forall_eq, true_and, and_true, Nat.reduceLT, exists_eq_left, ML_r0, ML_k1, ML_l1, ML_r1, ML_k2, ML_l2, ML_r2, ML_k3, ML_l3, ML_r3, ML_k4, ML_l4, ML_r13, ML_k5, ML_l5, ML_r14, ML_k6, ML_l6, ML_r15, ML_k7, ML_l7, ML_r16, ML_k8, ML_l8, ML_r17, ML_k9, ML_l9, ML_r18, ML_k10, ML_l10, ML_r19, ML_k11, ML_l11, ML_r20, ML_k12, ML_l12, ML_r21, ML_k13, ML_l13, ML_r22, ML_k14, ML_l14, ML_r23, ML_k15, ML_l15, ML_r24, ML_k16, ML_l16, ML_r25, ML_k17, ML_l17, ML_r26, ML_k18, ML_l18, ML_r30, ML_k19, ML_l19, ML_r35, ML_k20, ML_l20, ML_r36, ML_k21, ML_l21, ML_r37, ML_k22, ML_l22, ML_r38, ML_k23, ML_l23, ML_r40, ML_k24, ML_l24, ML_r41, ML_k25, ML_l25, ML_r42, ML_k26, ML_l26, ML_r43, ML_k27, ML_l27, ML_r44, ML_k28, ML_l28, ML_r45, ML_k29, ML_l29, ML_r48, ML_k30, ML_l30, ML_r51, ML_k31, ML_l31, ML_r52, ML_k32, ML_l32, ia0, ia4, ia8, ia12, ia16, ia20, ia24, ia52, ia60, ia68, im7, im14, ap6, iaN, ap1, ixN, vpN, aLE (o := o) (c := 24), aLE (o := o) (c := 25), hV2, hW2, arE (o := o) (c := 21), h8b2]
    refine hs' _ ⟨hF02.sL (by omega), ?_, fun f hf => ?_⟩
    · rw [aL_s, if_neg (by omega)]; exact hV2
    · rw [aL_s, if_pos rfl, hW2]
      show upL _ _ _ f = V f * u + (sm j _ + if toN T s l th rc rb (who i) (tn i) pot (q % 20) j = f then V j * (tn i).toInt64 else 0)
      rw [hto]
      unfold upL
      by_cases e : f = min pot (j + g)
      · rw [if_pos e, if_pos e.symm, ← Int64.add_assoc, ← hW1 f hf, e]
      · rw [if_neg e, if_neg (fun x => e x.symm), Int64.add_zero]; exact hW1 f hf
  · intro n M1 ⟨hF, hV1, hW1⟩
    show wl_X7_comesBy_89 o (nI q) x2 (nI i) X (n + 1) M1 (nI 25)
    unfold wl_X7_comesBy_89
    rw [if_pos (show (24 : Int32) < nI 25 from by decide)]
    refine h M1 hF (fun f hf => by rw [hV1]) (fun f hf => ?_)
    rw [hW1 f hf]
    unfold colV
    rw [sm_add, sm_delta (g := fun g => V g * u) hf, Int64.add_comm]
  · rw [hW f hf]; show _ = _ + (0 : Int64); rw [Int64.add_zero]
theorem w7_cb40 {o l q m : Nat} {th rc rb : Int32} {who : Nat → Nat} {tn : Nat → Int32} {pot : Nat} {M : MM} {T : Nat → Txt} {s : Nat → Int32} {V : Nat → Int64} {X : MM → Prop} (hD : DPc o M l th rc rb who tn m s T) (hl : l < 4) (hq : q < 500) (hr : RuOk s) (hrc : rc = -1 ∨ ∃ r, r ≤ 9 ∧ rc = nI r) (hpot : s l = nI pot) (hpot2 : pot ≤ 24) (hm8 : m ≤ 8) (hwho : ∀ i, i < m → who i < 8) (hV : ∀ f, f < 25 → aL o 24 M f = V f)
    (h : ∀ M', dC o M M' → (∀ f, f < 25 → aL o 24 M' f = pV (fun i => (tn i).toInt64) (fun i => (10 - tn i).toInt64) (fun i => toN T s l th rc rb (who i) (tn i) pot (q % 20)) m V f) → X M') : ∃ n, wl_X7_comesBy_40 o (nI q) (nI m) X n M (nI 0) := by
  refine cl_ (fun n M1 j => wl_X7_comesBy_40 o (nI q) (nI m) X n M1 (nI j)) (fun j M1 => dC o M M1 ∧ ∀ f, f < 25 → aL o 24 M1 f = pV (fun i => (tn i).toInt64) (fun i => (10 - tn i).toInt64) (fun i => toN T s l th rc rb (who i) (tn i) pot (q % 20)) j V f) m ?_ ?_ M 0 (by omega) ⟨dC.rf, hV⟩
  · intro n j M1 hj ⟨hF, hV1⟩ hs'
    have hD1 := hD.d hF.d
    obtain ⟨h8a, h8b⟩ := hD1.2.2.2.2.2.2.2 j hj
    show wl_X7_comesBy_40 o (nI q) (nI m) X (n + 1) M1 (nI j)
    unfold wl_X7_comesBy_40
    rw [if_neg (nI_ge hj (by omega))]
    refine w7_cb48 hD1.1 (by omega) rfl h8b (fun M2 hF2 hW2 => ?_)
    have hd2 : dC o M1 M2 := hF2.c (fun a e => by omega)
    have e24 : aL o 24 M2 = aL o 24 M1 := funext fun k => hF2.2.2 _ _ (by omega)
    refine w7_cb89 (M := M2) (V := aL o 24 M1) (u := (10 - tn j).toInt64) (hD1.d hd2.d) hl hq hr hrc hpot hpot2 hj (by omega) (hwho j hj) e24 hW2 (fun M3 hF3 _ hW3 => ?_)
    have hd3 := hd2.tr hF3
    refine w7_cb186 (hD1.d hd3.d).1 rfl (fun M4 hF4 hW4 => ?_)
    have hd4 := hd3.tr (hF4.c (fun a e => by omega))
    simp only [forall_eq, ap1]
    refine hs' M4 ⟨hF.tr hd4, fun f hf => ?_⟩
    rw [hW4 f hf, hW3 f hf]
    exact congrFun (colV_congr hV1) f
  · intro n M1 ⟨hF, hV1⟩
    show wl_X7_comesBy_40 o (nI q) (nI m) X (n + 1) M1 (nI m)
    unfold wl_X7_comesBy_40
    rw [if_pos (nI_le (Nat.le_refl _) (by omega))]
    exact h M1 hF hV1
theorem w7_comesBy {o l q m : Nat} {th rc rb : Int32} {who : Nat → Nat} {tn : Nat → Int32} {pot : Nat} {M : MM} {T : Nat → Txt} {s : Nat → Int32} {w : Nat → Int64} {Post : MM → Prop} (hD : DPc o M l th rc rb who tn m s T) (hl : l < 4) (hq : q < 500) (hr : RuOk s) (hrc : rc = -1 ∨ ∃ r, r ≤ 9 ∧ rc = nI r) (hpot : s l = nI pot) (hpot2 : pot ≤ 24) (hm8 : m ≤ 8) (hwho : ∀ i, i < m → who i < 8) (hw : aL o 22 M = w)
    (h : ∀ M', dC o M M' → (∀ f, f < 25 → aL o 24 M' f = pV (fun i => (tn i).toInt64) (fun i => (10 - tn i).toInt64) (fun i => toN T s l th rc rb (who i) (tn i) pot (q % 20)) m (dlt (q / 20) (w q)) f) → Post M') : wp_X7_comesBy M o (nI q) (nI m) Post := by
  unfold wp_X7_comesBy
  refine w7_cb2 hD.1 hq hw (fun M1 hF1 hV1 => ?_)
  have hd1 : dC o M M1 := hF1.c (fun a e => by omega)
  exact w7_cb40 (hD.d hd1.d) hl hq hr hrc hpot hpot2 hm8 hwho hV1 (fun M2 hF2 hV2 => h M2 (hd1.tr hF2) hV2)
/-- where the end of a day brings it: 500 is dead -/
def deN (pot br less f k : Nat) : Nat :=
  let w := f - less
  let d := if w = 0 then dryN k + 1 else 0
  let r := if w = pot then drnN k + 1 else 0
  if br ≤ d ∨ br ≤ r then 500 else 20 * w + (if 0 < r then 10 + r else d)
def leN (T : Nat → Txt) (s : Nat → Int32) (l : Nat) (th : Int32) (sn f k : Nat) : Nat :=
  ix_ (byS (T 0) 101 9 (fcX s l th f k)) + (if sn = 0 then 0 else ix_ (byS (T 0) 104 9 (fcX s l th f k)))
/-- weights and the dead in one row -/
def wdE (o : Nat) (M : MM) (A : Nat → Int64) : Prop := (∀ k, k < 500 → aL o 23 M k = A k) ∧ mgL M o 39 = A 500
theorem w7_stateOf {M : MM} {w d r : Nat} {Post : Int32 → MM → Prop} (hw : w < 1000) (hd : d < 1000) (hr : r < 1000) (h : Post (nI (20 * w + if 0 < r then 10 + r else d)) M) : wp_X7_stateOf M (nI w) (nI d) (nI r) Post := by
  have g1 : (20 : Int32) * nI w = nI (20 * w) := pk_mul 20 w
  have g2 : (10 : Int32) + nI r = nI (10 + r) := nI_add 10 r
  unfold wp_X7_stateOf
  by_cases e : 0 < r
  · rw [if_pos e] at h
    rw [if_neg (nI_nle e (by omega)), g1, g2, iaN]; exact h
  · rw [if_neg e] at h
    rw [if_pos (show nI r ≤ 0 by rw [show r = 0 by omega]; decide), g1, iaN]; exact h
theorem w7_sb88 {o l f w d r m br : Nat} {th rc rb : Int32} {who : Nat → Nat} {tn : Nat → Int32} {M : MM} {T : Nat → Txt} {s : Nat → Int32} {V A : Nat → Int64} {Post : MM → Prop} (hD : DPc o M l th rc rb who tn m s T) (hl : l < 4) (hf : f < 25) (hw : w < 25) (hd : d < 1000) (hr : r < 1000) (hbr : s (8 + l) = nI br) (hbr9 : br ≤ 9) (hV : aL o 24 M = V) (hA : wdE o M A)
    (h : ∀ M', dF o M M' → aL o 24 M' = V → aL o 22 M' = aL o 22 M → wdE o M' (fun k => A k + if (if br ≤ d ∨ br ≤ r then 500 else 20 * w + (if 0 < r then 10 + r else d)) = k then V f * 5 else 0) → Post M') : wb_X7_sunBy_88 M o (nI f) (nI w) (nI d) (nI r) Post := by
  obtain ⟨h1, h2, h3, h4, h5, h6, h7, h8⟩ := hD
  unfold wb_X7_sunBy_88 wb_X7_sunBy_136
  rw [h4]
  simp (disch := first | assumption | omega) only [mgR_sI, mgR_sL, mkd_sI, mkd_sL, mln_sI, mln_sL, Option.some.injEq, exists_eq_left', forall_eq, true_and, and_true, Nat.reduceLT, exists_eq_left, ML_r0, ML_k1, ML_l1, ML_r1, ML_k2, ML_l2, ML_r2, ML_k3, ML_l3, ML_r3, ML_k4, ML_l4, ML_r13, ML_k5, ML_l5, ML_r14, ML_k6, ML_l6, ML_r15, ML_k7, ML_l7, ML_r16, ML_k8, ML_l8, ML_r17, ML_k9, ML_l9, ML_r18, ML_k10, ML_l10, ML_r19, ML_k11, ML_l11, ML_r20, ML_k12, ML_l12, ML_r21, ML_k13, ML_l13, ML_r22, ML_k14, ML_l14, ML_r23, ML_k15, ML_l15, ML_r24, ML_k16, ML_l16, ML_r25, ML_k17, ML_l17, ML_r26, ML_k18, ML_l18, ML_r30, ML_k19, ML_l19, ML_r35, ML_k20, ML_l20, ML_r36, ML_k21, ML_l21, ML_r37, ML_k22, ML_l22, ML_r38, ML_k23, ML_l23, ML_r40, ML_k24, ML_l24, ML_r41, ML_k25, ML_l25, ML_r42, ML_k26, ML_l26, ML_r43, ML_k27, ML_l27, ML_r44, ML_k28, ML_l28, ML_r45, ML_k29, ML_l29, ML_r48, ML_k30, ML_l30, ML_r51, ML_k31, ML_l31, ML_r52, ML_k32, ML_l32, ia0, ia4, ia8, ia12, ia16, ia20, ia24, ia52, ia60, ia68, im7, im14, ap6, iaN, ap1, ixN, vpN, aLE (o := o) (c := 24), hV, arE (o := o) (c := 1), h3, hbr]
  have dead : (br ≤ d ∨ br ≤ r) → Post (msL M o 39 (mgL M o 39 + V f * 5)) := by
    intro e
    refine h _ dF.rf.s39 ?_ ?_ ⟨fun k hk => ?_, ?_⟩
    · rw [aL_0 (by omega)]; exact hV
    · rw [aL_0 (by omega)]
    · rw [aL_0 (by omega), if_pos e]; dsimp only; rw [if_neg (by omega), Int64.add_zero]; exact hA.1 k hk
    · rw [mgL_sL, if_pos ⟨rfl, rfl⟩, if_pos e]; dsimp only; rw [if_pos rfl, hA.2]
  by_cases e1 : br ≤ d
  · rw [if_pos (nI_le e1 (by omega))]; exact dead (Or.inl e1)
  rw [if_neg (nI_ge (by omega) (by omega))]
  by_cases e2 : br ≤ r
  · rw [if_neg (nI_nlt e2 (by omega))]; exact dead (Or.inr e2)
  rw [if_pos (nI_lt (by omega) (by omega))]
  have hk : (20 * w + if 0 < r then 10 + r else d) < 500 := by split <;> omega
  refine w7_stateOf (by omega) (by omega) (by omega) ?_
  simp (disch := first | assumption | omega) only [mgR_sI, mgR_sL, mkd_sI, mkd_sL, mln_sI, mln_sL, Option.some.injEq, exists_eq_left', forall_eq, true_and, and_true, Nat.reduceLT, exists_eq_left, ML_r0, ML_k1, ML_l1, ML_r1, ML_k2, ML_l2, ML_r2, ML_k3, ML_l3, ML_r3, ML_k4, ML_l4, ML_r13, ML_k5, ML_l5, ML_r14, ML_k6, ML_l6, ML_r15, ML_k7, ML_l7, ML_r16, ML_k8, ML_l8, ML_r17, ML_k9, ML_l9, ML_r18, ML_k10, ML_l10, ML_r19, ML_k11, ML_l11, ML_r20, ML_k12, ML_l12, ML_r21, ML_k13, ML_l13, ML_r22, ML_k14, ML_l14, ML_r23, ML_k15, ML_l15, ML_r24, ML_k16, ML_l16, ML_r25, ML_k17, ML_l17, ML_r26, ML_k18, ML_l18, ML_r30, ML_k19, ML_l19, ML_r35, ML_k20, ML_l20, ML_r36, ML_k21, ML_l21, ML_r37, ML_k22, ML_l22, ML_r38, ML_k23, ML_l23, ML_r40, ML_k24, ML_l24, ML_r41, ML_k25, ML_l25, ML_r42, ML_k26, ML_l26, ML_r43, ML_k27, ML_l27, ML_r44, ML_k28, ML_l28, ML_r45, ML_k29, ML_l29, ML_r48, ML_k30, ML_l30, ML_r51, ML_k31, ML_l31, ML_r52, ML_k32, ML_l32]
  refine w7_stateOf (by omega) (by omega) (by omega) ?_
  generalize hkk : (20 * w + if 0 < r then 10 + r else d) = kk at hk h ⊢
  simp (disch := first | assumption | omega) only [mgR_sI, mgR_sL, mkd_sI, mkd_sL, mln_sI, mln_sL, Option.some.injEq, exists_eq_left', forall_eq, true_and, and_true, Nat.reduceLT, exists_eq_left, ML_r0, ML_k1, ML_l1, ML_r1, ML_k2, ML_l2, ML_r2, ML_k3, ML_l3, ML_r3, ML_k4, ML_l4, ML_r13, ML_k5, ML_l5, ML_r14, ML_k6, ML_l6, ML_r15, ML_k7, ML_l7, ML_r16, ML_k8, ML_l8, ML_r17, ML_k9, ML_l9, ML_r18, ML_k10, ML_l10, ML_r19, ML_k11, ML_l11, ML_r20, ML_k12, ML_l12, ML_r21, ML_k13, ML_l13, ML_r22, ML_k14, ML_l14, ML_r23, ML_k15, ML_l15, ML_r24, ML_k16, ML_l16, ML_r25, ML_k17, ML_l17, ML_r26, ML_k18, ML_l18, ML_r30, ML_k19, ML_l19, ML_r35, ML_k20, ML_l20, ML_r36, ML_k21, ML_l21, ML_r37, ML_k22, ML_l22, ML_r38, ML_k23, ML_l23, ML_r40, ML_k24, ML_l24, ML_r41, ML_k25, ML_l25, ML_r42, ML_k26, ML_l26, ML_r43, ML_k27, ML_l27, ML_r44, ML_k28, ML_l28, ML_r45, ML_k29, ML_l29, ML_r48, ML_k30, ML_l30, ML_r51, ML_k31, ML_l31, ML_r52, ML_k32, ML_l32, ia0, ia4, ia8, ia12, ia16, ia20, ia24, ia52, ia60, ia68, im7, im14, ap6, iaN, ap1, ixN, vpN, aLE (o := o) (c := 23)]
  refine h _ (dF.rf.sL (by omega)) ?_ ?_ ⟨fun k hk2 => ?_, ?_⟩
  · rw [aL_s, if_neg (by omega)]; exact hV
  · rw [aL_s, if_neg (by omega)]
  · rw [aL_s, if_pos rfl, if_neg (fun x => x.elim e1 e2)]
    dsimp only
    unfold upL
    by_cases e : k = kk
    · rw [if_pos e, if_pos e.symm, e, hA.1 kk hk]
    · rw [if_neg e, if_neg (fun x => e x.symm), Int64.add_zero]; exact hA.1 k hk2
  · rw [mgL_sL, if_neg (by omega), if_neg (fun x => x.elim e1 e2)]; dsimp only; rw [if_neg (by omega), Int64.add_zero]; exact hA.2
