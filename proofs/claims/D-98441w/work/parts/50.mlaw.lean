/-! the model: law, rule -/
set_option maxRecDepth 100000
theorem l7_rd47 {o n w : Nat} {M0 : MM} {t : Nat → Int32} {R : (Nat × Nat) ⊕ Txt} {X : MM → Int32 → Prop} (hc : cx o M0 t n) (hw : w < 100) (h0 : ∀ e M', R = .inl e → fI (tF o) M0 M' → mgI M' o 7 = erV e.1 e.2 → X M' 0) (h1 : ∀ T p c M', R = .inr T → tE o M0 n p c T M' → X M' 1) : ∀ f p c T M, n + 1 ≤ p + f → tE o M0 n p c T M → txL t n w f T p = R → wl_X7_reads_47 o (nI w) X (f + 1) M 1 := by
  intro f
  induction f with
  | zero => intro p c T M hf h; have := h.2.2.2.2.2.2.1; omega
  | succ f ih =>
    intro p c T M hf h hR
    obtain ⟨hF, h5, h10, h12, hT, hcp, hpn, hTc⟩ := id h
    have hL : ML o M := ML_of hF.e hc.1
    have ht : ar o 4 M = t := (funext fun k => hF.2 _ _ (by unfold tF; omega)).trans hc.2.1
    have hn6 : mgI M o 6 = nI n := (hF.2 _ _ (by unfold tF; omega)).trans hc.2.2.1
    have hn200 := hc.2.2.2
    unfold wl_X7_reads_47
    rw [if_neg n10, hn6, h5]
    unfold txL at hR
    by_cases e1 : n ≤ p
    · rw [if_pos e1] at hR
      rw [if_pos (nI_le e1 (by omega))]
      exact h1 T p c M hR.symm h
    · rw [if_neg e1] at hR
      rw [if_neg (nI_ge (by omega) (by omega))]
      refine w7_takes hL ht h5 hn6 (by omega) (by omega) (fun e2 => ?_) (fun e2 => ?_)
      · rw [if_neg n10]
        rw [if_neg (fun x => x e2)] at hR
        have h2 : tE o M0 n (p + 1) c T (msI M o 5 (nI (p + 1))) := by
          refine ⟨hF.s (by unfold tF; omega), fd_e, (fd_n (by omega)).trans h10, (fd_n (by omega)).trans h12, hT, by omega, by omega, hTc.to (Nat.le_refl _) (kp.rf.n (by omega)) (fun a k q1 q2 q3 => ?_)⟩
          rw [mgI_sI, if_neg (by omega)]
        refine w7_readsClause hc hw h2 (fun q p' e3 M' c' k1 k2 => ?_) (fun e e3 M' k1 k2 => ?_)
        · rw [if_neg n10]
          rw [e3] at hR
          exact ih p' c' (T ++ [q]) M' (by omega) k1 hR
        · rw [if_pos rfl]
          rw [e3] at hR
          unfold wl_X7_reads_47
          rw [if_pos rfl]
          exact h0 e M' hR.symm k1 k2
      · rw [if_pos rfl]
        rw [if_pos e2] at hR
        unfold wl_X7_reads_47
        rw [if_pos rfl]
        exact h0 (1, p) _ hR.symm (hF.s (by unfold tF; omega)) fd_e
/-- codes are kept -/
theorem l7_rd122 {o c w : Nat} {x1 : Int32} {M : MM} {X : MM → Prop} (hL : ML o M) (hc : mgI M o 10 = nI c) (hc2 : c ≤ 220) (hw : w < 5) (h : ∀ M', fI (fun a k => a = o + 11 ∧ 220 * w ≤ k ∧ k < 220 * w + c) M M' → (∀ k, k < c → mgI M' (o + 11) (220 * w + k) = mgI M (o + 5) k) → X M') : ∃ f, wl_X7_reads_122 o x1 (nI (220 * w)) X f M (nI 0) := by
  refine cl_ (fun f M1 i => wl_X7_reads_122 o x1 (nI (220 * w)) X f M1 (nI i)) (fun i M1 => fI (fun a k => a = o + 11 ∧ 220 * w ≤ k ∧ k < 220 * w + c) M M1 ∧ ∀ k, k < i → mgI M1 (o + 11) (220 * w + k) = mgI M (o + 5) k) c ?_ ?_ M 0 (by omega) ⟨fI.rf, fun k hk => by omega⟩
  · intro f i M1 hi ⟨hF, hr⟩ hs'
    have h1 : ML o M1 := ML_of hF.e hL
    have hc1 : mgI M1 o 10 = nI c := (hF.2 _ _ (by omega)).trans hc
    have h5 : mgI M1 (o + 5) i = mgI M (o + 5) i := hF.2 _ _ (by omega)
    show wl_X7_reads_122 o x1 (nI (220 * w)) X (f + 1) M1 (nI i)
    unfold wl_X7_reads_122
    rw [hc1, if_neg (nI_ge hi (by omega))]
    simp (disch := first | assumption | omega) only [mgR_sI, mgR_sL, mkd_sI, mkd_sL, mln_sI, mln_sL, Option.some.injEq, exists_eq_left', forall_eq, true_and, and_true, Nat.reduceLT, exists_eq_left, ML_r0, ML_k1, ML_l1, ML_r1, ML_k2, ML_l2, ML_r2, ML_k3, ML_l3, ML_r3, ML_k4, ML_l4, ML_r13, ML_k5, ML_l5, ML_r14, ML_k6, ML_l6, ML_r15, ML_k7, ML_l7, ML_r16, ML_k8, ML_l8, ML_r17, ML_k9, ML_l9, ML_r18, ML_k10, ML_l10, ML_r19, ML_k11, ML_l11, ML_r20, ML_k12, ML_l12, ML_r21, ML_k13, ML_l13, ML_r22, ML_k14, ML_l14, ML_r23, ML_k15, ML_l15, ML_r24, ML_k16, ML_l16, ML_r25, ML_k17, ML_l17, ML_r26, ML_k18, ML_l18, ML_r30, ML_k19, ML_l19, ML_r35, ML_k20, ML_l20, ML_r36, ML_k21, ML_l21, ML_r37, ML_k22, ML_l22, ML_r38, ML_k23, ML_l23, ML_r40, ML_k24, ML_l24, ML_r41, ML_k25, ML_l25, ML_r42, ML_k26, ML_l26, ML_r43, ML_k27, ML_l27, ML_r44, ML_k28, ML_l28, ML_r45, ML_k29, ML_l29, ML_r48, ML_k30, ML_l30, ML_r51, ML_k31, ML_l31, ML_r52, ML_k32, ML_l32, ia0, ia4, ia8, ia12, ia16, ia20, ia24, ia52, ia60, ia68, im7, im14, ap6, iaN, ap1, ixN, vpN, h5]
    refine hs' _ ⟨hF.s (by omega), fun k hk => ?_⟩
    rw [mgI_sI]
    by_cases e : k = i
    · rw [if_pos ⟨rfl, by omega⟩, e]
    · rw [if_neg (by omega)]; exact hr k (by omega)
  · intro f M1 ⟨hF, hr⟩
    have hc1 : mgI M1 o 10 = nI c := (hF.2 _ _ (by omega)).trans hc
    show wl_X7_reads_122 o x1 (nI (220 * w)) X (f + 1) M1 (nI c)
    unfold wl_X7_reads_122
    rw [hc1, if_pos (nI_le (Nat.le_refl _) (by omega))]
    exact h M1 hF hr
/-- clauses are kept -/
def kcF (o w m : Nat) : Nat → Nat → Prop := fun a k => (o + 13 ≤ a ∧ a ≤ o + 16) ∧ 14 * w ≤ k ∧ k < 14 * w + m
theorem l7_rd157 {o m w : Nat} {M : MM} {fr ha to : Nat → Nat} {X : MM → Prop} (hL : ML o M) (hm : mgI M o 12 = nI m) (hm2 : m ≤ 14) (hw : w < 5) (h8 : ∀ j, j < m → mgI M (o + 8) j = nI (fr j)) (h9 : ∀ j, j < m → mgI M (o + 9) j = nI (ha j)) (h10 : ∀ j, j < m → mgI M (o + 10) j = nI (to j)) (h : ∀ M', fI (kcF o w m) M M' → (∀ j, j < m → mgI M' (o + 13) (14 * w + j) = mgI M (o + 7) j ∧ mgI M' (o + 14) (14 * w + j) = nI (220 * w + fr j) ∧ mgI M' (o + 15) (14 * w + j) = nI (220 * w + ha j) ∧ mgI M' (o + 16) (14 * w + j) = nI (220 * w + to j)) → X M') : ∃ f, wl_X7_reads_157 o (nI w) (nI (220 * w)) X f M (nI 0) := by
  refine cl_ (fun f M1 i => wl_X7_reads_157 o (nI w) (nI (220 * w)) X f M1 (nI i)) (fun i M1 => fI (kcF o w m) M M1 ∧ ∀ j, j < i → mgI M1 (o + 13) (14 * w + j) = mgI M (o + 7) j ∧ mgI M1 (o + 14) (14 * w + j) = nI (220 * w + fr j) ∧ mgI M1 (o + 15) (14 * w + j) = nI (220 * w + ha j) ∧ mgI M1 (o + 16) (14 * w + j) = nI (220 * w + to j)) m ?_ ?_ M 0 (by omega) ⟨fI.rf, fun k hk => by omega⟩
  · intro f i M1 hi ⟨hF, hr⟩ hs'
    have h1 : ML o M1 := ML_of hF.e hL
    have hm1 : mgI M1 o 12 = nI m := (hF.2 _ _ (by unfold kcF; omega)).trans hm
    have g7 : mgI M1 (o + 7) i = mgI M (o + 7) i := hF.2 _ _ (by unfold kcF; omega)
    have g8 : mgI M1 (o + 8) i = nI (fr i) := (hF.2 _ _ (by unfold kcF; omega)).trans (h8 i hi)
    have g9 : mgI M1 (o + 9) i = nI (ha i) := (hF.2 _ _ (by unfold kcF; omega)).trans (h9 i hi)
    have g10 : mgI M1 (o + 10) i = nI (to i) := (hF.2 _ _ (by unfold kcF; omega)).trans (h10 i hi)
    show wl_X7_reads_157 o (nI w) (nI (220 * w)) X (f + 1) M1 (nI i)
    unfold wl_X7_reads_157
    rw [hm1, if_neg (nI_ge hi (by omega)), im14]
    have n7 : ∀ c d k v, c ≠ d → mgI (msI M1 (o + d) k v) (o + c) i = mgI M1 (o + c) i := by
      intro c d k v hcd; rw [mgI_sI, if_neg (by omega)]
    simp (disch := first | assumption | omega) only [mgR_sI, mgR_sL, mkd_sI, mkd_sL, mln_sI, mln_sL, Option.some.injEq, exists_eq_left', forall_eq, true_and, and_true, Nat.reduceLT, exists_eq_left, ML_r0, ML_k1, ML_l1, ML_r1, ML_k2, ML_l2, ML_r2, ML_k3, ML_l3, ML_r3, ML_k4, ML_l4, ML_r13, ML_k5, ML_l5, ML_r14, ML_k6, ML_l6, ML_r15, ML_k7, ML_l7, ML_r16, ML_k8, ML_l8, ML_r17, ML_k9, ML_l9, ML_r18, ML_k10, ML_l10, ML_r19, ML_k11, ML_l11, ML_r20, ML_k12, ML_l12, ML_r21, ML_k13, ML_l13, ML_r22, ML_k14, ML_l14, ML_r23, ML_k15, ML_l15, ML_r24, ML_k16, ML_l16, ML_r25, ML_k17, ML_l17, ML_r26, ML_k18, ML_l18, ML_r30, ML_k19, ML_l19, ML_r35, ML_k20, ML_l20, ML_r36, ML_k21, ML_l21, ML_r37, ML_k22, ML_l22, ML_r38, ML_k23, ML_l23, ML_r40, ML_k24, ML_l24, ML_r41, ML_k25, ML_l25, ML_r42, ML_k26, ML_l26, ML_r43, ML_k27, ML_l27, ML_r44, ML_k28, ML_l28, ML_r45, ML_k29, ML_l29, ML_r48, ML_k30, ML_l30, ML_r51, ML_k31, ML_l31, ML_r52, ML_k32, ML_l32, ia0, ia4, ia8, ia12, ia16, ia20, ia24, ia52, ia60, ia68, im7, im14, ap6, iaN, ap1, ixN, vpN, g7]
    have e8 : ∀ v, mgI (msI M1 (o + 13) (14 * w + i) v) (o + 8) i = nI (fr i) := fun v => by rw [mgI_sI, if_neg (by omega)]; exact g8
    have e9 : ∀ v v2, mgI (msI (msI M1 (o + 13) (14 * w + i) v) (o + 14) (14 * w + i) v2) (o + 9) i = nI (ha i) := fun v v2 => by rw [mgI_sI, if_neg (by omega), mgI_sI, if_neg (by omega)]; exact g9
    have e10 : ∀ v v2 v3, mgI (msI (msI (msI M1 (o + 13) (14 * w + i) v) (o + 14) (14 * w + i) v2) (o + 15) (14 * w + i) v3) (o + 10) i = nI (to i) := fun v v2 v3 => by rw [mgI_sI, if_neg (by omega), mgI_sI, if_neg (by omega), mgI_sI, if_neg (by omega)]; exact g10
    rw [e8, e9, e10, iaN, iaN, iaN]
    refine hs' _ ⟨(((hF.s (by unfold kcF; omega)).s (by unfold kcF; omega)).s (by unfold kcF; omega)).s (by unfold kcF; omega), fun j hj => ?_⟩
    by_cases e : j = i
    · subst e
      refine ⟨?_, ?_, ?_, ?_⟩
      · rw [mgI_sI, if_neg (by omega), mgI_sI, if_neg (by omega), mgI_sI, if_neg (by omega), mgI_sI, if_pos ⟨rfl, rfl⟩]
      · rw [mgI_sI, if_neg (by omega), mgI_sI, if_neg (by omega), mgI_sI, if_pos ⟨rfl, rfl⟩]
      · rw [mgI_sI, if_neg (by omega), mgI_sI, if_pos ⟨rfl, rfl⟩]
      · rw [mgI_sI, if_pos ⟨rfl, rfl⟩]
    · have := hr j (by omega)
      refine ⟨?_, ?_, ?_, ?_⟩
      · rw [mgI_sI, if_neg (by omega), mgI_sI, if_neg (by omega), mgI_sI, if_neg (by omega), mgI_sI, if_neg (by omega)]; exact this.1
      · rw [mgI_sI, if_neg (by omega), mgI_sI, if_neg (by omega), mgI_sI, if_neg (by omega), mgI_sI, if_neg (by omega)]; exact this.2.1
      · rw [mgI_sI, if_neg (by omega), mgI_sI, if_neg (by omega), mgI_sI, if_neg (by omega), mgI_sI, if_neg (by omega)]; exact this.2.2.1
      · rw [mgI_sI, if_neg (by omega), mgI_sI, if_neg (by omega), mgI_sI, if_neg (by omega), mgI_sI, if_neg (by omega)]; exact this.2.2.2
  · intro f M1 ⟨hF, hr⟩
    have hm1 : mgI M1 o 12 = nI m := (hF.2 _ _ (by unfold kcF; omega)).trans hm
    show wl_X7_reads_157 o (nI w) (nI (220 * w)) X (f + 1) M1 (nI m)
    unfold wl_X7_reads_157
    rw [hm1, if_pos (nI_le (Nat.le_refl _) (by omega))]
    exact h M1 hF hr
/-- what is said, at its places -/
theorem TcE.get {o c : Nat} {M : MM} : ∀ {T : Txt} {i : Nat}, TcE o M c i T → ∀ j, j < T.length → ∃ f h u, mgI M (o + 8) (i + j) = nI f ∧ mgI M (o + 9) (i + j) = nI h ∧ mgI M (o + 10) (i + j) = nI u := by
  intro T
  induction T with
  | nil => intro i _ j hj; exact absurd hj (by simp)
  | cons q r ih =>
    intro i h j hj
    cases j with
    | zero =>
      obtain ⟨_, f, h', u, h2, h3, h4, _⟩ := h.1
      exact ⟨f, h', u, h2, h3, h4⟩
    | succ j =>
      rw [List.length_cons] at hj
      obtain ⟨f, h', u, h2, h3, h4⟩ := ih h.2 j (by omega)
      rw [show i + 1 + j = i + (j + 1) by omega] at h2 h3 h4
      exact ⟨f, h', u, h2, h3, h4⟩
theorem TMc_mk {o c w : Nat} {M M' : MM} (hw : w < 5) (hc : c ≤ 220) (hcd : ∀ k, k < c → mgI M' (o + 11) (220 * w + k) = mgI M (o + 5) k) : ∀ {T : Txt} {i : Nat}, TcE o M c i T → i + T.length ≤ 14 → (∀ j f h u, i ≤ j → j < i + T.length → mgI M (o + 8) j = nI f → mgI M (o + 9) j = nI h → mgI M (o + 10) j = nI u → mgI M' (o + 13) (14 * w + j) = mgI M (o + 7) j ∧ mgI M' (o + 14) (14 * w + j) = nI (220 * w + f) ∧ mgI M' (o + 15) (14 * w + j) = nI (220 * w + h) ∧ mgI M' (o + 16) (14 * w + j) = nI (220 * w + u)) → TMc o M' (14 * w + i) T := by
  intro T
  induction T with
  | nil => intro i _ _ _; exact True.intro
  | cons q r ih =>
    intro i ⟨⟨h1, f, h, u, h2, h3, h4, h5, h6, h7, h8, h9⟩, h10⟩ hi hall
    rw [List.length_cons] at hi hall
    obtain ⟨k1, k2, k3, k4⟩ := hall i f h u (Nat.le_refl _) (by omega) h2 h3 h4
    have hdiv : (14 * w + i) / 14 = w := by omega
    refine ⟨k1.trans h1, ⟨220 * w + f, 220 * w + h, 220 * w + u, by rw [hdiv]; omega, k2, k3, k4, ?_, ?_⟩, ?_⟩
    · exact h8.runs (by omega) (by omega) (by omega) hw (fun k a b => hcd k (by omega))
    · exact h9.runs (by omega) (by omega) (by omega) hw (fun k a b => hcd k (by omega))
    · exact ih h10 (by omega) (fun j f h u a b => hall j f h u (by omega) (by omega))
theorem TMc.loc {o w : Nat} {M M' : MM} (he : ∀ a k, o + 13 ≤ a → a ≤ o + 16 → ¬ (14 * w ≤ k ∧ k < 14 * w + 14) → mgI M' a k = mgI M a k) (hcd : ∀ k, ¬ (220 * w ≤ k ∧ k < 220 * w + 220) → mgI M' (o + 11) k = mgI M (o + 11) k) : ∀ {T : Txt} {i : Nat} {t : Nat}, t ≠ w → 14 * t ≤ i → i + T.length ≤ 14 * t + 14 → TMc o M i T → TMc o M' i T := by
  intro T
  induction T with
  | nil => intro i t _ _ _ _; exact True.intro
  | cons q r ih =>
    intro i t htw h1 h2 ⟨g1, ⟨a, b, c, g0, g2, g3, g4, g5, g6⟩, g7⟩
    rw [List.length_cons] at h2
    have hdiv : i / 14 = t := by omega
    rw [hdiv] at g0
    refine ⟨(he _ _ (by omega) (by omega) (by omega)).trans g1, ⟨a, b, c, by rw [hdiv]; exact g0, (he _ _ (by omega) (by omega) (by omega)).trans g2, (he _ _ (by omega) (by omega) (by omega)).trans g3, (he _ _ (by omega) (by omega) (by omega)).trans g4, g5.loc (fun k x y => hcd k (by omega)), g6.loc (fun k x y => hcd k (by omega))⟩, ih htw (by omega) (by omega) g7⟩
def upT (T : Nat → Txt) (w : Nat) (x : Txt) : Nat → Txt := fun k => if k = w then x else T k
def reV (S : St) (n : Int32) : Bool := inS n 1 200 && decide (n ≤ nI S.2.2.2.2.1)
theorem w7_rd88 {o n w : Nat} {M0 M : MM} {S : St} {Post : Int32 → MM → Prop} {p c : Nat} {T : Txt} (hw : w < 5) (hM : MR o M S) (hcl : c ≤ 220) (h10 : mgI M o 10 = nI c) (h12 : mgI M o 12 = nI T.length) (hT : T.length ≤ 14) (hTc : TcE o M c 0 T) (h : ∀ M', mFr o M M' → MR o M' (S.1, S.2.1, S.2.2.1, S.2.2.2.1, 0, upT S.2.2.2.2.2 w T) → Post (nI T.length) M') : wb_X7_reads_88 M o (nI w) 1 Post := by
  have hz := hM.n0
  have hL0 := hz.1.1
  have hL := hM.1
  unfold wb_X7_reads_88
  simp only [forall_eq]
  rw [if_neg n10]
  have a12 : mgI (msI M o 4 0) o 12 = nI T.length := (fd_n (by omega)).trans h12
  have i220 : (220 : Int32) * nI w = nI (220 * w) := pk_mul 220 w
  simp (disch := first | assumption | omega) only [mgR_sI, mgR_sL, mkd_sI, mkd_sL, mln_sI, mln_sL, Option.some.injEq, exists_eq_left', forall_eq, true_and, and_true, Nat.reduceLT, exists_eq_left, ML_r0, ML_k1, ML_l1, ML_r1, ML_k2, ML_l2, ML_r2, ML_k3, ML_l3, ML_r3, ML_k4, ML_l4, ML_r13, ML_k5, ML_l5, ML_r14, ML_k6, ML_l6, ML_r15, ML_k7, ML_l7, ML_r16, ML_k8, ML_l8, ML_r17, ML_k9, ML_l9, ML_r18, ML_k10, ML_l10, ML_r19, ML_k11, ML_l11, ML_r20, ML_k12, ML_l12, ML_r21, ML_k13, ML_l13, ML_r22, ML_k14, ML_l14, ML_r23, ML_k15, ML_l15, ML_r24, ML_k16, ML_l16, ML_r25, ML_k17, ML_l17, ML_r26, ML_k18, ML_l18, ML_r30, ML_k19, ML_l19, ML_r35, ML_k20, ML_l20, ML_r36, ML_k21, ML_l21, ML_r37, ML_k22, ML_l22, ML_r38, ML_k23, ML_l23, ML_r40, ML_k24, ML_l24, ML_r41, ML_k25, ML_l25, ML_r42, ML_k26, ML_l26, ML_r43, ML_k27, ML_l27, ML_r44, ML_k28, ML_l28, ML_r45, ML_k29, ML_l29, ML_r48, ML_k30, ML_l30, ML_r51, ML_k31, ML_l31, ML_r52, ML_k32, ML_l32, ia0, ia4, ia8, ia12, ia16, ia20, ia24, ia52, ia60, ia68, im7, im14, ap6, iaN, ap1, ixN, vpN, a12, i220]
  have hLa : ML o (msI (msI M o 4 0) (o + 12) w (nI T.length)) := ML_of rfl hL0
  refine l7_rd122 (c := c) hLa (by rw [fd_c (by omega), fd_n (by omega)]; exact h10) hcl hw (fun M1 hF1 hcd => ?_)
  have hL1 : ML o M1 := ML_of hF1.e hLa
  have hs : ∀ a k, o + 5 ≤ a → a ≤ o + 10 → mgI M1 a k = mgI M a k := by
    intro a k q1 q2
    rw [hF1.2 _ _ (by omega), mgI_sI, if_neg (by omega), mgI_sI, if_neg (by omega)]
  have hex : ∀ j, ∃ x : Nat × Nat × Nat, j < T.length → mgI M (o + 8) j = nI x.1 ∧ mgI M (o + 9) j = nI x.2.1 ∧ mgI M (o + 10) j = nI x.2.2 := by
    intro j
    by_cases e : j < T.length
    · obtain ⟨f, h', u, q2, q3, q4⟩ := hTc.get j e
      rw [Nat.zero_add] at q2 q3 q4
      exact ⟨(f, h', u), fun _ => ⟨q2, q3, q4⟩⟩
    · exact ⟨(0, 0, 0), fun x => absurd x e⟩
  obtain ⟨g, hg⟩ := Classical.axiomOfChoice hex
  refine l7_rd157 (m := T.length) (fr := fun j => (g j).1) (ha := fun j => (g j).2.1) (to := fun j => (g j).2.2) hL1 ?_ hT hw (fun j hj => (hs _ _ (by omega) (by omega)).trans (hg j hj).1) (fun j hj => (hs _ _ (by omega) (by omega)).trans (hg j hj).2.1) (fun j hj => (hs _ _ (by omega) (by omega)).trans (hg j hj).2.2) (fun M2 hF2 hcl2 => ?_)
  · rw [hF1.2 _ _ (by omega), fd_c (by omega)]; exact a12
  have f12 : mgI M2 o 12 = nI T.length := by
    rw [hF2.2 _ _ (by unfold kcF; omega), hF1.2 _ _ (by omega), fd_c (by omega)]; exact a12
  rw [f12]
  obtain ⟨m0, m1, m2, m3, m4, m5, m6, m7⟩ := hz.1
  have fo : ∀ a k, ¬ (o + 11 ≤ a ∧ a ≤ o + 16) → mgI M2 a k = mgI (msI M o 4 0) a k := by
    intro a k q
    rw [hF2.2 _ _ (by unfold kcF; omega), hF1.2 _ _ (by omega), mgI_sI, if_neg (by omega)]
  have hwh : M2.2 = M.2 := hF2.1.trans hF1.1
  refine h M2 ⟨by rw [hwh], fun a k q => ⟨?_, ?_⟩⟩ ⟨ML_of (by rw [hwh]) hM.1, (funext fun k => fo _ _ (by omega)).trans m1, (funext fun k => fo _ _ (by omega)).trans m2, (fo _ _ (by omega)).trans m3, (funext fun k => fo _ _ (by omega)).trans m4, (fo _ _ (by omega)).trans m5, (fo _ _ (by omega)).trans m6, ?_⟩
  · rw [fo a k (by omega), mgI_sI, if_neg (by omega)]
  · unfold mgL; rw [hwh]
  · have hcode : ∀ k, ¬ (220 * w ≤ k ∧ k < 220 * w + 220) → mgI M2 (o + 11) k = mgI (msI M o 4 0) (o + 11) k := by
      intro k q
      rw [hF2.2 _ _ (by unfold kcF; omega), hF1.2 _ _ (by omega), mgI_sI, if_neg (by omega)]
    have hent : ∀ a k, o + 13 ≤ a → a ≤ o + 16 → ¬ (14 * w ≤ k ∧ k < 14 * w + 14) → mgI M2 a k = mgI (msI M o 4 0) a k := by
      intro a k q1 q2 q3
      rw [hF2.2 _ _ (by unfold kcF; omega), hF1.2 _ _ (by omega), mgI_sI, if_neg (by omega)]
    intro t ht
    obtain ⟨t1, t2, t3⟩ := m7 t ht
    by_cases e : t = w
    · subst e
      show mgI M2 (o + 12) t = nI (upT S.2.2.2.2.2 t T t).length ∧ (upT S.2.2.2.2.2 t T t).length ≤ 14 ∧ TMc o M2 (14 * t) (upT S.2.2.2.2.2 t T t)
      have hu : upT S.2.2.2.2.2 t T t = T := if_pos rfl
      rw [hu]
      refine ⟨?_, hT, ?_⟩
      · rw [hF2.2 _ _ (by unfold kcF; omega), hF1.2 _ _ (by omega), mgI_sI, if_pos ⟨rfl, rfl⟩]
      · have := TMc_mk (M := M) (M' := M2) (o := o) (c := c) (w := t) ht hcl (fun k hk => by
          rw [hF2.2 _ _ (by unfold kcF; omega), hcd k hk, mgI_sI, if_neg (by omega), mgI_sI, if_neg (by omega)]) hTc (by omega) (fun j f h' u _ hj q1 q2 q3 => ?_)
        · exact this
        · rw [Nat.zero_add] at hj
          obtain ⟨z1, z2, z3, z4⟩ := hcl2 j hj
          obtain ⟨y1, y2, y3⟩ := hg j hj
          rw [z1, z2, z3, z4, hs _ _ (by omega) (by omega)]
          refine ⟨rfl, ?_, ?_, ?_⟩
          · rw [← iaN, ← iaN, ← y1, q1]
          · rw [← iaN, ← iaN, ← y2, q2]
          · rw [← iaN, ← iaN, ← y3, q3]
    · show mgI M2 (o + 12) t = nI (upT S.2.2.2.2.2 w T t).length ∧ (upT S.2.2.2.2.2 w T t).length ≤ 14 ∧ TMc o M2 (14 * t) (upT S.2.2.2.2.2 w T t)
      have hu : upT S.2.2.2.2.2 w T t = S.2.2.2.2.2 t := if_neg e
      rw [hu]
      refine ⟨?_, t2, ?_⟩
      · rw [hF2.2 _ _ (by unfold kcF; omega), hF1.2 _ _ (by omega), mgI_sI, if_neg (fun x => e x.2)]; exact t1
      · exact TMc.loc hent hcode e (Nat.le_refl _) (Nat.add_le_add_left t2 _) t3
/-- a text is read -/
theorem w7_reads {o w : Nat} {M : MM} {S : St} {n : Int32} {Post : Int32 → MM → Prop} (hM : MR o M S) (hw : w < 5) (h0 : reV S n = false → Post (-1) M)
    (h2 : ∀ n' e, 1 ≤ n' → n' ≤ 200 → n = nI n' → reV S n = true → txS S.2.2.2.1 n' w = .inl e → ∀ M', mFr o M M' → MR o M' (nt S) → Post (erV e.1 e.2) M')
    (h1 : ∀ n' T, 1 ≤ n' → n' ≤ 200 → n = nI n' → reV S n = true → txS S.2.2.2.1 n' w = .inr T → ∀ M', mFr o M M' → MR o M' (S.1, S.2.1, S.2.2.1, S.2.2.2.1, 0, upT S.2.2.2.2.2 w T) → Post (nI T.length) M') : wp_X7_reads M o (nI w) n Post := by
  obtain ⟨hL, m1, m2, m3, m4, m5, m6, m7⟩ := id hM
  unfold wp_X7_reads
  rw [w7_in]
  unfold reV at h0 h1 h2
  by_cases e1 : inS n 1 200 = true
  · rw [if_pos e1, if_neg n10, m5]
    by_cases e2 : n ≤ nI S.2.2.2.2.1
    · rw [if_pos e2]
      have ev : (inS n 1 200 && decide (n ≤ nI S.2.2.2.2.1)) = true := by simp [e1, e2]
      obtain ⟨n', hn1, hn2, rfl⟩ := inS_ab (a := 1) (b := 200) (by omega) (by omega) e1
      simp only [forall_eq]
      have hFa : fI (fun a k => tF o a k ∨ (a = o ∧ k = 6)) M (msI (msI (msI (msI M o 5 0) o 6 (nI n')) o 10 0) o 12 0) := (((fI.rf.s (by unfold tF; omega)).s (by omega)).s (by unfold tF; omega)).s (by unfold tF; omega)
      have f5 : mgI (msI (msI (msI (msI M o 5 0) o 6 (nI n')) o 10 0) o 12 0) o 5 = nI 0 := by rw [fd_n (by omega), fd_n (by omega), fd_n (by omega), fd_e]; rfl
      have f6 : mgI (msI (msI (msI (msI M o 5 0) o 6 (nI n')) o 10 0) o 12 0) o 6 = nI n' := by rw [fd_n (by omega), fd_n (by omega), fd_e]
      have f10 : mgI (msI (msI (msI (msI M o 5 0) o 6 (nI n')) o 10 0) o 12 0) o 10 = nI 0 := by rw [fd_n (by omega), fd_e]; rfl
      have f12 : mgI (msI (msI (msI (msI M o 5 0) o 6 (nI n')) o 10 0) o 12 0) o 12 = nI 0 := by rw [fd_e]; rfl
      generalize msI (msI (msI (msI M o 5 0) o 6 (nI n')) o 10 0) o 12 0 = Ma at hFa f5 f6 f10 f12 ⊢
      have hca : cx o Ma S.2.2.2.1 n' := ⟨ML_of hFa.e hL, (funext fun k => hFa.2 _ _ (by unfold tF; omega)).trans m4, f6, hn2⟩
      have hta : tE o Ma n' 0 0 [] Ma := ⟨fI.rf, f5, f10, f12, by simp, by omega, by omega, True.intro⟩
      have gG : ∀ M', fI (tF o) Ma M' → gF o M M' := fun M' hF => (hFa.tr (hF.mono (fun a k e => Or.inl e))).g (fun a k e => by unfold tF at e; unfold PSc; omega)
      have hsa : ar o 1 Ma = S.1 := (funext fun k => hFa.2 _ _ (by unfold tF; omega)).trans m1
      have mg : ∀ M', fI (tF o) Ma M' → MR o M' S := fun M' hF => hM.g (gG M' hF) ((funext fun k => hF.2 _ _ (by unfold tF; omega)).trans hsa)
      have bad : ∀ e M', txS S.2.2.2.1 n' w = .inl e → fI (tF o) Ma M' → mgI M' o 7 = erV e.1 e.2 → wb_X7_reads_88 M' o (nI w) 0 Post := by
        intro e M' he hF h7
        unfold wb_X7_reads_88
        simp only [forall_eq]
        rw [if_pos True.intro, fd_n (by omega), h7]
        have hz := (mg M' hF).n0
        exact h2 n' e hn1 hn2 rfl ev he _ ((gG M' hF).m.tr hz.2) hz.1
      have hS0 : ∀ x, (match claS S.2.2.2.1 n' w 0 0 with
        | .inl e => .inl e
        | .inr (c, p') => txL S.2.2.2.1 n' w (n' + 1) [c] p') = x → txS S.2.2.2.1 n' w = x := fun x h => h
      refine w7_readsClause hca (by omega) hta (fun q p' e3 M1 c1 k1 k2 => ?_) (fun e e3 M1 k1 k2 => ?_)
      · have hR := hS0 _ rfl
        rw [show claS S.2.2.2.1 n' w 0 0 = .inr (q, p') from e3] at hR
        dsimp only at hR
        refine ⟨_, l7_rd47 (R := txS S.2.2.2.1 n' w) hca (by omega) (fun e M' he hF h7 => bad e M' he hF h7) (fun T p c M' he hE => ?_) (n' + 1) p' c1 [q] M1 (by omega) k1 hR.symm⟩
        obtain ⟨hF, g5, g10, g12, gT, gcp, gpn, gTc⟩ := hE
        exact w7_rd88 (p := p) (M0 := M) (n := n') hw (mg M' hF) (by omega) g10 g12 gT gTc (fun M'' q1 q2 => h1 n' T hn1 hn2 rfl ev he M'' ((gG M' hF).m.tr q1) q2)
      · refine ⟨1, ?_⟩
        unfold wl_X7_reads_47
        rw [if_pos rfl]
        exact bad e M1 (hS0 _ (by rw [show claS S.2.2.2.1 n' w 0 0 = .inl e from e3])) k1 k2
    · rw [if_neg e2]; exact h0 (by simp [e2])
  · rw [if_neg e1, if_pos rfl]; exact h0 (by simp [e1])
theorem M_law {o : Nat} {M : MM} {S : St} {n : Int32} {Post : Int32 → MM → Prop} (hM : MR o M S) (h0 : reV S n = false → Post (-1) M)
    (h2 : ∀ n' e, 1 ≤ n' → n' ≤ 200 → n = nI n' → reV S n = true → txS S.2.2.2.1 n' 0 = .inl e → ∀ M', mFr o M M' → MR o M' (nt S) → Post (erV e.1 e.2) M')
    (h1 : ∀ n' T, 1 ≤ n' → n' ≤ 200 → n = nI n' → reV S n = true → txS S.2.2.2.1 n' 0 = .inr T → ∀ M', mFr o M M' → MR o M' (S.1, S.2.1, S.2.2.1, S.2.2.2.1, 0, upT S.2.2.2.2.2 0 T) → Post (nI T.length) M') : wp_X7_law M o n Post := by
  unfold wp_X7_law
  exact w7_reads (w := 0) hM (by omega) h0 h2 h1
theorem M_rule {o : Nat} {M : MM} {S : St} {k n : Int32} {Post : Int32 → MM → Prop} (hM : MR o M S) (h0 : (inS k 0 3 && reV S n) = false → Post (-1) M)
    (h2 : ∀ w n' e, w < 4 → k = nI w → 1 ≤ n' → n' ≤ 200 → n = nI n' → (inS k 0 3 && reV S n) = true → txS S.2.2.2.1 n' (w + 1) = .inl e → ∀ M', mFr o M M' → MR o M' (nt S) → Post (erV e.1 e.2) M')
    (h1 : ∀ w n' T, w < 4 → k = nI w → 1 ≤ n' → n' ≤ 200 → n = nI n' → (inS k 0 3 && reV S n) = true → txS S.2.2.2.1 n' (w + 1) = .inr T → ∀ M', mFr o M M' → MR o M' (S.1, S.2.1, S.2.2.1, S.2.2.2.1, 0, upT S.2.2.2.2.2 (w + 1) T) → Post (nI T.length) M') : wp_X7_rule M o k n Post := by
  unfold wp_X7_rule
  rw [w7_in]
  by_cases e1 : inS k 0 3 = true
  · rw [if_pos e1, if_neg n10]
    obtain ⟨w, hw, rfl⟩ := inS_n (n := 3) (by omega) e1
    rw [ap1]
    refine w7_reads (w := w + 1) hM (by omega) (fun e => h0 (by simp [e])) (fun n' e a1 a2 a3 a4 a5 => h2 w n' e (by omega) rfl a1 a2 a3 (by simp [e1, a4]) a5) (fun n' T a1 a2 a3 a4 a5 => h1 w n' T (by omega) rfl a1 a2 a3 (by simp [e1, a4]) a5)
  · rw [if_neg e1, if_pos rfl]; exact h0 (by simp [e1])
