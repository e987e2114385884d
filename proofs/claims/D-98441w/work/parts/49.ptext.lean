/-! the model: clauses are read -/
set_option maxRecDepth 100000
theorem sim_pc {o n : Nat} {M0 : MM} {t : Nat → Int32} {Post : Int32 → MM → Prop} (hc : cx o M0 t n) : ∀ r z, PcSim z o n M0 t Post r := by
  intro r
  have cmpCase : ∀ r z p c W M, pE o M0 z n p c r W M → 10 ≤ topQ W ∧ topQ W ≤ 13 → ¬ chS t n p = 33 → ¬ chS t n p = 40 → (∀ d p', coP t n r p = .inr (d, p') → ∀ M' c', pE o M0 z n p' c' r W M' → c < c' → kp o c M M' → SegS (sdM o M') c c' d → EPp o n Post p' M') → (∀ e, coP t n r p = .inl e → erK o M0 Post e) → LLp o n Post p M := by
    intro r z p c W M h hW e33 e40 hK hE G hG
    have hb := h.b hc
    cases G with
    | zero => omega
    | succ G =>
      unfold L40C wl_X7_readsCondition_40
      rw [h.here hc, if_neg e33, h.here hc, if_neg e40]
      refine sim_cmp hc h hW.1 hK hE (fun M' k => by rw [if_pos rfl]; exact k) (fun p' M' hp' hQ => ?_)
      rw [if_neg n10]
      exact ⟨n + 1, hQ (n + 1) G (by omega) (by omega)⟩
  induction r with
  | zero =>
    intro z p c W M h hW hK hE
    have hS : ∀ x, pcS t n 0 p = x ↔ pcB t n 0 none p = x := fun x => Iff.rfl
    unfold pcB at hS
    by_cases e33 : chS t n p = 33
    · rw [if_pos e33] at hS
      intro G hG
      have hb := h.b hc
      have hlt := ch_lt e33 (by decide)
      cases G with
      | zero => omega
      | succ G =>
        unfold L40C wl_X7_readsCondition_40
        rw [h.here hc, if_pos e33]
        unfold wb_X7_readsCondition_58
        rw [h.here hc, if_pos e33]
        unfold wb_X7_readsCondition_75
        exact w7_opens0 (q := 10) h (hE (5, p) ((hS _).mpr rfl)) (fun M' k => by rw [if_pos rfl]; exact k)
    · rw [if_neg e33] at hS
      by_cases e40 : chS t n p = 40
      · rw [if_pos e40] at hS
        intro G hG
        have hb := h.b hc
        have hlt := ch_lt e40 (by decide)
        cases G with
        | zero => omega
        | succ G =>
          unfold L40C wl_X7_readsCondition_40
          rw [h.here hc, if_neg e33, h.here hc, if_pos e40]
          unfold wb_X7_readsCondition_58
          rw [h.here hc, if_neg e33]
          unfold wb_X7_readsCondition_75
          exact w7_opens0 (q := 13) h (hE (5, p) ((hS _).mpr rfl)) (fun M' k => by rw [if_pos rfl]; exact k)
      · rw [if_neg e40] at hS
        exact cmpCase 0 z p c W M h hW e33 e40 (fun d p' e => hK d p' ((hS _).mpr e)) (fun x e => hE x ((hS _).mpr e))
  | succ r ih =>
    intro z p c W M h hW hK hE
    have hS : ∀ x, pcS t n (r + 1) p = x ↔ pcB t n (r + 1) (some (pcS t n r)) p = x := fun x => Iff.rfl
    unfold pcB at hS
    by_cases e33 : chS t n p = 33
    · rw [if_pos e33] at hS
      intro G hG
      have hb := h.b hc
      have hlt := ch_lt e33 (by decide)
      cases G with
      | zero => omega
      | succ G =>
        unfold L40C wl_X7_readsCondition_40
        rw [h.here hc, if_pos e33]
        unfold wb_X7_readsCondition_58
        rw [h.here hc, if_pos e33]
        unfold wb_X7_readsCondition_75
        refine w7_opens1 (q := 10) h hc ?_
        rw [if_neg n10]
        obtain ⟨hE1, hk1⟩ := opM_E (q := 10) h hlt (by omega) (by omega)
        have htop : topQ (1048576 * 10 :: W) = 10 := by show 1048576 * 10 / 1048576 = 10; omega
        refine ih z (p + 1) c (1048576 * 10 :: W) _ hE1 (by rw [htop]; omega) (fun d p' e1 M' c' k1 k2 k3 k4 => ?_) (fun x e1 => ?_) G (by omega)
        · refine ep_not k1 hc (by omega) (fun M2 j1 j2 j3 => ?_)
          refine hK (negD d) p' ((hS _).mpr ?_) M2 (c' + 1) j1 (by omega) (hk1.tr (k3.tr (j2.le (by omega)))) ?_
          · unfold ngB; dsimp only; rw [e1]
          · exact seg_not (k4.kp j2 (Nat.le_refl _)) (by omega) j3
        · exact hE x ((hS _).mpr (by unfold ngB; dsimp only; rw [e1]))
    · rw [if_neg e33] at hS
      by_cases e40 : chS t n p = 40
      · rw [if_pos e40] at hS
        intro G hG
        have hb := h.b hc
        have hlt := ch_lt e40 (by decide)
        cases G with
        | zero => omega
        | succ G =>
          unfold L40C wl_X7_readsCondition_40
          rw [h.here hc, if_neg e33, h.here hc, if_pos e40]
          unfold wb_X7_readsCondition_58
          rw [h.here hc, if_neg e33]
          unfold wb_X7_readsCondition_75
          refine w7_opens1 (q := 13) h hc ?_
          rw [if_neg n10]
          obtain ⟨hE1, hk1⟩ := opM_E (q := 13) h hlt (by omega) (by omega)
          refine sim_gr hc (ih z) (by omega) hE1 (fun d p' e1 M' c' k1 k2 k3 k4 => ⟨fun e => ?_, fun _ => ?_⟩) (fun x e1 => hE x ((hS _).mpr e1)) G (by omega)
          · rw [e] at hW
            exact absurd hW.2 (by decide)
          · exact hK d p' ((hS _).mpr e1) M' c' k1 k2 (hk1.tr k3) k4
      · rw [if_neg e40] at hS
        exact cmpCase (r + 1) z p c W M h hW e33 e40 (fun d p' e => hK d p' ((hS _).mpr e)) (fun x e => hE x ((hS _).mpr e))
/-- a condition -/
theorem w7_readsCondition {o n p c z : Nat} {M0 M : MM} {t : Nat → Int32} {Post : Int32 → MM → Prop} (hc : cx o M0 t n) (h : pE o M0 z n p c 6 [] M) (hne : ¬ chS t n p = 40 → erK o M0 Post (1, p)) (hK : ∀ d p', chS t n p = 40 → grB t n (some (pcS t n 5)) p = .inr (d, p') → ∀ M' c', pE o M0 z n p' c' 6 [] M' → c < c' → kp o c M M' → SegS (sdM o M') c c' d → Post 1 M') (hE : ∀ e, chS t n p = 40 → grB t n (some (pcS t n 5)) p = .inl e → erK o M0 Post e) : wp_X7_readsCondition M o Post := by
  have hb := h.b hc
  unfold wp_X7_readsCondition
  rw [h.here hc]
  by_cases e40 : chS t n p = 40
  · rw [if_pos e40]
    have hlt := ch_lt e40 (by decide)
    simp only [forall_eq]
    have h2 : pE o M0 z n p c 6 [] (msI (msI M o 9 0) o 11 0) := by
      obtain ⟨a1, a2, a3, a4, a5, a6, a7, a8, a9, a10, a11⟩ := h
      refine ⟨(a1.s (by unfold pF; omega)).s (by unfold pF; omega), ?_, ?_, ?_, fd_e, True.intro, a7, a8, a9, a10, a11⟩
      · rw [fd_n (by omega), fd_n (by omega)]; exact a2
      · rw [fd_n (by omega), fd_e]; rfl
      · rw [fd_n (by omega), fd_n (by omega)]; exact a4
    have hk0 : kp o c M (msI (msI M o 9 0) o 11 0) := (kp.rf.n (by omega)).n (by omega)
    generalize msI (msI M o 9 0) o 11 0 = M2 at h2 hk0 ⊢
    refine w7_opens1 (q := 13) (r := 5) h2 hc ?_
    rw [if_neg n10]
    obtain ⟨hE1, hk1⟩ := opM_E (q := 13) (r := 5) h2 hlt (by omega) (by omega)
    have := sim_gr (Post := Post) hc (sim_pc hc 5 z) (by omega) hE1 (fun d p' e1 M' c' k1 k2 k3 k4 => ⟨fun _ => hK d p' e40 e1 M' c' k1 k2 (hk0.tr (hk1.tr k3)) k4, fun e => absurd rfl e⟩) (fun x e1 => hE x e40 e1)
    exact ⟨n + 1, this (n + 1) (by omega)⟩
  · rw [if_neg e40]
    exact h.wrong (w := 1) (hne e40) (fun _ k => k)
/-! the model: texts are read -/
def tF (o : Nat) : Nat → Nat → Prop := fun a k => (a = o ∧ (k = 5 ∨ (7 ≤ k ∧ k ≤ 12))) ∨ (o + 5 ≤ a ∧ a ≤ o + 10)
theorem pF_tF {o : Nat} {M M' : MM} (h : fI (pF o) M M') : fI (tF o) M M' := h.mono (fun a k e => by unfold pF at e; unfold tF; omega)
/-- clauses as they are said -/
def TcE (o : Nat) (M : MM) (c : Nat) : Nat → Txt → Prop
  | _, [] => True
  | i, q :: r => (mgI M (o + 7) i = q.1 ∧ ∃ f h u, mgI M (o + 8) i = nI f ∧ mgI M (o + 9) i = nI h ∧ mgI M (o + 10) i = nI u ∧ f < h ∧ h < u ∧ u ≤ c ∧ SegS (sdM o M) f h q.2.1 ∧ SegS (sdM o M) h u q.2.2) ∧ TcE o M c (i + 1) r
theorem TcE.to {o c c' : Nat} {M M' : MM} (hc : c ≤ c') (hk : kp o c M M') : ∀ {T : Txt} {i : Nat}, (∀ a k, o + 7 ≤ a → a ≤ o + 10 → k < i + T.length → mgI M' a k = mgI M a k) → TcE o M c i T → TcE o M' c' i T := by
  intro T
  induction T with
  | nil => intro i _ _; exact True.intro
  | cons q r ih =>
    intro i hf ⟨⟨h1, f, h, u, h2, h3, h4, h5, h6, h7, h8, h9⟩, h10⟩
    rw [List.length_cons] at hf
    refine ⟨⟨(hf _ _ (by omega) (by omega) (by omega)).trans h1, f, h, u, (hf _ _ (by omega) (by omega) (by omega)).trans h2, (hf _ _ (by omega) (by omega) (by omega)).trans h3, (hf _ _ (by omega) (by omega) (by omega)).trans h4, h5, h6, by omega, h8.kp hk (by omega), h9.kp hk (by omega)⟩, ih (fun a k a1 a2 a3 => hf a k a1 a2 (by omega)) h10⟩
theorem TcE.app {o c : Nat} {M : MM} {q : Int32 × Den × Den} : ∀ {T : Txt} {i : Nat}, TcE o M c i T → (mgI M (o + 7) (i + T.length) = q.1 ∧ ∃ f h u, mgI M (o + 8) (i + T.length) = nI f ∧ mgI M (o + 9) (i + T.length) = nI h ∧ mgI M (o + 10) (i + T.length) = nI u ∧ f < h ∧ h < u ∧ u ≤ c ∧ SegS (sdM o M) f h q.2.1 ∧ SegS (sdM o M) h u q.2.2) → TcE o M c i (T ++ [q]) := by
  intro T
  induction T with
  | nil => intro i _ h; exact ⟨h, True.intro⟩
  | cons x r ih =>
    intro i h hq
    refine ⟨h.1, ih h.2 ?_⟩
    rw [List.length_cons, show i + (r.length + 1) = i + 1 + r.length by omega] at hq
    exact hq
def tE (o : Nat) (M0 : MM) (n p c : Nat) (T : Txt) (M : MM) : Prop := fI (tF o) M0 M ∧ mgI M o 5 = nI p ∧ mgI M o 10 = nI c ∧ mgI M o 12 = nI T.length ∧ T.length ≤ 14 ∧ c ≤ p ∧ p ≤ n ∧ TcE o M c 0 T
theorem w7_isClause {M : MM} {c : Int32} {w : Nat} {Post : Int32 → MM → Prop} (hw : w < 100) : wp_X7_isClause M c (nI w) Post = if clC w c = true then Post 1 M else Post 0 M := by
  unfold wp_X7_isClause clC
  by_cases e : w = 0
  · rw [if_pos (show nI w ≤ 0 from by rw [e]; decide), if_pos e]
    by_cases h1 : c = 101
    · simp [h1]
    by_cases h2 : c = 104
    · simp [h2]
    by_cases h3 : c = 99
    · simp [h3]
    by_cases h4 : c = 98
    · simp [h4]
    simp [h1, h2, h3, h4]
  · rw [if_neg (nI_nle (by omega) (by omega)), if_neg e]
    by_cases h1 : c = 103 <;> simp [h1]
theorem w7_readsClause {o n p c w : Nat} {M0 M : MM} {t : Nat → Int32} {T : Txt} {Post : Int32 → MM → Prop} (hc : cx o M0 t n) (hw : w < 100) (h : tE o M0 n p c T M) (hK : ∀ q p', claS t n w p T.length = .inr (q, p') → ∀ M' c', tE o M0 n p' c' (T ++ [q]) M' → p < p' → Post 1 M') (hE : ∀ e, claS t n w p T.length = .inl e → ∀ M', fI (tF o) M0 M' → mgI M' o 7 = erV e.1 e.2 → Post 0 M') : wp_X7_readsClause M o (nI w) Post := by
  obtain ⟨hF, h5, h10, h12, hT, hcp, hpn, hTc⟩ := h
  have hL : ML o M := ML_of hF.e hc.1
  have ht : ar o 4 M = t := (funext fun k => hF.2 _ _ (by unfold tF; omega)).trans hc.2.1
  have hn6 : mgI M o 6 = nI n := (hF.2 _ _ (by unfold tF; omega)).trans hc.2.2.1
  have hn200 := hc.2.2.2
  unfold claS at hK hE
  unfold wp_X7_readsClause
  rw [w7_here hL ht h5 hn6 (by omega) (by omega), w7_isClause hw]
  by_cases e1 : clC w (chS t n p) = true
  · rw [if_pos e1, if_neg n10, h12]
    rw [if_neg (by rw [e1]; decide)] at hK hE
    have hlt : p < n := chS_lt (fun e => by
      rw [e] at e1
      unfold clC at e1
      split at e1
      · exact absurd e1 (by decide)
      · exact absurd e1 (by decide))
    by_cases e2 : T.length = 14
    · rw [if_pos (show nI T.length = (14 : Int32) from by rw [e2]; rfl)]
      rw [if_pos e2] at hE
      rw [w7_wrongAt, h5]
      exact ⟨Or.inl rfl, hE _ rfl _ (hF.s (by unfold tF; omega)) fd_e⟩
    · rw [if_neg (show ¬ nI T.length = (14 : Int32) from fun e => e2 ((nI_eq (a := T.length) (b := 14) (by omega) (by omega)).mp e))]
      rw [if_neg e2] at hK hE
      simp (disch := first | assumption | omega) only [mgR_sI, mgR_sL, mkd_sI, mkd_sL, mln_sI, mln_sL, Option.some.injEq, exists_eq_left', forall_eq, true_and, and_true, Nat.reduceLT, exists_eq_left, ML_r0, ML_k1, ML_l1, ML_r1, ML_k2, ML_l2, ML_r2, ML_k3, ML_l3, ML_r3, ML_k4, ML_l4, ML_r13, ML_k5, ML_l5, ML_r14, ML_k6, ML_l6, ML_r15, ML_k7, ML_l7, ML_r16, ML_k8, ML_l8, ML_r17, ML_k9, ML_l9, ML_r18, ML_k10, ML_l10, ML_r19, ML_k11, ML_l11, ML_r20, ML_k12, ML_l12, ML_r21, ML_k13, ML_l13, ML_r22, ML_k14, ML_l14, ML_r23, ML_k15, ML_l15, ML_r24, ML_k16, ML_l16, ML_r25, ML_k17, ML_l17, ML_r26, ML_k18, ML_l18, ML_r30, ML_k19, ML_l19, ML_r35, ML_k20, ML_l20, ML_r36, ML_k21, ML_l21, ML_r37, ML_k22, ML_l22, ML_r38, ML_k23, ML_l23, ML_r40, ML_k24, ML_l24, ML_r41, ML_k25, ML_l25, ML_r42, ML_k26, ML_l26, ML_r43, ML_k27, ML_l27, ML_r44, ML_k28, ML_l28, ML_r45, ML_k29, ML_l29, ML_r48, ML_k30, ML_l30, ML_r51, ML_k31, ML_l31, ML_r52, ML_k32, ML_l32, ia0, ia4, ia8, ia12, ia16, ia20, ia24, ia52, ia60, ia68, im7, im14, ap6, iaN, ap1, ixN, vpN, fd_c, fd_n, h12, h5, h10]
      have hFa : fI (tF o) M0 (msI (msI (msI (msI (msI M (o + 7) T.length (chS t n p)) o 5 (nI (p + 1))) (o + 8) T.length (nI c)) o 9 0) o 11 0) := ((((hF.s (by unfold tF; omega)).s (by unfold tF; omega)).s (by unfold tF; omega)).s (by unfold tF; omega)).s (by unfold tF; omega)
      have a5 : mgI (msI (msI (msI (msI (msI M (o + 7) T.length (chS t n p)) o 5 (nI (p + 1))) (o + 8) T.length (nI c)) o 9 0) o 11 0) o 5 = nI (p + 1) := by rw [fd_n (by omega), fd_n (by omega), fd_c (by omega), fd_e]
      have a10 : mgI (msI (msI (msI (msI (msI M (o + 7) T.length (chS t n p)) o 5 (nI (p + 1))) (o + 8) T.length (nI c)) o 9 0) o 11 0) o 10 = nI c := by rw [fd_n (by omega), fd_n (by omega), fd_c (by omega), fd_n (by omega), fd_c (by omega)]; exact h10
      have a12 : mgI (msI (msI (msI (msI (msI M (o + 7) T.length (chS t n p)) o 5 (nI (p + 1))) (o + 8) T.length (nI c)) o 9 0) o 11 0) o 12 = nI T.length := by rw [fd_n (by omega), fd_n (by omega), fd_c (by omega), fd_n (by omega), fd_c (by omega)]; exact h12
      have a9 : mgI (msI (msI (msI (msI (msI M (o + 7) T.length (chS t n p)) o 5 (nI (p + 1))) (o + 8) T.length (nI c)) o 9 0) o 11 0) o 9 = nI (6 - 6) := by rw [fd_n (by omega), fd_e]; rfl
      have a11 : mgI (msI (msI (msI (msI (msI M (o + 7) T.length (chS t n p)) o 5 (nI (p + 1))) (o + 8) T.length (nI c)) o 9 0) o 11 0) o 11 = nI ([] : List Nat).length := by rw [fd_e]; rfl
      have b7 : mgI (msI (msI (msI (msI (msI M (o + 7) T.length (chS t n p)) o 5 (nI (p + 1))) (o + 8) T.length (nI c)) o 9 0) o 11 0) (o + 7) T.length = chS t n p := by
        rw [mgI_sI, if_neg (by omega), mgI_sI, if_neg (by omega), mgI_sI, if_neg (by omega), mgI_sI, if_neg (by omega), mgI_sI, if_pos ⟨rfl, rfl⟩]
      have b8 : mgI (msI (msI (msI (msI (msI M (o + 7) T.length (chS t n p)) o 5 (nI (p + 1))) (o + 8) T.length (nI c)) o 9 0) o 11 0) (o + 8) T.length = nI c := by
        rw [mgI_sI, if_neg (by omega), mgI_sI, if_neg (by omega), mgI_sI, if_pos ⟨rfl, rfl⟩]
      have bk : ∀ a k, o + 7 ≤ a → a ≤ o + 10 → k < T.length → mgI (msI (msI (msI (msI (msI M (o + 7) T.length (chS t n p)) o 5 (nI (p + 1))) (o + 8) T.length (nI c)) o 9 0) o 11 0) a k = mgI M a k := by
        intro a k q1 q2 q3
        rw [mgI_sI, if_neg (by omega), mgI_sI, if_neg (by omega), mgI_sI, if_neg (by omega), mgI_sI, if_neg (by omega), mgI_sI, if_neg (by omega)]
      have bs : kp o c M (msI (msI (msI (msI (msI M (o + 7) T.length (chS t n p)) o 5 (nI (p + 1))) (o + 8) T.length (nI c)) o 9 0) o 11 0) := ((((kp.rf.n (by omega)).n (by omega)).n (by omega)).n (by omega)).n (by omega)
      generalize msI (msI (msI (msI (msI M (o + 7) T.length (chS t n p)) o 5 (nI (p + 1))) (o + 8) T.length (nI c)) o 9 0) o 11 0 = Ma at hFa a5 a10 a12 a9 a11 b7 b8 bk bs ⊢
      have hca : cx o Ma t n := ⟨ML_of hFa.e hc.1, (funext fun k => hFa.2 _ _ (by unfold tF; omega)).trans hc.2.1, (hFa.2 _ _ (by unfold tF; omega)).trans hc.2.2.1, hn200⟩
      have hpa : pE o Ma 0 n (p + 1) c 6 [] Ma := ⟨fI.rf, a5, a9, a10, a11, True.intro, fun x hx => absurd hx (by simp), by show c + 0 + 0 ≤ p + 1; omega, by show 0 ≤ p + 1; omega, by omega, by omega⟩
      refine w7_readsSum hca hpa (show 7 ≤ topQ [] from by decide) (fun d p1 e3 M1 c1 k1 k2 k3 k4 => ?_) (fun x e3 M' u1 u2 => ?_)
      · rw [if_neg n10]
        rw [e3] at hK hE
        dsimp only at hK hE
        have hb1 := k1.b hca
        have hL1 := k1.L hca
        have hgo1 := su_ok _ _ _ e3
        have d12 : mgI M1 o 12 = nI T.length := (k1.1.2 _ _ (by unfold pF; omega)).trans a12
        have d10 : mgI M1 o 10 = nI c1 := k1.2.2.2.1
        simp (disch := first | assumption | omega) only [mgR_sI, mgR_sL, mkd_sI, mkd_sL, mln_sI, mln_sL, Option.some.injEq, exists_eq_left', forall_eq, true_and, and_true, Nat.reduceLT, exists_eq_left, ML_r0, ML_k1, ML_l1, ML_r1, ML_k2, ML_l2, ML_r2, ML_k3, ML_l3, ML_r3, ML_k4, ML_l4, ML_r13, ML_k5, ML_l5, ML_r14, ML_k6, ML_l6, ML_r15, ML_k7, ML_l7, ML_r16, ML_k8, ML_l8, ML_r17, ML_k9, ML_l9, ML_r18, ML_k10, ML_l10, ML_r19, ML_k11, ML_l11, ML_r20, ML_k12, ML_l12, ML_r21, ML_k13, ML_l13, ML_r22, ML_k14, ML_l14, ML_r23, ML_k15, ML_l15, ML_r24, ML_k16, ML_l16, ML_r25, ML_k17, ML_l17, ML_r26, ML_k18, ML_l18, ML_r30, ML_k19, ML_l19, ML_r35, ML_k20, ML_l20, ML_r36, ML_k21, ML_l21, ML_r37, ML_k22, ML_l22, ML_r38, ML_k23, ML_l23, ML_r40, ML_k24, ML_l24, ML_r41, ML_k25, ML_l25, ML_r42, ML_k26, ML_l26, ML_r43, ML_k27, ML_l27, ML_r44, ML_k28, ML_l28, ML_r45, ML_k29, ML_l29, ML_r48, ML_k30, ML_l30, ML_r51, ML_k31, ML_l31, ML_r52, ML_k32, ML_l32, ia0, ia4, ia8, ia12, ia16, ia20, ia24, ia52, ia60, ia68, im7, im14, ap6, iaN, ap1, ixN, vpN, d12, d10]
        have hFb : fI (tF o) M0 (msI M1 (o + 9) T.length (nI c1)) := (hFa.tr (pF_tF k1.1)).s (by unfold tF; omega)
        have hcb : cx o (msI M1 (o + 9) T.length (nI c1)) t n := ⟨ML_of hFb.e hc.1, (funext fun k => hFb.2 _ _ (by unfold tF; omega)).trans hc.2.1, (hFb.2 _ _ (by unfold tF; omega)).trans hc.2.2.1, hn200⟩
        have hpb : pE o (msI M1 (o + 9) T.length (nI c1)) 0 n p1 c1 6 [] (msI M1 (o + 9) T.length (nI c1)) := by
          obtain ⟨q1, q2, q3, q4, q5, q6, q7, q8, q9, q10, q11⟩ := k1
          exact ⟨fI.rf, (fd_c (by omega)).trans q2, (fd_c (by omega)).trans q3, (fd_c (by omega)).trans q4, (fd_c (by omega)).trans q5, True.intro, q7, q8, q9, q10, q11⟩
        have hkb : kp o c1 M1 (msI M1 (o + 9) T.length (nI c1)) := kp.rf.n (by omega)
        refine w7_readsCondition hcb hpb (fun e4 M' u1 u2 => ?_) (fun d2 p2 e4 e5 M2 c2 j1 j2 j3 j4 => ?_) (fun x e4 e5 M' u1 u2 => ?_)
        · rw [if_pos rfl]
          rw [if_pos e4] at hE
          exact hE _ rfl M' (hFb.tr (pF_tF u1)) u2
        · rw [if_neg n10]
          rw [if_neg (fun x => x e4), e5] at hK
          have hb2 := j1.b hcb
          have hL2 := j1.L hcb
          have hgo2 := grB_ok (P := some (pcS t n 5)) (fun P' e => by cases e; exact pcS_ok 5) _ _ _ e5
          have f12 : mgI M2 o 12 = nI T.length := (j1.1.2 _ _ (by unfold pF; omega)).trans ((fd_c (by omega)).trans d12)
          have f10 : mgI M2 o 10 = nI c2 := j1.2.2.2.1
          simp (disch := first | assumption | omega) only [mgR_sI, mgR_sL, mkd_sI, mkd_sL, mln_sI, mln_sL, Option.some.injEq, exists_eq_left', forall_eq, true_and, and_true, Nat.reduceLT, exists_eq_left, ML_r0, ML_k1, ML_l1, ML_r1, ML_k2, ML_l2, ML_r2, ML_k3, ML_l3, ML_r3, ML_k4, ML_l4, ML_r13, ML_k5, ML_l5, ML_r14, ML_k6, ML_l6, ML_r15, ML_k7, ML_l7, ML_r16, ML_k8, ML_l8, ML_r17, ML_k9, ML_l9, ML_r18, ML_k10, ML_l10, ML_r19, ML_k11, ML_l11, ML_r20, ML_k12, ML_l12, ML_r21, ML_k13, ML_l13, ML_r22, ML_k14, ML_l14, ML_r23, ML_k15, ML_l15, ML_r24, ML_k16, ML_l16, ML_r25, ML_k17, ML_l17, ML_r26, ML_k18, ML_l18, ML_r30, ML_k19, ML_l19, ML_r35, ML_k20, ML_l20, ML_r36, ML_k21, ML_l21, ML_r37, ML_k22, ML_l22, ML_r38, ML_k23, ML_l23, ML_r40, ML_k24, ML_l24, ML_r41, ML_k25, ML_l25, ML_r42, ML_k26, ML_l26, ML_r43, ML_k27, ML_l27, ML_r44, ML_k28, ML_l28, ML_r45, ML_k29, ML_l29, ML_r48, ML_k30, ML_l30, ML_r51, ML_k31, ML_l31, ML_r52, ML_k32, ML_l32, ia0, ia4, ia8, ia12, ia16, ia20, ia24, ia52, ia60, ia68, im7, im14, ap6, iaN, ap1, ixN, vpN, fd_c, f12, f10]
          have hj5 : mgI M2 o 5 = nI p2 := j1.2.1
          have ks : kp o c1 M1 M2 := hkb.tr j3
          have kf : ∀ i, sdM o (msI (msI M2 (o + 10) T.length (nI c2)) o 12 (nI (T.length + 1))) i = sdM o M2 i := by
            intro i
            show mgI _ _ _ = _
            rw [mgI_sI, if_neg (by omega), mgI_sI, if_neg (by omega)]; rfl
          refine hK (chS t n p, d, d2) p2 rfl _ c2 ⟨((hFb.tr (pF_tF j1.1)).s (by unfold tF; omega)).s (by unfold tF; omega), ?_, ?_, ?_, ?_, by omega, by omega, ?_⟩ (by omega)
          · rw [fd_n (by omega), fd_c (by omega)]; exact hj5
          · rw [fd_n (by omega), fd_c (by omega)]; exact f10
          · rw [fd_e, List.length_append]; rfl
          · rw [List.length_append]; show T.length + 1 ≤ 14; omega
          · have an : ∀ a k, o + 7 ≤ a → a ≤ o + 10 → ¬ (a = o + 9 ∧ k = T.length) → ¬ (a = o + 10 ∧ k = T.length) → mgI (msI (msI M2 (o + 10) T.length (nI c2)) o 12 (nI (T.length + 1))) a k = mgI Ma a k := by
              intro a k q1 q2 q3 q4
              rw [mgI_sI, if_neg (by omega), mgI_sI, if_neg q4, j1.1.2 _ _ (by unfold pF; omega), mgI_sI, if_neg q3, k1.1.2 _ _ (by unfold pF; omega)]
            refine TcE.app (hTc.to (c' := c2) (by omega) (fun i hi => ?_) (fun a k q1 q2 q3 => ?_)) ?_
            · rw [kf, ks i (by omega), k3 i (by omega)]; exact bs i hi
            · rw [an a k q1 q2 (by omega) (by omega)]; exact bk a k q1 q2 (by omega)
            · rw [Nat.zero_add]
              refine ⟨(an _ _ (by omega) (by omega) (by omega) (by omega)).trans b7, c, c1, c2, (an _ _ (by omega) (by omega) (by omega) (by omega)).trans b8, ?_, ?_, k2, j2, Nat.le_refl _, ?_, ?_⟩
              · rw [mgI_sI, if_neg (by omega), mgI_sI, if_neg (by omega), j1.1.2 _ _ (by unfold pF; omega), mgI_sI, if_pos ⟨rfl, rfl⟩]
              · rw [mgI_sI, if_neg (by omega), mgI_sI, if_pos ⟨rfl, rfl⟩]
              · exact (k4.kp ks (Nat.le_refl _)).eq (fun i _ _ => kf i)
              · exact j4.eq (fun i _ _ => kf i)
        · rw [if_pos rfl]
          rw [if_neg (fun x => x e4), e5] at hE
          exact hE _ rfl M' (hFb.tr (pF_tF u1)) u2
      · rw [if_pos rfl]
        rw [e3] at hE
        exact hE x rfl M' (hFa.tr (pF_tF u1)) u2
  · rw [if_neg e1, if_pos rfl]
    rw [if_pos (by simpa using e1)] at hE
    rw [w7_wrongAt, h5]
    exact ⟨Or.inl rfl, hE _ rfl _ (hF.s (by unfold tF; omega)) fd_e⟩
