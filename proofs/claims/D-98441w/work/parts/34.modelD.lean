/-! the model: few, pot, ruleFor -/
set_option maxRecDepth 100000
theorem DPc.le {o : Nat} {M : MM} {l : Nat} {th rc rb : Int32} {who : Nat → Nat} {tn : Nat → Int32} {m k : Nat} {s : Nat → Int32} {T : Nat → Txt} (h : DPc o M l th rc rb who tn m s T) (hk : k ≤ m) : DPc o M l th rc rb who tn k s T := by
  obtain ⟨h1, h2, h3, h4, h5, h6, h7, h8⟩ := h
  exact ⟨h1, h2, h3, h4, h5, h6, h7, fun i hi => h8 i (by omega)⟩
def fwS (T : Nat → Txt) (s : Nat → Int32) (l n : Nat) (c : Int32) : Nat → Nat → Int32
  | 0, _ => -2
  | j + 1, k => if lvR T s l (-1) 0 (tn0 s) k n < c.toInt64 * tenL (n * (k + 1) - 1) then fwS T s l n c j (k + 1) else nI k
theorem l7_few {o l m n : Nat} {c : Int32} {M0 : MM} {T : Nat → Txt} {s : Nat → Int32} {Post : Int32 → MM → Prop} (hl : l < 4) (hr : RuOk s) (hlv : lvO s l) (hml : m ≤ (flS s 8).length) (hn0 : 1 ≤ n) (hn : n < 100) : ∀ j k M, k + j = m + 1 → gF o M0 M → DPc o M l (s (4 + l)) (-1) 0 (whoS s) (tn0 s) m s T → (∀ M', gF o M0 M' → ar o 1 M' = s → Post (fwS T s l n c j k) M') → wl_X7_few_26 o (nI n) (nI m) c (fun M_20 x5_22 => Post x5_22 M_20) (fun M_23 => Post (-2 : Int32) M_23) (j + 1) M (nI k) := by
  have hlen := flS_len (s := s) 8
  intro j
  induction j with
  | zero =>
    intro k M hk hF hD h
    unfold wl_X7_few_26
    rw [if_pos (nI_lt (by omega) (by omega))]
    exact h M hF hD.2.2.1
  | succ j ih =>
    intro k M hk hF hD h
    unfold wl_X7_few_26
    rw [if_neg (nI_nlt (by omega) (by omega)), ap1, show nI n * nI (k + 1) = nI (n * (k + 1)) from pk_mul n (k + 1)]
    have h1 : 1 ≤ n * (k + 1) := Nat.mul_pos (by omega) (by omega)
    have h2 : n * (k + 1) ≤ 100 * 9 := Nat.mul_le_mul (by omega) (by omega)
    rw [show nI (n * (k + 1)) - (1 : Int32) = nI (n * (k + 1) - 1) from (show nI (n * (k + 1)) - nI 1 = _ from pk_sub h1)]
    refine w7_tens (by omega) ?_
    refine w7_goes (hD.le (by omega)) hl hr (Or.inl rfl) hlv (by omega) hn (fun M2 hF2 hs2 _ => ?_)
    unfold fwS at h
    by_cases e : lvR T s l (-1) 0 (tn0 s) k n < c.toInt64 * tenL (n * (k + 1) - 1)
    · rw [if_pos e] at h ⊢
      simp only [forall_eq, ap1]
      exact ih (k + 1) M2 (by omega) (hF.tr hF2.1) (hD.e hF2 hs2) h
    · rw [if_neg e] at h ⊢
      exact h M2 (hF.tr hF2.1) hs2
theorem M_few {o : Nat} {M : MM} {T : Nat → Txt} {s : Nat → Int32} {l n m c : Int32} {Post : Int32 → MM → Prop} (hL : ML o M) (hT : TM o M T) (h31 : mgI M o 31 = -1) (hs : ar o 1 M = s) (hr : RuOk s) (hlv : ∀ l, l < 4 → livS s (nI l) = true → lvO s l) (h0 : (cgV s l n m && inS c 0 10) = false → ∀ M', gF o M M' → ar o 1 M' = s → Post (-1) M')
    (h1 : ∀ l' n' m', l' < 4 → l = nI l' → n = nI n' → m = nI m' → 1 ≤ m' → m' ≤ 3 → 1 ≤ n' → n' ≤ 9 → (cgV s l n m && inS c 0 10) = true → ∀ M', gF o M M' → ar o 1 M' = s → Post (fwS T s l' n' c (m' + 1) 0) M') : wp_X7_few M o l n m c Post := by
  unfold wp_X7_few
  refine w7_canGo hL hs (fun e M1 hk => ?_) (fun l' n' m' hl' hn1 hn2 hm1 hm2 e1 e2 e3 hml e M1 hk hw h33 h34 => ?_)
  · rw [if_pos rfl]; exact h0 (by rw [e]; rfl) M1 hk.1 (hk.2.1.trans hs)
  · rw [if_neg n10, w7_in]
    by_cases ec : inS c 0 10 = true
    · rw [if_pos ec, if_neg n10, e2, e3]
      have hliv := cg_liv e e1
      have hD := DPc.mk0 hL hT h31 hs hk hw h33 h34
      exact ⟨m' + 2, l7_few (M0 := M) hl' hr (hlv l' hl' hliv) hml hn1 (by omega) (m' + 1) 0 M1 (by omega) hk.1 hD (h1 l' n' m' hl' e1 e2 e3 hm1 hm2 hn1 hn2 (by rw [e, ec]; rfl))⟩
    · rw [if_neg ec, if_pos rfl]
      exact h0 (by rw [e]; simpa using ec) M1 hk.1 (hk.2.1.trans hs)
/-- the row with another pot -/
def poR (s : Nat → Int32) (l : Nat) (pot : Int32) : Nat → Int32 := up (up s l pot) (4 + l) (mi_ pot (s (4 + l)))
theorem flS_eq {s s' : Nat → Int32} (e : s' 78 = s 78) : ∀ p, flS s' p = flS s p := by
  intro p
  induction p with
  | zero => rfl
  | succ p ih =>
    unfold flS isPe
    rw [ih, e]
def ptS (T : Nat → Txt) (s : Nat → Int32) (l m n : Nat) (pot : Int32) : Int64 := lvR T (poR s l pot) l (-1) 0 (tn0 (poR s l pot)) m n - lvR T s l (-1) 0 (tn0 s) m n
theorem poR_ru {s : Nat → Int32} {l : Nat} {pot : Int32} (hl : l < 4) (h : RuOk s) : RuOk (poR s l pot) := fun p hp => by
  obtain ⟨r, h1, h2⟩ := h p hp
  exact ⟨r, h1, ((up_ne (by omega)).trans (up_ne (by omega))).trans h2⟩
theorem poR_lv {s : Nat → Int32} {l p : Nat} (hl : l < 4) (hp : 4 ≤ p) (hp2 : p ≤ 24) (h : lvO s l) : lvO (poR s l (nI p)) l := by
  obtain ⟨pot, w, br, d, r, h1, h2, h3, h4, h5, h6, h7, h8, h9, h10, h11⟩ := h
  refine ⟨p, min p w, br, d, r, (up_ne (by omega)).trans up_eq, ?_, ((up_ne (by omega)).trans (up_ne (by omega))).trans h3, ((up_ne (by omega)).trans (up_ne (by omega))).trans h4, ((up_ne (by omega)).trans (up_ne (by omega))).trans h5, hp, hp2, Nat.min_le_left _ _, h9, h10, h11⟩
  refine up_eq.trans ?_
  rw [h2, mi_nI (by omega) (by omega)]
theorem M_pot {o : Nat} {M : MM} {T : Nat → Txt} {s : Nat → Int32} {l n m c : Int32} {Post : Int64 → MM → Prop} (hL : ML o M) (hT : TM o M T) (h31 : mgI M o 31 = -1) (hs : ar o 1 M = s) (hr : RuOk s) (hlv : ∀ l, l < 4 → livS s (nI l) = true → lvO s l) (h0 : (cgV s l n m && inS c 4 24) = false → ∀ M', gF o M M' → ar o 1 M' = s → Post (-1000000000000) M')
    (h1 : ∀ l' n' m', l' < 4 → l = nI l' → n = nI n' → m = nI m' → 1 ≤ m' → m' ≤ 3 → 1 ≤ n' → n' ≤ 9 → (cgV s l n m && inS c 4 24) = true → ∀ M', gF o M M' → ar o 1 M' = s → Post (ptS T s l' m' n' c) M') : wp_X7_pot M o l n m c Post := by
  unfold wp_X7_pot
  refine w7_canGo hL hs (fun e M1 hk => ?_) (fun l' n' m' hl' hn1 hn2 hm1 hm2 e1 e2 e3 hml e M1 hk hw h33 h34 => ?_)
  · rw [if_pos rfl]; exact h0 (by rw [e]; rfl) M1 hk.1 (hk.2.1.trans hs)
  · rw [if_neg n10, w7_in]
    by_cases ec : inS c 4 24 = true
    · rw [if_pos ec, if_neg n10, e2, e3]
      obtain ⟨p, hp1, hp2, hp3⟩ := inS_ab (a := 4) (b := 24) (by omega) (by omega) ec
      have hliv := cg_liv e e1
      have hD := DPc.mk0 hL hT h31 hs hk hw h33 h34
      refine w7_goes hD hl' hr (Or.inl rfl) (hlv l' hl' hliv) hml (by omega) (fun M2 hF2 hs2 _ => ?_)
      have hL2 : ML o M2 := ML_of hF2.1.1 hD.1
      have hD2 := hD.e hF2 hs2
      rw [e1]
      simp (disch := first | assumption | omega) only [mgR_sI, mgR_sL, mkd_sI, mkd_sL, mln_sI, mln_sL, Option.some.injEq, exists_eq_left', forall_eq, true_and, and_true, Nat.reduceLT, exists_eq_left, ML_r0, ML_k1, ML_l1, ML_r1, ML_k2, ML_l2, ML_r2, ML_k3, ML_l3, ML_r3, ML_k4, ML_l4, ML_r13, ML_k5, ML_l5, ML_r14, ML_k6, ML_l6, ML_r15, ML_k7, ML_l7, ML_r16, ML_k8, ML_l8, ML_r17, ML_k9, ML_l9, ML_r18, ML_k10, ML_l10, ML_r19, ML_k11, ML_l11, ML_r20, ML_k12, ML_l12, ML_r21, ML_k13, ML_l13, ML_r22, ML_k14, ML_l14, ML_r23, ML_k15, ML_l15, ML_r24, ML_k16, ML_l16, ML_r25, ML_k17, ML_l17, ML_r26, ML_k18, ML_l18, ML_r30, ML_k19, ML_l19, ML_r35, ML_k20, ML_l20, ML_r36, ML_k21, ML_l21, ML_r37, ML_k22, ML_l22, ML_r38, ML_k23, ML_l23, ML_r40, ML_k24, ML_l24, ML_r41, ML_k25, ML_l25, ML_r42, ML_k26, ML_l26, ML_r43, ML_k27, ML_l27, ML_r44, ML_k28, ML_l28, ML_r45, ML_k29, ML_l29, ML_r48, ML_k30, ML_l30, ML_r51, ML_k31, ML_l31, ML_r52, ML_k32, ML_l32, ia0, ia4, ia8, ia12, ia16, ia20, ia24, ia52, ia60, ia68, im7, im14, ap6, iaN, ap1, ixN, vpN, w7_min, arE (o := o) (c := 1), ar_s, hs2, up_eq, up_ne, if_true]
      have hD3 : DPc o (msI (msI (msI M2 (o + 1) l' c) (o + 1) (4 + l') (mi_ c (s (4 + l')))) o 34 (mi_ c (s (4 + l')))) l' (poR s l' c (4 + l')) (-1) 0 (whoS (poR s l' c)) (tn0 (poR s l' c)) m' (poR s l' c) T := by
        obtain ⟨g1, g2, g3, g4, g5, g6, g7, g8⟩ := hD2
        have hfl := flS_eq (s := s) (s' := poR s l' c) ((up_ne (by omega)).trans (up_ne (by omega)))
        have hwho : whoS (poR s l' c) = whoS s := funext fun i => by unfold whoS; rw [hfl]
        refine ⟨ML_of rfl g1, g2.of (fun c a b k => ?_), ?_, ?_, ?_, ?_, Or.inl rfl, fun i hi => ?_⟩
        · rw [mgI_sI, if_neg (by omega), mgI_sI, if_neg (by omega), mgI_sI, if_neg (by omega)]
        · rw [ar_0 (by omega), ar_s, if_pos rfl, ar_s, if_pos rfl, g3]; rfl
        · rw [fd_n (by omega), fd_c (by omega), fd_c (by omega)]; exact g4
        · rw [fd_e]; exact (up_eq (s := up s l' c)).symm
        · rw [fd_n (by omega), fd_c (by omega), fd_c (by omega)]; exact g6
        · have hwl : whoS s i < 8 := flS_lt 8 i (by omega)
          have ht : tn0 (poR s l' c) i = tn0 s i := by
            unfold tn0; rw [hwho]; exact (up_ne (by omega)).trans (up_ne (by omega))
          rw [hwho, ht, ar_0 (by omega), ar_s, if_neg (by omega), ar_s, if_neg (by omega), ar_0 (by omega), ar_s, if_neg (by omega), ar_s, if_neg (by omega)]
          exact g8 i hi
      have hF3 : gF o M (msI (msI (msI M2 (o + 1) l' c) (o + 1) (4 + l') (mi_ c (s (4 + l')))) o 34 (mi_ c (s (4 + l')))) := (((hk.1.tr hF2.1).s PSc1).s PSc1).s (by unfold PSc; omega)
      have hfl := flS_eq (s := s) (s' := poR s l' c) ((up_ne (by omega)).trans (up_ne (by omega)))
      refine w7_goes hD3 hl' (poR_ru hl' hr) (Or.inl rfl) (by rw [hp3]; exact poR_lv hl' hp1 hp2 (hlv l' hl' hliv)) (by rw [hfl]; exact hml) (by omega) (fun M4 hF4 hs4 _ => ?_)
      have hL4 : ML o M4 := ML_of hF4.1.1 hD3.1
      simp (disch := first | assumption | omega) only [mgR_sI, mgR_sL, mkd_sI, mkd_sL, mln_sI, mln_sL, Option.some.injEq, exists_eq_left', forall_eq, true_and, and_true, Nat.reduceLT, exists_eq_left, ML_r0, ML_k1, ML_l1, ML_r1, ML_k2, ML_l2, ML_r2, ML_k3, ML_l3, ML_r3, ML_k4, ML_l4, ML_r13, ML_k5, ML_l5, ML_r14, ML_k6, ML_l6, ML_r15, ML_k7, ML_l7, ML_r16, ML_k8, ML_l8, ML_r17, ML_k9, ML_l9, ML_r18, ML_k10, ML_l10, ML_r19, ML_k11, ML_l11, ML_r20, ML_k12, ML_l12, ML_r21, ML_k13, ML_l13, ML_r22, ML_k14, ML_l14, ML_r23, ML_k15, ML_l15, ML_r24, ML_k16, ML_l16, ML_r25, ML_k17, ML_l17, ML_r26, ML_k18, ML_l18, ML_r30, ML_k19, ML_l19, ML_r35, ML_k20, ML_l20, ML_r36, ML_k21, ML_l21, ML_r37, ML_k22, ML_l22, ML_r38, ML_k23, ML_l23, ML_r40, ML_k24, ML_l24, ML_r41, ML_k25, ML_l25, ML_r42, ML_k26, ML_l26, ML_r43, ML_k27, ML_l27, ML_r44, ML_k28, ML_l28, ML_r45, ML_k29, ML_l29, ML_r48, ML_k30, ML_l30, ML_r51, ML_k31, ML_l31, ML_r52, ML_k32, ML_l32, ia0, ia4, ia8, ia12, ia16, ia20, ia24, ia52, ia60, ia68, im7, im14, ap6, iaN, ap1, ixN, vpN]
      refine h1 l' n' m' hl' e1 e2 e3 hm1 hm2 hn1 hn2 (by rw [e, ec]; rfl) _ (((hF3.tr hF4.1).s PSc1).s PSc1) ?_
      rw [ar_s, if_pos rfl, ar_s, if_pos rfl, hs4]
      funext k
      unfold poR up
      by_cases k1 : k = 4 + l'
      · rw [if_pos k1, k1]
      · rw [if_neg k1]
        by_cases k2 : k = l'
        · rw [if_pos k2, k2]
        · rw [if_neg k2, if_neg k1, if_neg k2]
    · rw [if_neg ec, if_pos rfl]
      exact h0 (by rw [e]; simpa using ec) M1 hk.1 (hk.2.1.trans hs)

theorem gF.L31 {o : Nat} {M1 M2 : MM} {c : Int32} (h : gF o (msI M1 o 31 c) M2) (h31 : mgI M1 o 31 = -1) : gF o M1 (msI M2 o 31 (-1)) := by
  refine ⟨h.1, fun a k hp => ?_, h.2.2⟩
  rw [mgI_sI]
  by_cases e : a = o ∧ k = 31
  · rw [if_pos e, e.1, e.2, h31]
  · rw [if_neg e, h.2.1 a k hp, mgI_sI, if_neg e]
def rfF (T : Nat → Txt) (s : Nat → Int32) (l m n : Nat) (c : Int32) (x : Nat) : Int64 := lvR T s l c (nI x) (tn0 s) m n
theorem l7_rf {o l m n : Nat} {x5 c : Int32} {M0 : MM} {T : Nat → Txt} {s : Nat → Int32} {R : Int32 × Int64} {X : MM → Int32 → Int64 → Prop} (hl : l < 4) (hr : RuOk s) (hlv : lvO s l) (hml : m ≤ (flS s 8).length) (hn : n < 100) (hc : ∃ r, r ≤ 9 ∧ c = nI r) (hc1 : ¬ c = -1)
    (h : ∀ M' b mo, gF o M0 M' → ar o 1 M' = s → (b, mo) = R → X M' b mo) : ∀ j x M b mo, x + j = 25 → gF o M0 M → (∀ rb, DPc o (msI M o 32 rb) l (s (4 + l)) c rb (whoS s) (tn0 s) m s T) → ar o 1 M = s → bsL (rfF T s l m n c) nI j x b mo = R → wl_X7_ruleFor_52 o (nI n) (nI m) x5 X (j + 1) M b mo (nI x) := by
  have hlen := flS_len (s := s) 8
  intro j
  induction j with
  | zero =>
    intro x M b mo hx hF hD hs hb
    unfold wl_X7_ruleFor_52
    rw [if_pos (show (24 : Int32) < nI x from (show nI 24 < nI x from nI_lt (by omega) (by omega)))]
    exact h M b mo hF hs hb
  | succ j ih =>
    intro x M b mo hx hF hD hs hb
    unfold wl_X7_ruleFor_52
    rw [if_neg (show ¬ (24 : Int32) < nI x from (show ¬ nI 24 < nI x from nI_nlt (by omega) (by omega)))]
    simp only [forall_eq]
    refine w7_goes (hD (nI x)) hl hr (Or.inr hc) hlv hml hn (fun M2 hF2 hs2 _ => ?_)
    have hF02 : gF o M0 M2 := (hF.s (by unfold PSc; omega)).tr hF2.1
    have hD2 := (hD (nI x)).e hF2 hs2
    have hD2' : ∀ rb, DPc o (msI M2 o 32 rb) l (s (4 + l)) c rb (whoS s) (tn0 s) m s T := by
      intro rb
      obtain ⟨g1, g2, g3, g4, g5, g6, g7, g8⟩ := hD2
      refine ⟨ML_of rfl g1, g2.of (fun c a b k => by rw [mgI_sI, if_neg (by omega)]), (ar_0 (by omega)).trans g3, (fd_n (by omega)).trans g4, (fd_n (by omega)).trans g5, (fd_n (by omega)).trans g6, Or.inr fd_e, fun i hi => ?_⟩
      rw [ar_0 (by omega), ar_0 (by omega)]; exact g8 i hi
    have hv : lvR T s l c (nI x) (tn0 s) m n = rfF T s l m n c x := rfl
    rw [hv]
    unfold bsL at hb
    by_cases e : mo < rfF T s l m n c x
    · rw [if_pos e] at hb ⊢
      simp only [ap1]
      exact ih (x + 1) M2 _ _ (by omega) hF02 hD2' hs2 hb
    · rw [if_neg e] at hb ⊢
      simp only [ap1]
      exact ih (x + 1) M2 _ _ (by omega) hF02 hD2' hs2 hb
def rfS (T : Nat → Txt) (s : Nat → Int32) (l m n : Nat) (c : Int32) : Int32 × Int64 := bsL (rfF T s l m n c) nI 25 0 0 (-1)
theorem M_ruleFor {o : Nat} {M : MM} {T : Nat → Txt} {s : Nat → Int32} {l n m c w : Int32} {Post : Int64 → MM → Prop} (hL : ML o M) (hT : TM o M T) (h31 : mgI M o 31 = -1) (hs : ar o 1 M = s) (hr : RuOk s) (hlv : ∀ l, l < 4 → livS s (nI l) = true → lvO s l) (h0 : (cgV s l n m && inS c 1 9 && inS w 0 1) = false → ∀ M', gF o M M' → ar o 1 M' = s → Post (-1) M')
    (h1 : ∀ l' n' m', l' < 4 → l = nI l' → n = nI n' → m = nI m' → 1 ≤ m' → m' ≤ 3 → 1 ≤ n' → n' ≤ 9 → (cgV s l n m && inS c 1 9 && inS w 0 1) = true → ∀ M', gF o M M' → ar o 1 M' = s → Post (wtS (rfS T s l' m' n' c) w) M') : wp_X7_ruleFor M o l n m c w Post := by
  unfold wp_X7_ruleFor
  refine w7_canGo hL hs (fun e M1 hk => ?_) (fun l' n' m' hl' hn1 hn2 hm1 hm2 e1 e2 e3 hml e M1 hk hw h33 h34 => ?_)
  · rw [if_pos rfl]; exact h0 (by rw [e]; rfl) M1 hk.1 (hk.2.1.trans hs)
  · rw [if_neg n10, w7_in]
    by_cases ec : inS c 1 9 = true
    · rw [if_pos ec, if_neg n10, w7_in]
      by_cases ew : inS w 0 1 = true
      · rw [if_pos ew, if_neg n10, e2, e3]
        obtain ⟨r, hr1, hr2, hr3⟩ := inS_ab (a := 1) (b := 9) (by omega) (by omega) ec
        have hliv := cg_liv e e1
        have hD := DPc.mk0 hL hT h31 hs hk hw h33 h34
        have hc1 : ¬ c = -1 := by
          intro hx
          have h2 := (inS_iff.mp ec).1
          rw [hx] at h2
          exact absurd h2 (by decide)
        simp only [forall_eq]
        have hDr : ∀ rb, DPc o (msI (msI M1 o 31 c) o 32 rb) l' (s (4 + l')) c rb (whoS s) (tn0 s) m' s T := by
          intro rb
          obtain ⟨g1, g2, g3, g4, g5, g6, g7, g8⟩ := hD
          refine ⟨ML_of rfl g1, g2.of (fun c a b k => by rw [mgI_sI, if_neg (by omega), mgI_sI, if_neg (by omega)]), (ar_0 (by omega)).trans ((ar_0 (by omega)).trans g3), (fd_n (by omega)).trans ((fd_n (by omega)).trans g4), (fd_n (by omega)).trans ((fd_n (by omega)).trans g5), (fd_n (by omega)).trans fd_e, Or.inr fd_e, fun i hi => ?_⟩
          rw [ar_0 (by omega), ar_0 (by omega), ar_0 (by omega), ar_0 (by omega)]; exact g8 i hi
        have h31' : mgI M1 o 31 = -1 := hD.2.2.2.2.2.1
        refine ⟨26, l7_rf (T := T) (M0 := msI M1 o 31 c) (R := rfS T s l' m' n' c) hl' hr (hlv l' hl' hliv) hml (by omega) ⟨r, hr2, hr3⟩ hc1 (fun M' b mo hF hs' hb => ?_) 25 0 _ 0 (-1) (by omega) gF.rf hDr ((ar_0 (by omega)).trans hD.2.2.1) rfl⟩
        have fin := h1 l' n' m' hl' e1 e2 e3 hm1 hm2 hn1 hn2 (by rw [e, ec, ew]; rfl) _ (hk.1.tr (hF.L31 h31')) ((ar_0 (by omega)).trans hs')
        rw [← hb] at fin
        unfold wtS at fin
        by_cases e4 : w = 0
        · rw [if_pos e4] at fin ⊢; exact fin
        · rw [if_neg e4] at fin ⊢; exact fin
      · rw [if_neg ew, if_pos rfl]
        exact h0 (by rw [e, ec]; simpa using ew) M1 hk.1 (hk.2.1.trans hs)
    · rw [if_neg ec, if_pos rfl]
      exact h0 (by rw [e]; simp [ec]) M1 hk.1 (hk.2.1.trans hs)
