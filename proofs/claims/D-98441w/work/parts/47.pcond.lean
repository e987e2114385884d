/-! the model: conditions are read -/
set_option maxRecDepth 100000
/-- what follows a piece that is ended -/
def X170C (o : Nat) (Post : Int32 → MM → Prop) : MM → Prop := fun M_84 => wp_X7_wrongAt M_84 o (1 : Int32) (mgI M_84 o 5) (fun r_87 M_86 => isB_ r_87 ∧ Post r_87 M_86)
def L40C (o : Nat) (Post : Int32 → MM → Prop) (G : Nat) : MM → Prop := wl_X7_readsCondition_40 o (fun M => Post 0 M) (fun M => Post 0 M) (fun M => Post 1 M) (X170C o Post) G
def X152C (o : Nat) (Post : Int32 → MM → Prop) (G : Nat) : MM → Prop := fun M_53 => wp_X7_here M_53 o (fun r_56 M_55 => if r_56 = (38 : Int32) then (wb_X7_readsCondition_180 M_55 o (L40C o Post G) (fun M => Post 0 M) (fun M => Post 0 M) (fun M => Post 1 M) (X170C o Post))
  else (wp_X7_here M_55 o (fun r_74 M_73 => if r_74 = (124 : Int32) then (wb_X7_readsCondition_180 M_73 o (L40C o Post G) (fun M => Post 0 M) (fun M => Post 0 M) (fun M => Post 1 M) (X170C o Post))
  else (X170C o Post M_73))))
def LLp (o n : Nat) (Post : Int32 → MM → Prop) (p : Nat) (M : MM) : Prop := ∀ G, n < p + G → L40C o Post G M
def QLp (o n : Nat) (Post : Int32 → MM → Prop) (p : Nat) (M : MM) : Prop := ∀ F G, n < p + F → n < p + G → wl_X7_readsCondition_92 o (fun M => Post 1 M) (X152C o Post G) F M
def EPp (o n : Nat) (Post : Int32 → MM → Prop) (p : Nat) (M : MM) : Prop := ∀ Q : MM → Prop, (∀ M', QLp o n Post p M' → Q M') → wp_X7_endsPiece M o Q
theorem pE.pat {o n p c r k : Nat} {z : Nat} {M0 M : MM} {st : List Nat} {v : Int32} (h : pE o M0 z n p c r st M) : pE o M0 z n p c r st (msI M (o + 5) k v) := by
  obtain ⟨h1, h2, h3, h4, h5, h6, h7⟩ := h
  exact ⟨h1.s (by unfold pF; omega), (fd_c (by omega)).trans h2, (fd_c (by omega)).trans h3, (fd_c (by omega)).trans h4, (fd_c (by omega)).trans h5, h6.n (by omega), h7⟩
/-- a piece ends where no not waits -/
theorem ep_stop {o n p c r : Nat} {z : Nat} {M0 M : MM} {st : List Nat} {t : Nat → Int32} {Post : Int32 → MM → Prop} (h : pE o M0 z n p c r st M) (hc : cx o M0 t n) (h1 : ¬ topQ st = 10) (hQ : QLp o n Post p M) : EPp o n Post p M := by
  intro Q hK
  refine ⟨1, ?_⟩
  unfold wl_X7_endsPiece_0
  rw [h.waitTop hc]
  cases st with
  | nil => rw [show wtV [] = -1 from rfl, if_neg (by decide)]; exact hK M hQ
  | cons y s =>
    have he : y < 16777216 := h.2.2.2.2.2.2.1 y (List.mem_cons_self ..)
    have h1' : ¬ y / 1048576 = 10 := h1
    have hv : wtV (y :: s) = nI (y / 1048576) := rfl
    rw [hv, if_neg (show ¬ nI (y / 1048576) = (10 : Int32) from fun e => h1' ((nI_eq (a := y / 1048576) (b := 10) (by omega) (by omega)).mp e))]
    exact hK M hQ
/-- one not is laid -/
theorem ep_not {o n p c r : Nat} {z : Nat} {M0 M : MM} {W : List Nat} {t : Nat → Int32} {Post : Int32 → MM → Prop} (h : pE o M0 z n p c r (1048576 * 10 :: W) M) (hc : cx o M0 t n) (hr : r < 6) (hK : ∀ M', pE o M0 z n p (c + 1) (r + 1) W M' → kp o c M M' → sdM o M' c = nI (1048576 * 10 + 0) → EPp o n Post p M') : EPp o n Post p M := by
  intro Q hQ
  have h11 : mgI M o 11 = nI (W.length + 1) := h.2.2.2.2.1
  have hb := h.b hc
  have hh := (h.nt1 (e := 1048576 * 10 + 0) (by omega)).lev (r' := r + 1) (by omega)
  have hE := hK _ hh ?_ ?_ Q hQ
  · obtain ⟨F, hF⟩ := hE
    refine ⟨F + 1, ?_⟩
    unfold wl_X7_endsPiece_0
    rw [h.waitTop hc, wtV_q, if_pos (show nI 10 = (10 : Int32) from rfl)]
    refine h.notes (q := 10) (v := 0) hc ?_
    have e11 : mgI (ntM o M c (1048576 * 10 + 0)) o 11 = nI (W.length + 1) := by
      unfold ntM
      rw [fd_n (by omega), fd_c (by omega)]; exact h11
    have e9 : mgI (ntM o M c (1048576 * 10 + 0)) o 9 = nI (6 - r) := by
      unfold ntM
      rw [fd_n (by omega), fd_c (by omega)]; exact h.2.2.1
    simp only [forall_eq]
    rw [e11, as1 (by omega), Nat.add_sub_cancel, fd_n (by omega), e9, as1 (by omega), show 6 - r - 1 = 6 - (r + 1) by omega]
    exact hF
  · exact ((kp.rf.nt (Nat.le_refl _)).n (by omega)).n (by omega)
  · show mgI _ _ _ = _
    rw [mgI_sI, if_neg (by omega), mgI_sI, if_neg (by omega)]; exact nt_at
/-- a jump that waits for where it lands -/
def pj (q : Nat) (k : Option Nat) (W : List Nat) : List Nat := match k with
  | none => W
  | some k => (1048576 * q + k) :: W
def PdA (sd : Nat → Int32) (c0 c : Nat) (d : Den) : Option Nat → Prop
  | none => SegS sd c0 c d
  | some k => ∃ d1 d2, c0 < k ∧ k + 1 < c ∧ SegS sd c0 k d1 ∧ sd k = nI (1048576 * 11 + 0) ∧ SegS sd (k + 1) c d2 ∧ d = andD d1 d2
def PdO (sd : Nat → Int32) (c0 c : Nat) (d : Den) : Option Nat → Option Nat → Prop
  | none, m => PdA sd c0 c d m
  | some k, m => ∃ d1 d2, c0 < k ∧ k + 1 < c ∧ SegS sd c0 k d1 ∧ sd k = nI (1048576 * 12 + 0) ∧ PdA sd (k + 1) c d2 m ∧ d = orD d1 d2
def LDL (o : Nat) (x : Int32) (X : MM → Prop) (M : MM) : Prop := ∃ F, wl_X7_lands_0 o x X F M
theorem ld_stop {o n p c r : Nat} {x : Int32} {z : Nat} {M0 M : MM} {st : List Nat} {t : Nat → Int32} {X : MM → Prop} (h : pE o M0 z n p c r st M) (hc : cx o M0 t n) (h1 : ¬ topQ st = 11) (h2 : x = 0 ∨ ¬ topQ st = 12) (hX : X M) : LDL o x X M := by
  refine ⟨1, ?_⟩
  unfold wl_X7_lands_0
  rw [h.waitTop hc]
  cases st with
  | nil =>
    rw [show wtV [] = -1 from rfl, if_neg (by decide)]
    by_cases e : x = 0
    · rw [if_pos e]; exact hX
    · rw [if_neg e, h.waitTop hc, show wtV [] = -1 from rfl, if_neg (by decide)]; exact hX
  | cons y s =>
    have he : y < 16777216 := h.2.2.2.2.2.2.1 y (List.mem_cons_self ..)
    have h1' : ¬ y / 1048576 = 11 := h1
    have hv : wtV (y :: s) = nI (y / 1048576) := rfl
    rw [hv, if_neg (show ¬ nI (y / 1048576) = (11 : Int32) from fun e => h1' ((nI_eq (a := y / 1048576) (b := 11) (by omega) (by omega)).mp e))]
    by_cases e : x = 0
    · rw [if_pos e]; exact hX
    · have h2' : ¬ y / 1048576 = 12 := h2.resolve_left e
      rw [if_neg e, h.waitTop hc, hv, if_neg (show ¬ nI (y / 1048576) = (12 : Int32) from fun e => h2' ((nI_eq (a := y / 1048576) (b := 12) (by omega) (by omega)).mp e))]
      exact hX
theorem wtV_j {q k : Nat} {st : List Nat} (hk : k < 1048576) : wtV ((1048576 * q + k) :: st) = nI q := by
  show nI ((1048576 * q + k) / 1048576) = nI q
  congr 1; omega
theorem ld_pop {o n p c r q k : Nat} {x : Int32} {z : Nat} {M0 M : MM} {W : List Nat} {t : Nat → Int32} {X : MM → Prop} (h : pE o M0 z n p c r ((1048576 * q + k) :: W) M) (hc : cx o M0 t n) (hq : q = 11 ∨ (¬ x = 0 ∧ q = 12)) (hk : k < c) (hs : sdM o M k = nI (1048576 * q + 0)) (hX : LDL o x X (msI (msI M (o + 5) k (nI (1048576 * q + c))) o 11 (nI W.length))) : LDL o x X M := by
  obtain ⟨F, hF⟩ := hX
  have hb := h.b hc
  have hL := h.L hc
  have h11 : mgI M o 11 = nI (W.length + 1) := h.2.2.2.2.1
  have h6 : mgI M (o + 6) W.length = nI (1048576 * q + k) := h.2.2.2.2.2.1.1
  have hs' : mgI M (o + 5) k = nI (1048576 * q + 0) := hs
  have hcm : mgI M o 10 = nI c := h.2.2.2.1
  have hlen : W.length + 1 ≤ p := h.2.2.2.2.2.2.2.2.1
  refine ⟨F + 1, ?_⟩
  have w22 : wb_X7_lands_22 M o x (wl_X7_lands_0 o x X F) X := by
    unfold wb_X7_lands_22
    rw [h11, as1 (by omega), Nat.add_sub_cancel]
    simp (disch := first | assumption | omega) only [mgR_sI, mgR_sL, mkd_sI, mkd_sL, mln_sI, mln_sL, Option.some.injEq, exists_eq_left', forall_eq, true_and, and_true, Nat.reduceLT, exists_eq_left, ML_r0, ML_k1, ML_l1, ML_r1, ML_k2, ML_l2, ML_r2, ML_k3, ML_l3, ML_r3, ML_k4, ML_l4, ML_r13, ML_k5, ML_l5, ML_r14, ML_k6, ML_l6, ML_r15, ML_k7, ML_l7, ML_r16, ML_k8, ML_l8, ML_r17, ML_k9, ML_l9, ML_r18, ML_k10, ML_l10, ML_r19, ML_k11, ML_l11, ML_r20, ML_k12, ML_l12, ML_r21, ML_k13, ML_l13, ML_r22, ML_k14, ML_l14, ML_r23, ML_k15, ML_l15, ML_r24, ML_k16, ML_l16, ML_r25, ML_k17, ML_l17, ML_r26, ML_k18, ML_l18, ML_r30, ML_k19, ML_l19, ML_r35, ML_k20, ML_l20, ML_r36, ML_k21, ML_l21, ML_r37, ML_k22, ML_l22, ML_r38, ML_k23, ML_l23, ML_r40, ML_k24, ML_l24, ML_r41, ML_k25, ML_l25, ML_r42, ML_k26, ML_l26, ML_r43, ML_k27, ML_l27, ML_r44, ML_k28, ML_l28, ML_r45, ML_k29, ML_l29, ML_r48, ML_k30, ML_l30, ML_r51, ML_k31, ML_l31, ML_r52, ML_k32, ML_l32, ia0, ia4, ia8, ia12, ia16, ia20, ia24, ia52, ia60, ia68, im7, im14, ap6, iaN, ap1, ixN, vpN, h6]
    rw [show rm_ (nI (1048576 * q + k)) (1048576 : Int32) = nI k from cd_rem (by omega) (by omega)]
    simp (disch := first | assumption | omega) only [mgR_sI, mgR_sL, mkd_sI, mkd_sL, mln_sI, mln_sL, Option.some.injEq, exists_eq_left', forall_eq, true_and, and_true, Nat.reduceLT, exists_eq_left, ML_r0, ML_k1, ML_l1, ML_r1, ML_k2, ML_l2, ML_r2, ML_k3, ML_l3, ML_r3, ML_k4, ML_l4, ML_r13, ML_k5, ML_l5, ML_r14, ML_k6, ML_l6, ML_r15, ML_k7, ML_l7, ML_r16, ML_k8, ML_l8, ML_r17, ML_k9, ML_l9, ML_r18, ML_k10, ML_l10, ML_r19, ML_k11, ML_l11, ML_r20, ML_k12, ML_l12, ML_r21, ML_k13, ML_l13, ML_r22, ML_k14, ML_l14, ML_r23, ML_k15, ML_l15, ML_r24, ML_k16, ML_l16, ML_r25, ML_k17, ML_l17, ML_r26, ML_k18, ML_l18, ML_r30, ML_k19, ML_l19, ML_r35, ML_k20, ML_l20, ML_r36, ML_k21, ML_l21, ML_r37, ML_k22, ML_l22, ML_r38, ML_k23, ML_l23, ML_r40, ML_k24, ML_l24, ML_r41, ML_k25, ML_l25, ML_r42, ML_k26, ML_l26, ML_r43, ML_k27, ML_l27, ML_r44, ML_k28, ML_l28, ML_r45, ML_k29, ML_l29, ML_r48, ML_k30, ML_l30, ML_r51, ML_k31, ML_l31, ML_r52, ML_k32, ML_l32, ia0, ia4, ia8, ia12, ia16, ia20, ia24, ia52, ia60, ia68, im7, im14, ap6, iaN, ap1, ixN, vpN, hs', fd_c, h11, hcm]
    rw [show nI (1048576 * q + 0) / (1048576 : Int32) = nI q from cd_div (by omega) (by omega), mk20, iaN, as1 (by omega), Nat.add_sub_cancel]
    exact hF
  unfold wl_X7_lands_0
  rw [h.waitTop hc, wtV_j (by omega)]
  rcases hq with rfl | ⟨hx, rfl⟩
  · rw [if_pos (show nI 11 = (11 : Int32) from rfl)]; exact w22
  · rw [if_neg (show ¬ nI 12 = (11 : Int32) by decide), if_neg hx, h.waitTop hc, wtV_j (by omega), if_pos (show nI 12 = (12 : Int32) from rfl)]; exact w22
theorem kp_pat {o k : Nat} {M M1 : MM} {v : Int32} (h : kp o k M M1) : kp o k M (msI M1 (o + 5) k v) := fun j hj => by
  show mgI (msI M1 (o + 5) k v) (o + 5) j = _
  rw [mgI_sI, if_neg (by omega)]; exact h j hj
/-- the and that waits lands -/
theorem land_m {o n p c c0 r : Nat} {x : Int32} {z : Nat} {M0 M : MM} {m : Option Nat} {W : List Nat} {d : Den} {t : Nat → Int32} {X : MM → Prop} (h : pE o M0 z n p c r (pj 11 m W) M) (hc : cx o M0 t n) (hP : PdA (sdM o M) c0 c d m) (hX : ∀ M', pE o M0 z n p c r W M' → kp o c0 M M' → SegS (sdM o M') c0 c d → (∀ k, k < c0 → sdM o M' k = sdM o M k) → LDL o x X M') : LDL o x X M := by
  cases m with
  | none => exact hX M h kp.rf hP (fun _ _ => rfl)
  | some k =>
    obtain ⟨d1, d2, e1, e2, e3, e4, e5, e6⟩ := hP
    have hb := h.b hc
    have h' : pE o M0 z n p c r ((1048576 * 11 + k) :: W) M := h
    have hat : sdM o (msI (msI M (o + 5) k (nI (1048576 * 11 + c))) o 11 (nI W.length)) k = nI (1048576 * 11 + c) := by
      show mgI _ _ _ = _
      rw [mgI_sI, if_neg (by omega), mgI_sI, if_pos ⟨rfl, rfl⟩]
    have hne : ∀ j, j ≠ k → sdM o (msI (msI M (o + 5) k (nI (1048576 * 11 + c))) o 11 (nI W.length)) j = sdM o M j := by
      intro j hj
      show mgI _ _ _ = _
      rw [mgI_sI, if_neg (by omega), mgI_sI, if_neg (by omega)]; rfl
    have hpp := (h'.pop).pat (k := k) (v := nI (1048576 * 11 + c))
    refine ld_pop h' hc (Or.inl rfl) (by omega) e4 (hX _ ?_ (fun j hj => hne j (by omega)) ?_ (fun j hj => hne j (by omega)))
    · obtain ⟨a1, a2, a3, a4, a5, a6, a7, a8, a9, a10, a11⟩ := h'
      have a8' : c + ((if (1048576 * 11 + k) / 1048576 < 11 then 1 else 0) + cnO W) + z ≤ p := a8
      rw [List.length_cons] at a9
      refine ⟨(a1.s (by unfold pF; omega)).s (by unfold pF; omega), ?_, ?_, ?_, fd_e, ((a6.2.n (by omega)).n (by omega)), fun y hy => a7 y (List.mem_cons_of_mem _ hy), by omega, by omega, a10, a11⟩
      · rw [fd_n (by omega), fd_c (by omega)]; exact a2
      · rw [fd_n (by omega), fd_c (by omega)]; exact a3
      · rw [fd_n (by omega), fd_c (by omega)]; exact a4
    · exact seg_and (q := 11) (b := 0) (e3.eq (fun j a b => hne j (by omega))) (e5.eq (fun j a b => hne j (by omega))) (by omega) (by omega) (by omega) (Or.inl ⟨rfl, rfl, e6⟩) hat
theorem land_0 {o n p c c0 r : Nat} {z : Nat} {M0 M : MM} {m : Option Nat} {W : List Nat} {d : Den} {t : Nat → Int32} {X : MM → Prop} (h : pE o M0 z n p c r (pj 11 m W) M) (hc : cx o M0 t n) (hW : ¬ topQ W = 11) (hP : PdA (sdM o M) c0 c d m) (hX : ∀ M', pE o M0 z n p c r W M' → kp o c0 M M' → SegS (sdM o M') c0 c d → X M') : wp_X7_lands M o 0 X :=
  land_m (x := 0) h hc hP (fun M' k1 k2 k3 _ => ld_stop k1 hc hW (Or.inl rfl) (hX M' k1 k2 k3))
theorem land_1 {o n p c c0 r : Nat} {z : Nat} {M0 M : MM} {a m : Option Nat} {W : List Nat} {d : Den} {t : Nat → Int32} {X : MM → Prop} (h : pE o M0 z n p c r (pj 11 m (pj 12 a W)) M) (hc : cx o M0 t n) (hW : ¬ topQ W = 11 ∧ ¬ topQ W = 12) (hP : PdO (sdM o M) c0 c d a m) (hX : ∀ M', pE o M0 z n p c r W M' → kp o c0 M M' → SegS (sdM o M') c0 c d → X M') : wp_X7_lands M o 1 X := by
  cases a with
  | none => exact land_m (x := 1) h hc hP (fun M' k1 k2 k3 _ => ld_stop k1 hc hW.1 (Or.inr hW.2) (hX M' k1 k2 k3))
  | some k =>
    obtain ⟨d1, d2, e1, e2, e3, e4, e5, e6⟩ := hP
    have hb := h.b hc
    refine land_m (x := 1) h hc e5 (fun M' k1 k2 k3 k4 => ?_)
    have h' : pE o M0 z n p c r ((1048576 * 12 + k) :: W) M' := k1
    have hat : sdM o (msI (msI M' (o + 5) k (nI (1048576 * 12 + c))) o 11 (nI W.length)) k = nI (1048576 * 12 + c) := by
      show mgI _ _ _ = _
      rw [mgI_sI, if_neg (by omega), mgI_sI, if_pos ⟨rfl, rfl⟩]
    have hne : ∀ j, j ≠ k → sdM o (msI (msI M' (o + 5) k (nI (1048576 * 12 + c))) o 11 (nI W.length)) j = sdM o M' j := by
      intro j hj
      show mgI _ _ _ = _
      rw [mgI_sI, if_neg (by omega), mgI_sI, if_neg (by omega)]; rfl
    have hfin : pE o M0 z n p c r W (msI (msI M' (o + 5) k (nI (1048576 * 12 + c))) o 11 (nI W.length)) := by
      obtain ⟨a1, a2, a3, a4, a5, a6, a7, a8, a9, a10, a11⟩ := h'
      have a8' : c + ((if (1048576 * 12 + k) / 1048576 < 11 then 1 else 0) + cnO W) + z ≤ p := a8
      rw [List.length_cons] at a9
      refine ⟨(a1.s (by unfold pF; omega)).s (by unfold pF; omega), ?_, ?_, ?_, fd_e, ((a6.2.n (by omega)).n (by omega)), fun y hy => a7 y (List.mem_cons_of_mem _ hy), by omega, by omega, a10, a11⟩
      · rw [fd_n (by omega), fd_c (by omega)]; exact a2
      · rw [fd_n (by omega), fd_c (by omega)]; exact a3
      · rw [fd_n (by omega), fd_c (by omega)]; exact a4
    refine ld_pop h' hc (Or.inr ⟨n10, rfl⟩) (by omega) ((k4 k (by omega)).trans e4) (ld_stop hfin hc hW.1 (Or.inr hW.2) (hX _ hfin (fun j hj => (hne j (by omega)).trans (k2 j (by omega))) ?_))
    exact seg_and (q := 12) (b := 1) (e3.eq (fun j a b => (hne j (by omega)).trans (k4 j (by omega)))) (k3.eq (fun j a b => hne j (by omega))) (by omega) (by omega) (by omega) (Or.inr ⟨rfl, rfl, e6⟩) hat
/-- a jump is laid -/
theorem w7_jumps {o n p c r q : Nat} {z : Nat} {M0 M : MM} {W : List Nat} {t : Nat → Int32} {X : MM → Prop} (h : pE o M0 z n p c r W M) (hc : cx o M0 t n) (hq : q = 11 ∨ q = 12) (hp : p < n) (hX : ∀ M', pE o M0 z n (p + 1) (c + 1) r ((1048576 * q + c) :: W) M' → kp o c M M' → sdM o M' c = nI (1048576 * q + 0) → X M') : wp_X7_jumps M o (nI q) X := by
  have hb := h.b hc
  have hL := h.L hc
  have h11 : mgI M o 11 = nI W.length := h.2.2.2.2.1
  have hcm : mgI M o 10 = nI c := h.2.2.2.1
  unfold wp_X7_jumps
  rw [h11, hcm, mk20, iaN]
  simp (disch := first | assumption | omega) only [mgR_sI, mgR_sL, mkd_sI, mkd_sL, mln_sI, mln_sL, Option.some.injEq, exists_eq_left', forall_eq, true_and, and_true, Nat.reduceLT, exists_eq_left, ML_r0, ML_k1, ML_l1, ML_r1, ML_k2, ML_l2, ML_r2, ML_k3, ML_l3, ML_r3, ML_k4, ML_l4, ML_r13, ML_k5, ML_l5, ML_r14, ML_k6, ML_l6, ML_r15, ML_k7, ML_l7, ML_r16, ML_k8, ML_l8, ML_r17, ML_k9, ML_l9, ML_r18, ML_k10, ML_l10, ML_r19, ML_k11, ML_l11, ML_r20, ML_k12, ML_l12, ML_r21, ML_k13, ML_l13, ML_r22, ML_k14, ML_l14, ML_r23, ML_k15, ML_l15, ML_r24, ML_k16, ML_l16, ML_r25, ML_k17, ML_l17, ML_r26, ML_k18, ML_l18, ML_r30, ML_k19, ML_l19, ML_r35, ML_k20, ML_l20, ML_r36, ML_k21, ML_l21, ML_r37, ML_k22, ML_l22, ML_r38, ML_k23, ML_l23, ML_r40, ML_k24, ML_l24, ML_r41, ML_k25, ML_l25, ML_r42, ML_k26, ML_l26, ML_r43, ML_k27, ML_l27, ML_r44, ML_k28, ML_l28, ML_r45, ML_k29, ML_l29, ML_r48, ML_k30, ML_l30, ML_r51, ML_k31, ML_l31, ML_r52, ML_k32, ML_l32, ia0, ia4, ia8, ia12, ia16, ia20, ia24, ia52, ia60, ia68, im7, im14, ap6, iaN, ap1, ixN, vpN, fd_c, h11]
  obtain ⟨a1, a2, a3, a4, a5, a6, a7, a8, a9, a10, a11⟩ := h
  have hE : pE o M0 z n (p + 1) c r ((1048576 * q + c) :: W) (msI (puM o M W.length (1048576 * q + c)) o 5 (nI (p + 1))) := pE.push ⟨a1, a2, a3, a4, a5, a6, a7, a8, a9, a10, a11⟩ hp (by omega)
  obtain ⟨b1, b2, b3, b4, b5, b6, b7, b8, b9, b10, b11⟩ := hE
  have hcn : cnO ((1048576 * q + c) :: W) = cnO W := by
    show (if (1048576 * q + c) / 1048576 < 11 then 1 else 0) + cnO W = cnO W
    rw [if_neg (by omega)]; omega
  have hpre : wp_X7_notes (puM o M W.length (1048576 * q + c)) o (nI q) 0 (fun M_9 => X (msI M_9 o 5 (mgI M_9 o 5 + 1))) := by
    have e10 : mgI (puM o M W.length (1048576 * q + c)) o 10 = nI c := by
      unfold puM
      rw [fd_n (by omega), fd_c (by omega)]; exact a4
    have hL2 : ML o (puM o M W.length (1048576 * q + c)) := ML_of rfl hL
    unfold wp_X7_notes
    rw [e10, mk20, show nI (1048576 * q) + (0 : Int32) = nI (1048576 * q + 0) from nI_add _ 0]
    simp (disch := first | assumption | omega) only [mgR_sI, mgR_sL, mkd_sI, mkd_sL, mln_sI, mln_sL, Option.some.injEq, exists_eq_left', forall_eq, true_and, and_true, Nat.reduceLT, exists_eq_left, ML_r0, ML_k1, ML_l1, ML_r1, ML_k2, ML_l2, ML_r2, ML_k3, ML_l3, ML_r3, ML_k4, ML_l4, ML_r13, ML_k5, ML_l5, ML_r14, ML_k6, ML_l6, ML_r15, ML_k7, ML_l7, ML_r16, ML_k8, ML_l8, ML_r17, ML_k9, ML_l9, ML_r18, ML_k10, ML_l10, ML_r19, ML_k11, ML_l11, ML_r20, ML_k12, ML_l12, ML_r21, ML_k13, ML_l13, ML_r22, ML_k14, ML_l14, ML_r23, ML_k15, ML_l15, ML_r24, ML_k16, ML_l16, ML_r25, ML_k17, ML_l17, ML_r26, ML_k18, ML_l18, ML_r30, ML_k19, ML_l19, ML_r35, ML_k20, ML_l20, ML_r36, ML_k21, ML_l21, ML_r37, ML_k22, ML_l22, ML_r38, ML_k23, ML_l23, ML_r40, ML_k24, ML_l24, ML_r41, ML_k25, ML_l25, ML_r42, ML_k26, ML_l26, ML_r43, ML_k27, ML_l27, ML_r44, ML_k28, ML_l28, ML_r45, ML_k29, ML_l29, ML_r48, ML_k30, ML_l30, ML_r51, ML_k31, ML_l31, ML_r52, ML_k32, ML_l32, ia0, ia4, ia8, ia12, ia16, ia20, ia24, ia52, ia60, ia68, im7, im14, ap6, iaN, ap1, ixN, vpN, fd_c, fd_n, e10]
    have e5 : mgI (puM o M W.length (1048576 * q + c)) o 5 = nI p := by
      unfold puM
      rw [fd_n (by omega), fd_c (by omega)]; exact a2
    rw [e5, ap1]
    refine hX _ ⟨?_, fd_e, ?_, ?_, ?_, ?_, b7, by omega, b9, b10, b11⟩ ?_ ?_
    · unfold puM
      exact ((((a1.s (by unfold pF; omega)).s (by unfold pF; omega)).s (by unfold pF; omega)).s (by unfold pF; omega)).s (by unfold pF; omega)
    · unfold puM
      rw [fd_n (by omega), fd_n (by omega), fd_c (by omega), fd_n (by omega), fd_c (by omega)]; exact a3
    · rw [fd_n (by omega), fd_e]
    · unfold puM
      rw [fd_n (by omega), fd_n (by omega), fd_c (by omega), fd_e]; rfl
    · unfold puM at b6 ⊢
      refine ⟨?_, ?_⟩
      · rw [mgI_sI, if_neg (by omega), mgI_sI, if_neg (by omega), mgI_sI, if_neg (by omega), mgI_sI, if_neg (by omega), mgI_sI, if_pos ⟨rfl, rfl⟩]
      · exact ((((a6.s (Nat.le_refl _)).n (by omega)).n (by omega)).n (by omega)).n (by omega)
    · unfold puM
      intro j hj
      show mgI _ _ _ = _
      rw [mgI_sI, if_neg (by omega), mgI_sI, if_neg (by omega), mgI_sI, if_neg (by omega), mgI_sI, if_neg (by omega), mgI_sI, if_neg (by omega)]; rfl
    · show mgI _ _ _ = _
      rw [mgI_sI, if_neg (by omega), mgI_sI, if_neg (by omega), mgI_sI, if_pos ⟨rfl, rfl⟩]
  exact hpre
