/-! the model: sums are read, by a stack of what waits -/
set_option maxRecDepth 100000
def pF (o : Nat) : Nat → Nat → Prop := fun a k => (a = o ∧ (k = 5 ∨ k = 7 ∨ k = 8 ∨ k = 9 ∨ k = 10 ∨ k = 11)) ∨ a = o + 5 ∨ a = o + 6
/-- what waits, the last one first -/
def WtE (o : Nat) (M : MM) : List Nat → Prop
  | [] => True
  | e :: r => mgI M (o + 6) r.length = nI e ∧ WtE o M r
/-- how many of those that wait are laid as codes -/
def cnO : List Nat → Nat
  | [] => 0
  | e :: r => (if e / 1048576 < 11 then 1 else 0) + cnO r
def topQ : List Nat → Nat
  | [] => 99
  | e :: _ => e / 1048576
/-- what stands while texts are read -/
def cx (o : Nat) (M0 : MM) (t : Nat → Int32) (n : Nat) : Prop := ML o M0 ∧ ar o 4 M0 = t ∧ mgI M0 o 6 = nI n ∧ n ≤ 200
def smO (st : List Nat) : Prop := ∀ e, e ∈ st → e < 16777216
/-- a place, so many codes, so many levels left, what waits -/
def pE (o : Nat) (M0 : MM) (z n p c r : Nat) (st : List Nat) (M : MM) : Prop := fI (pF o) M0 M ∧ mgI M o 5 = nI p ∧ mgI M o 9 = nI (6 - r) ∧ mgI M o 10 = nI c ∧ mgI M o 11 = nI st.length ∧ WtE o M st ∧ smO st ∧ c + cnO st + z ≤ p ∧ st.length ≤ p ∧ p ≤ n ∧ r ≤ 6
theorem WtE.s {o k : Nat} {M : MM} {v : Int32} : ∀ {st : List Nat}, WtE o M st → st.length ≤ k → WtE o (msI M (o + 6) k v) st := by
  intro st
  induction st with
  | nil => intro _ _; exact True.intro
  | cons e r ih =>
    intro h hk
    rw [List.length_cons] at hk
    refine ⟨?_, ih h.2 (by omega)⟩
    rw [mgI_sI, if_neg (by omega)]; exact h.1
theorem WtE.n {o a k : Nat} {M : MM} {v : Int32} (ha : a < o + 6 ∨ o + 6 < a) : ∀ {st : List Nat}, WtE o M st → WtE o (msI M a k v) st := by
  intro st
  induction st with
  | nil => intro _; exact True.intro
  | cons e r ih =>
    intro h
    refine ⟨?_, ih h.2⟩
    rw [mgI_sI, if_neg (by omega)]; exact h.1
theorem pE.L {o n p c r : Nat} {z : Nat} {M0 M : MM} {st : List Nat} (h : pE o M0 z n p c r st M) {t : Nat → Int32} (hc : cx o M0 t n) : ML o M := ML_of h.1.e hc.1
theorem pE.t {o n p c r : Nat} {z : Nat} {M0 M : MM} {st : List Nat} (h : pE o M0 z n p c r st M) {t : Nat → Int32} (hc : cx o M0 t n) : ar o 4 M = t := (funext fun k => h.1.2 _ _ (by unfold pF; omega)).trans hc.2.1
theorem pE.n6 {o n p c r : Nat} {z : Nat} {M0 M : MM} {st : List Nat} (h : pE o M0 z n p c r st M) {t : Nat → Int32} (hc : cx o M0 t n) : mgI M o 6 = nI n := (h.1.2 _ _ (by unfold pF; omega)).trans hc.2.2.1
theorem pE.here {o n p c r : Nat} {z : Nat} {M0 M : MM} {st : List Nat} {t : Nat → Int32} {Post : Int32 → MM → Prop} (h : pE o M0 z n p c r st M) (hc : cx o M0 t n) : wp_X7_here M o Post = Post (chS t n p) M := by
  have := hc.2.2.2
  have := h.2.2.2.2.2.2.2.2.2.1
  exact w7_here (h.L hc) (h.t hc) h.2.1 (h.n6 hc) (by omega) (by omega)
theorem pE.b {o n p c r : Nat} {z : Nat} {M0 M : MM} {st : List Nat} (h : pE o M0 z n p c r st M) {t : Nat → Int32} (hc : cx o M0 t n) : c + cnO st + z ≤ p ∧ st.length ≤ p ∧ p ≤ n ∧ r ≤ 6 ∧ n ≤ 200 := ⟨h.2.2.2.2.2.2.2.1, h.2.2.2.2.2.2.2.2.1, h.2.2.2.2.2.2.2.2.2.1, h.2.2.2.2.2.2.2.2.2.2, hc.2.2.2⟩
def puM (o : Nat) (M : MM) (len e : Nat) : MM := msI (msI M (o + 6) len (nI e)) o 11 (nI (len + 1))
/-- one more waits; a letter is taken -/
theorem pE.push {o n p c r e : Nat} {z : Nat} {M0 M : MM} {st : List Nat} (h : pE o M0 z n p c r st M) (hp : p < n) (he : e < 16777216) : pE o M0 z n (p + 1) c r (e :: st) (msI (puM o M st.length e) o 5 (nI (p + 1))) := by
  obtain ⟨h1, h2, h3, h4, h5, h6, h7, h8, h9, h10, h11⟩ := h
  unfold puM
  refine ⟨((h1.s (by unfold pF; omega)).s (by unfold pF; omega)).s (by unfold pF; omega), fd_e, ?_, ?_, ?_, ⟨?_, ?_⟩, ?_, ?_, ?_, by omega, h11⟩
  · rw [fd_n (by omega), fd_n (by omega), fd_c (by omega)]; exact h3
  · rw [fd_n (by omega), fd_n (by omega), fd_c (by omega)]; exact h4
  · rw [fd_n (by omega), fd_e]; rfl
  · rw [mgI_sI, if_neg (by omega), mgI_sI, if_neg (by omega), mgI_sI, if_pos ⟨rfl, rfl⟩]
  · exact ((h6.s (Nat.le_refl _)).n (by omega)).n (by omega)
  · intro x hx
    rcases List.mem_cons.mp hx with rfl | hx
    · exact he
    · exact h7 x hx
  · show c + ((if e / 1048576 < 11 then 1 else 0) + cnO st) + z ≤ p + 1
    split <;> omega
  · rw [List.length_cons]; omega
theorem pE.lev {o n p c r r' : Nat} {z : Nat} {M0 M : MM} {st : List Nat} (h : pE o M0 z n p c r st M) (hr : r' ≤ 6) : pE o M0 z n p c r' st (msI M o 9 (nI (6 - r'))) := by
  obtain ⟨h1, h2, h3, h4, h5, h6, h7, h8, h9, h10, h11⟩ := h
  exact ⟨h1.s (by unfold pF; omega), (fd_n (by omega)).trans h2, fd_e, (fd_n (by omega)).trans h4, (fd_n (by omega)).trans h5, h6.n (by omega), h7, h8, h9, h10, hr⟩
theorem pE.pop {o n p c r e : Nat} {z : Nat} {M0 M : MM} {st : List Nat} (h : pE o M0 z n p c r (e :: st) M) : pE o M0 z n p c r st (msI M o 11 (nI st.length)) := by
  obtain ⟨h1, h2, h3, h4, h5, h6, h7, h8, h9, h10, h11⟩ := h
  have h8' : c + ((if e / 1048576 < 11 then 1 else 0) + cnO st) + z ≤ p := h8
  rw [List.length_cons] at h9
  exact ⟨h1.s (by unfold pF; omega), (fd_n (by omega)).trans h2, (fd_n (by omega)).trans h3, (fd_n (by omega)).trans h4, fd_e, h6.2.n (by omega), fun x hx => h7 x (List.mem_cons_of_mem _ hx), by omega, by omega, h10, h11⟩
theorem pE.go {o n p p' c r : Nat} {z : Nat} {M0 M : MM} {st : List Nat} (h : pE o M0 z n p c r st M) (hp : p ≤ p') (hp' : p' ≤ n) : pE o M0 z n p' c r st (msI M o 5 (nI p')) := by
  obtain ⟨h1, h2, h3, h4, h5, h6, h7, h8, h9, h10, h11⟩ := h
  exact ⟨h1.s (by unfold pF; omega), fd_e, (fd_n (by omega)).trans h3, (fd_n (by omega)).trans h4, (fd_n (by omega)).trans h5, h6.n (by omega), h7, by omega, by omega, hp', h11⟩
def ntM (o : Nat) (M : MM) (c e : Nat) : MM := msI (msI M (o + 5) c (nI e)) o 10 (nI (c + 1))
theorem pE.nt {o n p c r e : Nat} {z : Nat} {M0 M : MM} {st : List Nat} (h : pE o M0 z n p c r st M) (hp : c + 1 + cnO st + z ≤ p) : pE o M0 z n p (c + 1) r st (ntM o M c e) := by
  obtain ⟨h1, h2, h3, h4, h5, h6, h7, h8, h9, h10, h11⟩ := h
  unfold ntM
  refine ⟨(h1.s (by unfold pF; omega)).s (by unfold pF; omega), ?_, ?_, fd_e, ?_, (h6.n (by omega)).n (by omega), h7, hp, h9, h10, h11⟩
  · rw [fd_n (by omega), fd_c (by omega)]; exact h2
  · rw [fd_n (by omega), fd_c (by omega)]; exact h3
  · rw [fd_n (by omega), fd_c (by omega)]; exact h5
/-- a code is laid for one that waited -/
theorem pE.nt1 {o n p c r e x : Nat} {z : Nat} {M0 M : MM} {st : List Nat} (h : pE o M0 z n p c r (x :: st) M) (hx : x / 1048576 < 11) : pE o M0 z n p (c + 1) r st (msI (ntM o M c e) o 11 (nI st.length)) := by
  obtain ⟨h1, h2, h3, h4, h5, h6, h7, h8, h9, h10, h11⟩ := h
  have h8' : c + ((if x / 1048576 < 11 then 1 else 0) + cnO st) + z ≤ p := h8
  rw [if_pos hx] at h8'
  rw [List.length_cons] at h9
  unfold ntM
  refine ⟨((h1.s (by unfold pF; omega)).s (by unfold pF; omega)).s (by unfold pF; omega), ?_, ?_, ?_, fd_e, ((h6.2.n (by omega)).n (by omega)).n (by omega), fun y hy => h7 y (List.mem_cons_of_mem _ hy), by omega, by omega, h10, h11⟩
  · rw [fd_n (by omega), fd_n (by omega), fd_c (by omega)]; exact h2
  · rw [fd_n (by omega), fd_n (by omega), fd_c (by omega)]; exact h3
  · rw [fd_n (by omega), fd_e]
def sdM (o : Nat) (M : MM) : Nat → Int32 := fun k => mgI M (o + 5) k
/-- codes below c stay -/
def kp (o c : Nat) (M M' : MM) : Prop := ∀ k, k < c → sdM o M' k = sdM o M k
theorem kp.rf {o c : Nat} {M : MM} : kp o c M M := fun _ _ => rfl
theorem kp.tr {o c : Nat} {M M1 M2 : MM} (h : kp o c M M1) (g : kp o c M1 M2) : kp o c M M2 := fun k hk => (g k hk).trans (h k hk)
theorem kp.le {o c c' : Nat} {M M1 : MM} (h : kp o c M M1) (hc : c' ≤ c) : kp o c' M M1 := fun k hk => h k (by omega)
theorem kp.n {o c a k : Nat} {M M1 : MM} {v : Int32} (h : kp o c M M1) (ha : a < o + 5 ∨ o + 5 < a) : kp o c M (msI M1 a k v) := fun j hj => by
  show mgI (msI M1 a k v) (o + 5) j = _
  rw [mgI_sI, if_neg (by omega)]; exact h j hj
theorem kp.nt {o c e : Nat} {M M1 : MM} {c' : Nat} (h : kp o c' M M1) (hc : c' ≤ c) : kp o c' M (ntM o M1 c e) := fun j hj => by
  show mgI (msI (msI M1 (o + 5) c (nI e)) o 10 (nI (c + 1))) (o + 5) j = _
  rw [mgI_sI, if_neg (by omega), mgI_sI, if_neg (by omega)]; exact h j hj
theorem nt_at {o c e : Nat} {M : MM} : sdM o (ntM o M c e) c = nI e := by
  show mgI (msI (msI M (o + 5) c (nI e)) o 10 (nI (c + 1))) (o + 5) c = _
  rw [mgI_sI, if_neg (by omega), mgI_sI, if_pos ⟨rfl, rfl⟩]
theorem SegS.kp {o c0 c1 c : Nat} {M M' : MM} {d : Den} (h : SegS (sdM o M) c0 c1 d) (g : kp o c M M') (hc : c1 ≤ c) : SegS (sdM o M') c0 c1 d := h.eq (fun k _ hk => g k (by omega))
theorem mk20 {q : Nat} : (1048576 : Int32) * nI q = nI (1048576 * q) := pk_mul 1048576 q
/-- w7: the small ones -/
theorem pE.notes {o n p c r q v : Nat} {z : Nat} {M0 M : MM} {st : List Nat} {t : Nat → Int32} {Post : MM → Prop} (h : pE o M0 z n p c r st M) (hc : cx o M0 t n) (hP : Post (ntM o M c (1048576 * q + v))) : wp_X7_notes M o (nI q) (nI v) Post := by
  have hb := h.b hc
  have hL := h.L hc
  have hcc : mgI M o 10 = nI c := h.2.2.2.1
  unfold wp_X7_notes
  rw [hcc, mk20, iaN]
  simp (disch := first | assumption | omega) only [mgR_sI, mgR_sL, mkd_sI, mkd_sL, mln_sI, mln_sL, Option.some.injEq, exists_eq_left', forall_eq, true_and, and_true, Nat.reduceLT, exists_eq_left, ML_r0, ML_k1, ML_l1, ML_r1, ML_k2, ML_l2, ML_r2, ML_k3, ML_l3, ML_r3, ML_k4, ML_l4, ML_r13, ML_k5, ML_l5, ML_r14, ML_k6, ML_l6, ML_r15, ML_k7, ML_l7, ML_r16, ML_k8, ML_l8, ML_r17, ML_k9, ML_l9, ML_r18, ML_k10, ML_l10, ML_r19, ML_k11, ML_l11, ML_r20, ML_k12, ML_l12, ML_r21, ML_k13, ML_l13, ML_r22, ML_k14, ML_l14, ML_r23, ML_k15, ML_l15, ML_r24, ML_k16, ML_l16, ML_r25, ML_k17, ML_l17, ML_r26, ML_k18, ML_l18, ML_r30, ML_k19, ML_l19, ML_r35, ML_k20, ML_l20, ML_r36, ML_k21, ML_l21, ML_r37, ML_k22, ML_l22, ML_r38, ML_k23, ML_l23, ML_r40, ML_k24, ML_l24, ML_r41, ML_k25, ML_l25, ML_r42, ML_k26, ML_l26, ML_r43, ML_k27, ML_l27, ML_r44, ML_k28, ML_l28, ML_r45, ML_k29, ML_l29, ML_r48, ML_k30, ML_l30, ML_r51, ML_k31, ML_l31, ML_r52, ML_k32, ML_l32, ia0, ia4, ia8, ia12, ia16, ia20, ia24, ia52, ia60, ia68, im7, im14, ap6, iaN, ap1, ixN, vpN, fd_c, hcc]
  exact hP
def wtV : List Nat → Int32
  | [] => -1
  | e :: _ => nI (e / 1048576)
theorem wtV_q {q : Nat} {st : List Nat} : wtV (1048576 * q :: st) = nI q := by
  show nI (1048576 * q / 1048576) = nI q
  congr 1; omega
theorem pE.waitTop {o n p c r : Nat} {z : Nat} {M0 M : MM} {st : List Nat} {t : Nat → Int32} {Post : Int32 → MM → Prop} (h : pE o M0 z n p c r st M) (hc : cx o M0 t n) : wp_X7_waitTop M o Post = Post (wtV st) M := by
  have hb := h.b hc
  have hL := h.L hc
  have hw : mgI M o 11 = nI st.length := h.2.2.2.2.1
  unfold wp_X7_waitTop
  rw [hw]
  cases st with
  | nil => rw [if_pos (show nI ([] : List Nat).length = 0 from rfl)]; rfl
  | cons e s =>
    have h6 : mgI M (o + 6) s.length = nI e := h.2.2.2.2.2.1.1
    have he : e < 16777216 := h.2.2.2.2.2.2.1 e (List.mem_cons_self ..)
    rw [List.length_cons] at hb
    have hd : nI e / (1048576 : Int32) = nI (e / 1048576) := (show nI e / nI 1048576 = _ from pk_div (by omega) (by omega) (by omega))
    rw [List.length_cons, if_neg (nI_ne0 (by omega) (by omega)), as1 (by omega), Nat.add_sub_cancel]
    simp (disch := first | assumption | omega) only [mgR_sI, mgR_sL, mkd_sI, mkd_sL, mln_sI, mln_sL, Option.some.injEq, exists_eq_left', forall_eq, true_and, and_true, Nat.reduceLT, exists_eq_left, ML_r0, ML_k1, ML_l1, ML_r1, ML_k2, ML_l2, ML_r2, ML_k3, ML_l3, ML_r3, ML_k4, ML_l4, ML_r13, ML_k5, ML_l5, ML_r14, ML_k6, ML_l6, ML_r15, ML_k7, ML_l7, ML_r16, ML_k8, ML_l8, ML_r17, ML_k9, ML_l9, ML_r18, ML_k10, ML_l10, ML_r19, ML_k11, ML_l11, ML_r20, ML_k12, ML_l12, ML_r21, ML_k13, ML_l13, ML_r22, ML_k14, ML_l14, ML_r23, ML_k15, ML_l15, ML_r24, ML_k16, ML_l16, ML_r25, ML_k17, ML_l17, ML_r26, ML_k18, ML_l18, ML_r30, ML_k19, ML_l19, ML_r35, ML_k20, ML_l20, ML_r36, ML_k21, ML_l21, ML_r37, ML_k22, ML_l22, ML_r38, ML_k23, ML_l23, ML_r40, ML_k24, ML_l24, ML_r41, ML_k25, ML_l25, ML_r42, ML_k26, ML_l26, ML_r43, ML_k27, ML_l27, ML_r44, ML_k28, ML_l28, ML_r45, ML_k29, ML_l29, ML_r48, ML_k30, ML_l30, ML_r51, ML_k31, ML_l31, ML_r52, ML_k32, ML_l32, ia0, ia4, ia8, ia12, ia16, ia20, ia24, ia52, ia60, ia68, im7, im14, ap6, iaN, ap1, ixN, vpN, h6, hd]
    rfl
/-- sums close: nothing more to close -/
def CSL (o : Nat) (x : Int32) (X : MM → Prop) (M : MM) : Prop := ∃ F, wl_X7_closesSums_0 o x X F M
theorem m1lt4 : (-1 : Int32) < 4 := by decide
theorem cs_stop {o n p c r : Nat} {x : Int32} {z : Nat} {M0 M : MM} {st : List Nat} {t : Nat → Int32} {X : MM → Prop} (h : pE o M0 z n p c r st M) (hc : cx o M0 t n) (h1 : ¬ (4 ≤ topQ st ∧ topQ st ≤ 6)) (h2 : x = 0 ∨ ¬ (topQ st = 2 ∨ topQ st = 3)) (hX : X M) : CSL o x X M := by
  refine ⟨1, ?_⟩
  have w17 : wb_X7_closesSums_17 M o x (wl_X7_closesSums_0 o x X 0) X := by
    unfold wb_X7_closesSums_17
    by_cases e : x = 0
    · rw [if_pos e]; exact hX
    · rw [if_neg e, h.waitTop hc]
      have h3 := h2.resolve_left e
      cases st with
      | nil => rw [show wtV [] = -1 from rfl, if_neg (by decide), h.waitTop hc, show wtV [] = -1 from rfl, if_neg (by decide)]; exact hX
      | cons y s =>
        have he : y < 16777216 := h.2.2.2.2.2.2.1 y (List.mem_cons_self ..)
        have h3' : ¬ (y / 1048576 = 2 ∨ y / 1048576 = 3) := h3
        have hv : wtV (y :: s) = nI (y / 1048576) := rfl
        rw [hv, if_neg (show ¬ nI (y / 1048576) = (2 : Int32) from fun e => h3' (Or.inl ((nI_eq (a := y / 1048576) (b := 2) (by omega) (by omega)).mp e))), h.waitTop hc, hv, if_neg (show ¬ nI (y / 1048576) = (3 : Int32) from fun e => h3' (Or.inr ((nI_eq (a := y / 1048576) (b := 3) (by omega) (by omega)).mp e)))]
        exact hX
  unfold wl_X7_closesSums_0
  rw [h.waitTop hc]
  cases st with
  | nil => rw [show wtV [] = -1 from rfl, if_pos m1lt4]; exact w17
  | cons y s =>
    have he : y < 16777216 := h.2.2.2.2.2.2.1 y (List.mem_cons_self ..)
    have h1' : ¬ (4 ≤ y / 1048576 ∧ y / 1048576 ≤ 6) := h1
    have hv : wtV (y :: s) = nI (y / 1048576) := rfl
    rw [hv]
    by_cases e : y / 1048576 < 4
    · rw [if_pos (show nI (y / 1048576) < (4 : Int32) from (show nI (y / 1048576) < nI 4 from nI_lt e (by omega)))]; exact w17
    · rw [if_neg (show ¬ nI (y / 1048576) < (4 : Int32) from (show ¬ nI (y / 1048576) < nI 4 from nI_nlt (by omega) (by omega))), h.waitTop hc, hv, if_neg (show ¬ nI (y / 1048576) ≤ (6 : Int32) from (show ¬ nI (y / 1048576) ≤ nI 6 from nI_ge (by omega) (by omega)))]; exact w17
theorem cs_pop {o n p c r q : Nat} {x : Int32} {z : Nat} {M0 M : MM} {st : List Nat} {t : Nat → Int32} {X : MM → Prop} (h : pE o M0 z n p c r (1048576 * q :: st) M) (hc : cx o M0 t n) (hq : (4 ≤ q ∧ q ≤ 6) ∨ (¬ x = 0 ∧ (q = 2 ∨ q = 3))) (hX : CSL o x X (msI (ntM o M c (1048576 * q + 0)) o 11 (nI st.length))) : CSL o x X M := by
  obtain ⟨F, hF⟩ := hX
  refine ⟨F + 1, ?_⟩
  have h11 : mgI M o 11 = nI (st.length + 1) := h.2.2.2.2.1
  have w37 : wb_X7_closesSums_37 M o x (wl_X7_closesSums_0 o x X F) X := by
    unfold wb_X7_closesSums_37
    rw [h.waitTop hc, wtV_q]
    refine h.notes (v := 0) hc ?_
    simp only [forall_eq]
    have : mgI (ntM o M c (1048576 * q + 0)) o 11 = nI (st.length + 1) := by
      unfold ntM
      rw [fd_n (by omega), fd_c (by omega)]; exact h11
    rw [this, as1 (by omega), Nat.add_sub_cancel]
    exact hF
  unfold wl_X7_closesSums_0
  rw [h.waitTop hc, wtV_q]
  by_cases e : q < 4
  · rw [if_pos (show nI q < (4 : Int32) from (show nI q < nI 4 from nI_lt e (by omega)))]
    obtain ⟨hx, hq2⟩ := hq.resolve_left (fun y => by omega)
    unfold wb_X7_closesSums_17
    rw [if_neg hx, h.waitTop hc, wtV_q]
    by_cases e2 : q = 2
    · rw [if_pos (show nI q = (2 : Int32) from by rw [e2]; rfl)]; exact w37
    · rw [if_neg (show ¬ nI q = (2 : Int32) from fun e => e2 ((nI_eq (a := q) (b := 2) (by omega) (by omega)).mp e)), h.waitTop hc, wtV_q, if_pos (show nI q = (3 : Int32) from by rw [show q = 3 by omega]; rfl)]; exact w37
  · rw [if_neg (show ¬ nI q < (4 : Int32) from (show ¬ nI q < nI 4 from nI_nlt (by omega) (by omega))), h.waitTop hc, wtV_q, if_pos (show nI q ≤ (6 : Int32) from (show nI q ≤ nI 6 from nI_le (by omega) (by omega)))]; exact w37
/-- an operation that waits -/
def pu (q : Option Nat) (W : List Nat) : List Nat := match q with
  | none => W
  | some q => 1048576 * q :: W
/-- codes of a product, one operation of which may wait -/
def PdM (sd : Nat → Int32) (c0 c : Nat) (d : Den) : Option Nat → Prop
  | none => SegS sd c0 c d
  | some q => 4 ≤ q ∧ q ≤ 6 ∧ ∃ k d1 d2, c0 < k ∧ k < c ∧ SegS sd c0 k d1 ∧ SegS sd k c d2 ∧ d = opD q d1 d2
def PdS (sd : Nat → Int32) (c0 c : Nat) (d : Den) : Option Nat → Option Nat → Prop
  | none, m => PdM sd c0 c d m
  | some q, m => 2 ≤ q ∧ q ≤ 3 ∧ ∃ k d1 d2, c0 < k ∧ k < c ∧ SegS sd c0 k d1 ∧ PdM sd k c d2 m ∧ d = opD q d1 d2
theorem PdM.kp {o c0 c : Nat} {M M' : MM} {d : Den} {m : Option Nat} (h : PdM (sdM o M) c0 c d m) (g : kp o c M M') : PdM (sdM o M') c0 c d m := by
  cases m with
  | none => exact SegS.kp h g (Nat.le_refl _)
  | some q =>
    obtain ⟨a, b, k, d1, d2, e1, e2, e3, e4, e5⟩ := h
    exact ⟨a, b, k, d1, d2, e1, e2, e3.kp g (by omega), e4.kp g (Nat.le_refl _), e5⟩
theorem rkD_op {q : Nat} {d e : Den} (h : q ≤ 6) : rkD q d e = opD q d e := if_pos (by omega)
/-- the product closes -/
theorem close_m {o n p c c0 r : Nat} {x : Int32} {z : Nat} {M0 M : MM} {m : Option Nat} {W : List Nat} {d : Den} {t : Nat → Int32} {X : MM → Prop} (h : pE o M0 z n p c r (pu m W) M) (hc : cx o M0 t n) (hP : PdM (sdM o M) c0 c d m) (h0 : c0 < c) (hX : ∀ M' c', pE o M0 z n p c' r W M' → c ≤ c' → kp o c M M' → SegS (sdM o M') c0 c' d → CSL o x X M') : CSL o x X M := by
  cases m with
  | none => exact hX M c h (Nat.le_refl _) kp.rf hP
  | some q =>
    obtain ⟨a, b, k, d1, d2, e1, e2, e3, e4, e5⟩ := hP
    have hk : kp o c M (msI (ntM o M c (1048576 * q + 0)) o 11 (nI W.length)) := (kp.rf.nt (Nat.le_refl _)).n (by omega)
    refine cs_pop h hc (Or.inl ⟨a, b⟩) (hX _ (c + 1) (h.nt1 (by omega)) (by omega) hk ?_)
    have := seg_op (e3.kp hk (by omega)) (e4.kp hk (Nat.le_refl _)) e1 e2 (by omega) (by omega) (q := q) (show sdM o (msI (ntM o M c (1048576 * q + 0)) o 11 (nI W.length)) c = _ from by
      show mgI _ _ _ = _
      rw [mgI_sI, if_neg (by omega)]; exact nt_at)
    rw [rkD_op b, ← e5] at this
    exact this
theorem close_0 {o n p c c0 r : Nat} {z : Nat} {M0 M : MM} {m : Option Nat} {W : List Nat} {d : Den} {t : Nat → Int32} {X : MM → Prop} (h : pE o M0 z n p c r (pu m W) M) (hc : cx o M0 t n) (hW : ¬ (4 ≤ topQ W ∧ topQ W ≤ 6)) (hP : PdM (sdM o M) c0 c d m) (h0 : c0 < c) (hX : ∀ M' c', pE o M0 z n p c' r W M' → c ≤ c' → kp o c M M' → SegS (sdM o M') c0 c' d → X M') : wp_X7_closesSums M o 0 X :=
  close_m (x := 0) h hc hP h0 (fun M' c' k1 k2 k3 k4 => cs_stop k1 hc hW (Or.inl rfl) (hX M' c' k1 k2 k3 k4))
def wOk (W : List Nat) : Prop := 7 ≤ topQ W
theorem close_1 {o n p c c0 r : Nat} {z : Nat} {M0 M : MM} {a m : Option Nat} {W : List Nat} {d : Den} {t : Nat → Int32} {X : MM → Prop} (h : pE o M0 z n p c r (pu m (pu a W)) M) (hc : cx o M0 t n) (hW : wOk W) (hP : PdS (sdM o M) c0 c d a m) (h0 : c0 < c) (hX : ∀ M' c', pE o M0 z n p c' r W M' → c ≤ c' → kp o c M M' → SegS (sdM o M') c0 c' d → X M') : wp_X7_closesSums M o 1 X := by
  unfold wOk at hW
  cases a with
  | none => exact close_m (x := 1) h hc hP h0 (fun M' c' k1 k2 k3 k4 => cs_stop k1 hc (show ¬ (4 ≤ topQ W ∧ topQ W ≤ 6) by omega) (Or.inr (show ¬ (topQ W = 2 ∨ topQ W = 3) by omega)) (hX M' c' k1 k2 k3 k4))
  | some q =>
    obtain ⟨q1, q2, k, d1, d2, e1, e2, e3, e4, e5⟩ := hP
    refine close_m (x := 1) h hc e4 e2 (fun M' c' k1 k2 k3 k4 => ?_)
    have k1' : pE o M0 z n p c' r (1048576 * q :: W) M' := k1
    have hk : kp o c' M' (msI (ntM o M' c' (1048576 * q + 0)) o 11 (nI W.length)) := (kp.rf.nt (Nat.le_refl _)).n (by omega)
    have hnt := k1'.nt1 (e := 1048576 * q + 0) (by omega)
    refine cs_pop k1' hc (Or.inr ⟨n10, by omega⟩) (cs_stop hnt hc (by omega) (Or.inr (by omega)) (hX _ (c' + 1) hnt (by omega) (k3.tr (hk.le k2)) ?_))
    have := seg_op ((e3.kp k3 (by omega)).kp hk (by omega)) (k4.kp hk (Nat.le_refl _)) e1 (by omega) (by omega) (by omega) (q := q) (show sdM o (msI (ntM o M' c' (1048576 * q + 0)) o 11 (nI W.length)) c' = _ from by
      show mgI _ _ _ = _
      rw [mgI_sI, if_neg (by omega)]; exact nt_at)
    rw [rkD_op (by omega), ← e5] at this
    exact this
/-- a letter is taken for a code to come -/
theorem pE.go1 {o n p c r : Nat} {z : Nat} {M0 M : MM} {st : List Nat} (h : pE o M0 z n p c r st M) (hp : p < n) : pE o M0 (z + 1) n (p + 1) c r st (msI M o 5 (nI (p + 1))) := by
  obtain ⟨h1, h2, h3, h4, h5, h6, h7, h8, h9, h10, h11⟩ := h
  exact ⟨h1.s (by unfold pF; omega), fd_e, (fd_n (by omega)).trans h3, (fd_n (by omega)).trans h4, (fd_n (by omega)).trans h5, h6.n (by omega), h7, by omega, by omega, by omega, h11⟩
theorem pE.nt0 {o n p c r e : Nat} {z : Nat} {M0 M : MM} {st : List Nat} (h : pE o M0 (z + 1) n p c r st M) : pE o M0 z n p (c + 1) r st (ntM o M c e) := by
  obtain ⟨h1, h2, h3, h4, h5, h6, h7, h8, h9, h10, h11⟩ := h
  unfold ntM
  refine ⟨(h1.s (by unfold pF; omega)).s (by unfold pF; omega), ?_, ?_, fd_e, ?_, (h6.n (by omega)).n (by omega), h7, by omega, h9, h10, h11⟩
  · rw [fd_n (by omega), fd_c (by omega)]; exact h2
  · rw [fd_n (by omega), fd_c (by omega)]; exact h3
  · rw [fd_n (by omega), fd_c (by omega)]; exact h5
