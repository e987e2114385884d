/-! the model: pieces, conditions are read -/
set_option maxRecDepth 100000
/-- what waits below a piece -/
def cOk (W : List Nat) : Prop := topQ W = 12 ∨ topQ W = 13
def PcSim (z o n : Nat) (M0 : MM) (t : Nat → Int32) (Post : Int32 → MM → Prop) (r : Nat) : Prop := ∀ p c W M, pE o M0 z n p c r W M → 10 ≤ topQ W ∧ topQ W ≤ 13 → (∀ d p', pcS t n r p = .inr (d, p') → ∀ M' c', pE o M0 z n p' c' r W M' → c < c' → kp o c M M' → SegS (sdM o M') c c' d → EPp o n Post p' M') → (∀ e, pcS t n r p = .inl e → erK o M0 Post e) → LLp o n Post p M
theorem PdA.kp {o c0 c c' : Nat} {M M' : MM} {d : Den} {m : Option Nat} (h : PdA (sdM o M) c0 c d m) (g : kp o c' M M') (hc : c ≤ c') : PdA (sdM o M') c0 c d m := by
  cases m with
  | none => exact SegS.kp h g hc
  | some k =>
    obtain ⟨d1, d2, e1, e2, e3, e4, e5, e6⟩ := h
    exact ⟨d1, d2, e1, e2, e3.kp g (by omega), (g k (by omega)).trans e4, e5.kp g hc, e6⟩
theorem topJ {q k : Nat} {W : List Nat} (hk : k < 1048576) : topQ ((1048576 * q + k) :: W) = q := by
  show (1048576 * q + k) / 1048576 = q
  omega
theorem sim_anL {o n r : Nat} {z : Nat} {M0 : MM} {t : Nat → Int32} {Post : Int32 → MM → Prop} (hc : cx o M0 t n) (hS : PcSim z o n M0 t Post r) : ∀ f d p c c0 m W M, n < p + f → pE o M0 z n p c r (pj 11 m W) M → cOk W → PdA (sdM o M) c0 c d m → c0 < c → (∀ d' p', anL t n (pcS t n r) f d p = .inr (d', p') → ∀ M' c' m', pE o M0 z n p' c' r (pj 11 m' W) M' → c0 < c' → kp o c0 M M' → PdA (sdM o M') c0 c' d' m' → ¬ chS t n p' = 38 → QLp o n Post p' M') → (∀ e, anL t n (pcS t n r) f d p = .inl e → erK o M0 Post e) → QLp o n Post p M := by
  intro f
  induction f with
  | zero => intro d p c c0 m W M hf h; have := h.b hc; omega
  | succ f ih =>
    intro d p c c0 m W M hf h hW hP h0 hK hE
    have hb := h.b hc
    unfold anL at hK hE
    by_cases e : chS t n p = 38
    · rw [if_pos e] at hK hE
      have hlt := ch_lt e (by decide)
      intro F G hF hG
      cases F with
      | zero => omega
      | succ F =>
        unfold wl_X7_readsCondition_92
        rw [h.here hc, if_neg (by rw [e]; decide)]
        unfold X152C
        rw [h.here hc, if_pos e]
        unfold wb_X7_readsCondition_180
        rw [h.here hc, if_neg (by rw [e]; decide)]
        unfold wb_X7_readsCondition_195
        refine land_0 h hc (by unfold cOk at hW; omega) hP (fun M1 k1 k2 k3 => ?_)
        rw [k1.here hc, if_pos e]
        unfold wb_X7_readsCondition_215
        refine w7_jumps (q := 11) k1 hc (Or.inl rfl) hlt (fun M2 j1 j2 j3 => ?_)
        refine hS (p + 1) (c + 1) _ M2 j1 (by rw [topJ (by omega)]; omega) (fun d2 p' e2 M3 c3 l1 l2 l3 l4 => ?_) (fun x e2 => ?_) G (by omega)
        · have hgo := pcS_ok r _ _ _ e2
          rw [e2] at hK hE
          dsimp only at hK hE
          refine ep_stop l1 hc (by rw [topJ (by omega)]; omega) ?_
          have s1 : SegS (sdM o M3) c0 c d := (k3.kp j2 (Nat.le_refl _)).kp l3 (by omega)
          refine ih (andD d d2) p' c3 c0 (some c) W M3 (by omega) l1 hW ⟨d, d2, h0, by omega, s1, (l3 c (by omega)).trans j3, l4, rfl⟩ (by omega) (fun d' p'' e3 M' c' m' u1 u2 u3 u4 u5 => ?_) hE
          exact hK d' p'' e3 M' c' m' u1 u2 (k2.tr ((j2.le (by omega)).tr ((l3.le (by omega)).tr u3))) u4 u5
        · rw [e2] at hE
          exact hE x rfl
    · rw [if_neg e] at hK
      exact hK d p rfl M c m h h0 kp.rf hP e
theorem sim_anS {o n r : Nat} {z : Nat} {M0 : MM} {t : Nat → Int32} {Post : Int32 → MM → Prop} (hc : cx o M0 t n) (hS : PcSim z o n M0 t Post r) {p c : Nat} {W : List Nat} {M : MM} (h : pE o M0 z n p c r W M) (hW : cOk W) (hK : ∀ d' p', anS t n (pcS t n r) p = .inr (d', p') → ∀ M' c' m', pE o M0 z n p' c' r (pj 11 m' W) M' → c < c' → kp o c M M' → PdA (sdM o M') c c' d' m' → ¬ chS t n p' = 38 → QLp o n Post p' M') (hE : ∀ e, anS t n (pcS t n r) p = .inl e → erK o M0 Post e) : LLp o n Post p M := by
  unfold anS at hK hE
  have hb := h.b hc
  refine hS p c W M h (by unfold cOk at hW; omega) (fun d p' e M1 c1 k1 k2 k3 k4 => ?_) (fun x e2 => ?_)
  · have hgo := pcS_ok r _ _ _ e
    rw [e] at hK hE
    dsimp only at hK hE
    refine ep_stop k1 hc (by unfold cOk at hW; omega) ?_
    refine sim_anL hc hS (n + 1) d p' c1 c none W M1 (by omega) k1 hW k4 k2 (fun d' p'' e3 M' c' m' u1 u2 u3 u4 u5 => ?_) hE
    exact hK d' p'' e3 M' c' m' u1 u2 (k3.tr u3) u4 u5
  · rw [e2] at hE
    exact hE x rfl
theorem sim_orL {o n r : Nat} {z : Nat} {M0 : MM} {t : Nat → Int32} {Post : Int32 → MM → Prop} (hc : cx o M0 t n) (hS : PcSim z o n M0 t Post r) : ∀ f d p c c0 a m W M, n < p + f → pE o M0 z n p c r (pj 11 m (pj 12 a W)) M → topQ W = 13 → PdO (sdM o M) c0 c d a m → c0 < c → ¬ chS t n p = 38 → (∀ d' p', orL t n (pcS t n r) f d p = .inr (d', p') → ∀ M' c' a' m', pE o M0 z n p' c' r (pj 11 m' (pj 12 a' W)) M' → c0 < c' → kp o c0 M M' → PdO (sdM o M') c0 c' d' a' m' → ¬ chS t n p' = 38 → ¬ chS t n p' = 124 → QLp o n Post p' M') → (∀ e, orL t n (pcS t n r) f d p = .inl e → erK o M0 Post e) → QLp o n Post p M := by
  intro f
  induction f with
  | zero => intro d p c c0 a m W M hf h; have := h.b hc; omega
  | succ f ih =>
    intro d p c c0 a m W M hf h hW hP h0 h38 hK hE
    have hb := h.b hc
    unfold orL at hK hE
    by_cases e : chS t n p = 124
    · rw [if_pos e] at hK hE
      have hlt := ch_lt e (by decide)
      intro F G hF hG
      cases F with
      | zero => omega
      | succ F =>
        unfold wl_X7_readsCondition_92
        rw [h.here hc, if_neg (by rw [e]; decide)]
        unfold X152C
        rw [h.here hc, if_neg h38, h.here hc, if_pos e]
        unfold wb_X7_readsCondition_180
        rw [h.here hc, if_pos e]
        unfold wb_X7_readsCondition_195
        refine land_1 h hc (by omega) hP (fun M1 k1 k2 k3 => ?_)
        rw [k1.here hc, if_neg h38]
        unfold wb_X7_readsCondition_215
        refine w7_jumps (q := 12) k1 hc (Or.inr rfl) hlt (fun M2 j1 j2 j3 => ?_)
        refine sim_anS hc hS j1 (Or.inl (topJ (by omega))) (fun d2 p' e2 M3 c3 m3 l1 l2 l3 l4 l5 => ?_) (fun x e2 => ?_) G (by omega)
        · have hgo := anS_ok (pcS_ok r) _ _ _ e2
          rw [e2] at hK hE
          dsimp only at hK hE
          have s1 : SegS (sdM o M3) c0 c d := (k3.kp j2 (Nat.le_refl _)).kp l3 (by omega)
          refine ih (orD d d2) p' c3 c0 (some c) m3 W M3 (by omega) l1 hW ⟨d, d2, h0, by omega, s1, (l3 c (by omega)).trans j3, l4, rfl⟩ (by omega) l5 (fun d' p'' e3 M' c' a' m' u1 u2 u3 u4 u5 u6 => ?_) hE
          exact hK d' p'' e3 M' c' a' m' u1 u2 (k2.tr ((j2.le (by omega)).tr ((l3.le (by omega)).tr u3))) u4 u5 u6
        · rw [e2] at hE
          exact hE x rfl
    · rw [if_neg e] at hK
      exact hK d p rfl M c a m h h0 kp.rf hP h38 e
theorem sim_orS {o n r : Nat} {z : Nat} {M0 : MM} {t : Nat → Int32} {Post : Int32 → MM → Prop} (hc : cx o M0 t n) (hS : PcSim z o n M0 t Post r) {p c : Nat} {W : List Nat} {M : MM} (h : pE o M0 z n p c r W M) (hW : topQ W = 13) (hK : ∀ d' p', orS t n (pcS t n r) p = .inr (d', p') → ∀ M' c' a' m', pE o M0 z n p' c' r (pj 11 m' (pj 12 a' W)) M' → c < c' → kp o c M M' → PdO (sdM o M') c c' d' a' m' → ¬ chS t n p' = 38 → ¬ chS t n p' = 124 → QLp o n Post p' M') (hE : ∀ e, orS t n (pcS t n r) p = .inl e → erK o M0 Post e) : LLp o n Post p M := by
  unfold orS at hK hE
  have hb := h.b hc
  refine sim_anS hc hS h (Or.inr hW) (fun d p' e M1 c1 m1 k1 k2 k3 k4 k5 => ?_) (fun x e2 => ?_)
  · have hgo := anS_ok (pcS_ok r) _ _ _ e
    rw [e] at hK hE
    dsimp only at hK hE
    refine sim_orL hc hS (n + 1) d p' c1 c none m1 W M1 (by omega) k1 hW k4 k2 k5 (fun d' p'' e3 M' c' a' m' u1 u2 u3 u4 u5 u6 => ?_) hE
    exact hK d' p'' e3 M' c' a' m' u1 u2 (k3.tr u3) u4 u5 u6
  · rw [e2] at hE
    exact hE x rfl
/-- a group, its bracket taken -/
theorem sim_gr {o n r : Nat} {z : Nat} {M0 : MM} {t : Nat → Int32} {Post : Int32 → MM → Prop} (hc : cx o M0 t n) (hS : PcSim z o n M0 t Post r) {p c : Nat} {W : List Nat} {M : MM} (hr : r < 6) (h : pE o M0 z n (p + 1) c r (1048576 * 13 :: W) M) (hK : ∀ d' p', grB t n (some (pcS t n r)) p = .inr (d', p') → ∀ M' c', pE o M0 z n p' c' (r + 1) W M' → c < c' → kp o c M M' → SegS (sdM o M') c c' d' → (W = [] → Post 1 M') ∧ (W ≠ [] → EPp o n Post p' M')) (hE : ∀ e, grB t n (some (pcS t n r)) p = .inl e → erK o M0 Post e) : LLp o n Post (p + 1) M := by
  unfold grB at hK hE
  dsimp only at hK hE
  have hb := h.b hc
  have htop : topQ (1048576 * 13 :: W) = 13 := by show 1048576 * 13 / 1048576 = 13; omega
  refine sim_orS hc hS h htop (fun d p1 e1 M1 c1 a1 m1 k1 k2 k3 k4 k5 k6 => ?_) (fun x e2 => ?_)
  · rw [e1] at hK hE
    dsimp only at hK hE
    have hb1 := k1.b hc
    intro F G hF hG
    cases F with
    | zero => omega
    | succ F =>
      unfold wl_X7_readsCondition_92
      rw [k1.here hc]
      by_cases e3 : chS t n p1 = 41
      · have hlt := ch_lt e3 (by decide)
        rw [if_pos e3] at hK
        rw [if_pos e3]
        refine land_1 k1 hc (by rw [htop]; omega) k4 (fun M2 j1 j2 j3 => ?_)
        have hj11 : mgI M2 o 11 = nI (W.length + 1) := j1.2.2.2.2.1
        have hj9 : mgI M2 o 9 = nI (6 - r) := j1.2.2.1
        simp only [forall_eq]
        rw [hj11, as1 (by omega), Nat.add_sub_cancel]
        simp (disch := first | assumption | omega) only [fd_n, fd_e, hj9, j1.2.1, ap1, as1]
        rw [show 6 - r - 1 = 6 - (r + 1) by omega]
        have hfin := (j1.pop.lev (r' := r + 1) (by omega)).go (p' := p1 + 1) (by omega) (by omega)
        have hk := hK d (p1 + 1) rfl _ c1 hfin k2 ((((k3.tr j2).n (by omega)).n (by omega)).n (by omega)) (j3.kp (((kp.rf.n (by omega)).n (by omega)).n (by omega)) (Nat.le_refl _))
        by_cases e4 : W = []
        · rw [if_pos (by rw [e4]; rfl)]
          exact hk.1 e4
        · have hlen : 0 < W.length := by
            cases W with
            | nil => exact absurd rfl e4
            | cons x y => exact Nat.succ_pos _
          have hWl : W.length ≤ n := by have := hfin.b hc; omega
          rw [if_neg (nI_ne0 hlen (by omega))]
          exact hk.2 e4 _ (fun M' hQ => hQ F G (by omega) (by omega))
      · rw [if_neg e3] at hE
        rw [if_neg e3]
        unfold X152C
        rw [k1.here hc, if_neg k5, k1.here hc, if_neg k6]
        unfold X170C
        exact k1.wrong (w := 1) (hE _ rfl) (fun _ k => k)
  · rw [e2] at hE
    exact hE x rfl
/-- a comparison -/
theorem sim_cmp {o n p c r : Nat} {z : Nat} {M0 M : MM} {t : Nat → Int32} {W : List Nat} {Post P : Int32 → MM → Prop} (hc : cx o M0 t n) (h : pE o M0 z n p c r W M) (hW : 10 ≤ topQ W) (hK : ∀ d p', coP t n r p = .inr (d, p') → ∀ M' c', pE o M0 z n p' c' r W M' → c < c' → kp o c M M' → SegS (sdM o M') c c' d → EPp o n Post p' M') (hE : ∀ e, coP t n r p = .inl e → erK o M0 Post e) (hP0 : ∀ M', Post 0 M' → P 0 M') (hP1 : ∀ p' M', p < p' → QLp o n Post p' M' → P 1 M') : wp_X7_readsCompared M o P := by
  unfold coP at hK hE
  have hb := h.b hc
  unfold wp_X7_readsCompared
  refine w7_readsSum hc h (by unfold wOk; omega) (fun d p1 e1 M1 c1 k1 k2 k3 k4 => ?_) (fun x e1 M' a b => ?_)
  · rw [if_neg n10]
    rw [e1] at hK hE
    dsimp only at hK hE
    have hgo := su_ok _ _ _ e1
    rw [k1.here hc, k1.here hc, k1.here hc]
    have go : ∀ q, cmO (chS t n p1) = some q → wb_X7_readsCompared_52 M1 o (nI q) P := by
      intro q hq
      rw [hq] at hK hE
      dsimp only at hK hE
      have hlt := cmO_lt hq
      have hq7 : 7 ≤ q ∧ q ≤ 9 := by
        unfold cmO at hq
        by_cases f1 : chS t n p1 = 60
        · rw [if_pos f1] at hq; cases hq; omega
        rw [if_neg f1] at hq
        by_cases f2 : chS t n p1 = 62
        · rw [if_pos f2] at hq; cases hq; omega
        rw [if_neg f2] at hq
        by_cases f3 : chS t n p1 = 61
        · rw [if_pos f3] at hq; cases hq; omega
        rw [if_neg f3] at hq; cases hq
      unfold wb_X7_readsCompared_52
      rw [if_neg (nI_m1 (by omega))]
      simp only [forall_eq]
      rw [k1.2.1, ap1]
      have hkk : kp o c1 M1 (msI M1 o 5 (nI (p1 + 1))) := kp.rf.n (by omega)
      refine w7_readsSum hc (k1.go1 hlt) (by unfold wOk; omega) (fun d2 p2 e2 M2 c2 j1 j2 j3 j4 => ?_) (fun x e2 M' a b => ?_)
      · rw [if_neg n10]
        rw [e2] at hK
        dsimp only at hK
        have hgo2 := su_ok _ _ _ e2
        have hb2 := j1.b hc
        refine j1.notes (v := 0) hc ?_
        have hat : sdM o (ntM o M2 c2 (1048576 * q + 0)) c2 = nI (1048576 * q + 0) := nt_at
        have hkn : kp o c2 M2 (ntM o M2 c2 (1048576 * q + 0)) := kp.rf.nt (Nat.le_refl _)
        have s1 : SegS (sdM o (ntM o M2 c2 (1048576 * q + 0))) c c1 d := ((k4.kp hkk (Nat.le_refl _)).kp j3 (Nat.le_refl _)).kp hkn (by omega)
        have s2 : SegS (sdM o (ntM o M2 c2 (1048576 * q + 0))) c1 c2 d2 := j4.kp hkn (Nat.le_refl _)
        have s3 := seg_op s1 s2 k2 j2 (by omega) hq7.2 hat
        rw [show rkD q d d2 = cmpD q d d2 from if_neg (by omega)] at s3
        have hnt : pE o M0 z n p2 (c2 + 1) r W (ntM o M2 c2 (1048576 * q + 0)) := j1.nt0
        refine hK (cmpD q d d2) p2 rfl _ (c2 + 1) hnt (by omega) ?_ s3 _ (fun M' hQ => hP1 p2 M' (by omega) hQ)
        exact ((k3.tr (hkk.le (by omega))).tr (j3.le (by omega))).tr (hkn.le (by omega))
      · rw [if_pos rfl]
        rw [e2] at hE
        exact hP0 _ (hE x rfl M' a b)
    by_cases f1 : chS t n p1 = 60
    · rw [if_pos f1]; exact go 7 (by unfold cmO; rw [if_pos f1])
    rw [if_neg f1]
    by_cases f2 : chS t n p1 = 62
    · rw [if_pos f2]; exact go 8 (by unfold cmO; rw [if_neg f1, if_pos f2])
    rw [if_neg f2]
    by_cases f3 : chS t n p1 = 61
    · rw [if_pos f3]; exact go 9 (by unfold cmO; rw [if_neg f1, if_neg f2, if_pos f3])
    rw [if_neg f3]
    unfold wb_X7_readsCompared_52
    rw [if_pos rfl]
    have : cmO (chS t n p1) = none := by unfold cmO; rw [if_neg f1, if_neg f2, if_neg f3]
    rw [this] at hE
    exact k1.wrong (w := 1) (hE _ rfl) hP0
  · rw [if_pos rfl]
    rw [e1] at hE
    exact hP0 _ (hE x rfl M' a b)
