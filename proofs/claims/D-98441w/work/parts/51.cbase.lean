/-! the component: what texts are, asked -/
set_option maxRecDepth 100000
/-- two memories agree from lo to hi -/
def AGr (lo hi : Nat) (M M' : MM) : Prop := ∀ a, lo ≤ a → a < hi → (∀ k, mgI M' a k = mgI M a k) ∧ (∀ k, mgR M' a k = mgR M a k) ∧ mkd M' a = mkd M a ∧ mln M' a = mln M a
theorem AGr.rf {lo hi : Nat} {M : MM} : AGr lo hi M M := fun _ _ _ => ⟨fun _ => rfl, fun _ => rfl, rfl, rfl⟩
theorem AGr.tr {lo hi : Nat} {M M1 M2 : MM} (h : AGr lo hi M M1) (g : AGr lo hi M1 M2) : AGr lo hi M M2 := fun a h1 h2 => ⟨fun k => ((g a h1 h2).1 k).trans ((h a h1 h2).1 k), fun k => ((g a h1 h2).2.1 k).trans ((h a h1 h2).2.1 k), (g a h1 h2).2.2.1.trans (h a h1 h2).2.2.1, (g a h1 h2).2.2.2.trans (h a h1 h2).2.2.2⟩
theorem AGr.sub {lo hi lo' hi' : Nat} {M M' : MM} (h : AGr lo hi M M') (h1 : lo ≤ lo') (h2 : hi' ≤ hi) : AGr lo' hi' M M' := fun a a1 a2 => h a (by omega) (by omega)
theorem fI.ag {P : Nat → Nat → Prop} {M M' : MM} {lo hi : Nat} (h : fI P M M') (hp : ∀ a k, lo ≤ a → a < hi → ¬ P a k) : AGr lo hi M M' := fun a h1 h2 => ⟨fun k => h.2 a k (hp a k h1 h2), fun k => h.R a k, by unfold mkd; rw [h.1], by unfold mln; rw [h.1]⟩
/-- the facts that a moment holds -/
def MoE (M : MM) (m : Nat) (f : Nat → Int32) : Prop := mgI M m 1 = f 0 ∧ rm_ (f 0) 7 = f 1 ∧ mgI M m 3 = f 2 ∧ mgI M m 4 = f 3 ∧ mgI M m 5 = f 4 ∧ mgI M m 6 = f 5 ∧ mgI M m 7 = f 6 ∧ mgI M m 8 = f 7 ∧ mgI M m 9 = f 8 ∧ mgI M m 10 = f 9 ∧ mgI M m 2 = f 10 ∧ mgI M m 11 = f 11 ∧ mgI M m 12 = f 12
def f0 (m : Nat) : Nat → Nat → Prop := fun a k => a = m ∧ k = 0
theorem MoE.f0 {M M' : MM} {m : Nat} {f : Nat → Int32} (h : MoE M m f) (hF : fI (f0 m) M M') : MoE M' m f := by
  obtain ⟨h1, h2, h3, h4, h5, h6, h7, h8, h9, h10, h11, h12, h13⟩ := h
  have e : ∀ k, k ≠ 0 → mgI M' m k = mgI M m k := fun k hk => hF.2 _ _ (fun x => hk x.2)
  exact ⟨(e 1 (by decide)).trans h1, h2, (e 3 (by decide)).trans h3, (e 4 (by decide)).trans h4, (e 5 (by decide)).trans h5, (e 6 (by decide)).trans h6, (e 7 (by decide)).trans h7, (e 8 (by decide)).trans h8, (e 9 (by decide)).trans h9, (e 10 (by decide)).trans h10, (e 2 (by decide)).trans h11, (e 11 (by decide)).trans h12, (e 12 (by decide)).trans h13⟩
/-- what a sum came to: a number, or refused (the flag is up) -/
def stO (M : MM) (m : Nat) (g : Int32) (st : Option Int32) (x : Int32) : Prop := (∃ w, st = some w ∧ x = w ∧ mgI M m 0 = g) ∨ (st = none ∧ mgI M m 0 = 1)
/-- at a lies a sum that tells d -/
def RepS (lo hi : Nat) (M : MM) (k a : Nat) (d : Den) : Prop := (lo ≤ a ∧ a < hi) ∧ (mkd M a = 9 ∨ mkd M a = 10 ∨ mkd M a = 11) ∧ ∀ (M' : MM) (dd m : Nat) (f : Nat → Int32) (Post : Int32 → MM → Prop), AGr lo hi M M' → k ≤ dd → m < lo → MoE M' m f → (∀ v M'', fI (f0 m) M' M'' → stO M'' m (mgI M' m 0) (d f) v → Post v M'') → wpW dd M' a m Post
/-- at a lies a condition that tells d -/
def RepC (lo hi : Nat) (M : MM) (k a : Nat) (d : Den) : Prop := (lo ≤ a ∧ a < hi) ∧ (mkd M a = 12 ∨ mkd M a = 13 ∨ mkd M a = 14) ∧ ∀ (M' : MM) (dd m : Nat) (f : Nat → Int32) (Post : Int32 → MM → Prop), AGr lo hi M M' → k ≤ dd → m < lo → MoE M' m f → (∀ v M'', fI (f0 m) M' M'' → ((∃ w, d f = some w ∧ (w = 0 ∨ w = 1) ∧ v = w) ∨ (d f = none ∧ v = 2)) → Post v M'') → wpH dd M' a m Post
theorem RepS.ag {lo hi : Nat} {M M1 : MM} {k a : Nat} {d : Den} (h : RepS lo hi M k a d) (g : AGr lo hi M M1) : RepS lo hi M1 k a d := by
  obtain ⟨h1, h2, h3⟩ := h
  refine ⟨h1, ?_, fun M' dd m f Post g2 => h3 M' dd m f Post (g.tr g2)⟩
  rw [(g a h1.1 h1.2).2.2.1]; exact h2
theorem RepC.ag {lo hi : Nat} {M M1 : MM} {k a : Nat} {d : Den} (h : RepC lo hi M k a d) (g : AGr lo hi M M1) : RepC lo hi M1 k a d := by
  obtain ⟨h1, h2, h3⟩ := h
  refine ⟨h1, ?_, fun M' dd m f Post g2 => h3 M' dd m f Post (g.tr g2)⟩
  rw [(g a h1.1 h1.2).2.2.1]; exact h2
theorem RepS.le {lo hi lo' hi' : Nat} {M : MM} {k k' a : Nat} {d : Den} (h : RepS lo hi M k a d) (h1 : lo' ≤ lo) (h2 : hi ≤ hi') (h3 : k ≤ k') : RepS lo' hi' M k' a d := by
  obtain ⟨g1, g2, g3⟩ := h
  exact ⟨by omega, g2, fun M' dd m f Post a1 a2 a3 a4 a5 => g3 M' dd m f Post (a1.sub h1 h2) (by omega) (by omega) a4 a5⟩
theorem RepC.le {lo hi lo' hi' : Nat} {M : MM} {k k' a : Nat} {d : Den} (h : RepC lo hi M k a d) (h1 : lo' ≤ lo) (h2 : hi ≤ hi') (h3 : k ≤ k') : RepC lo' hi' M k' a d := by
  obtain ⟨g1, g2, g3⟩ := h
  exact ⟨by omega, g2, fun M' dd m f Post a1 a2 a3 a4 a5 => g3 M' dd m f Post (a1.sub h1 h2) (by omega) (by omega) a4 a5⟩
/-- clauses from place i on -/
def TxL (lo hi : Nat) (M : MM) (lA sA cA : Nat) : Nat → Txt → Prop
  | _, [] => True
  | i, q :: r => mgI M lA i = q.1 ∧ (∃ x, mgR M sA i = some x ∧ RepS lo hi M 40 x q.2.1) ∧ (∃ y, mgR M cA i = some y ∧ RepC lo hi M 40 y q.2.2) ∧ TxL lo hi M lA sA cA (i + 1) r
/-- at b lies a text -/
def TxR (lo hi : Nat) (M : MM) (b : Nat) (T : Txt) : Prop := (lo ≤ b ∧ b < hi) ∧ mkd M b = 6 ∧ mgI M b 3 = nI T.length ∧ T.length ≤ 14 ∧ ∃ lA sA cA, (lo ≤ lA ∧ lA < hi) ∧ (lo ≤ sA ∧ sA < hi) ∧ (lo ≤ cA ∧ cA < hi) ∧ mgR M b 0 = some lA ∧ mkd M lA = 100 ∧ mln M lA = 14 ∧ mgR M b 1 = some sA ∧ mkd M sA = 106 ∧ mln M sA = 14 ∧ mgR M b 2 = some cA ∧ mkd M cA = 107 ∧ mln M cA = 14 ∧ TxL lo hi M lA sA cA 0 T
theorem TxL.ag {lo hi : Nat} {M M' : MM} {lA sA cA : Nat} (h1 : lo ≤ lA ∧ lA < hi) (h2 : lo ≤ sA ∧ sA < hi) (h3 : lo ≤ cA ∧ cA < hi) (g : AGr lo hi M M') : ∀ {T : Txt} {i : Nat}, TxL lo hi M lA sA cA i T → TxL lo hi M' lA sA cA i T := by
  intro T
  induction T with
  | nil => intro i _; exact True.intro
  | cons q r ih =>
    intro i ⟨a1, ⟨x, a2, a3⟩, ⟨y, a4, a5⟩, a6⟩
    exact ⟨((g lA h1.1 h1.2).1 i).trans a1, ⟨x, ((g sA h2.1 h2.2).2.1 i).trans a2, a3.ag g⟩, ⟨y, ((g cA h3.1 h3.2).2.1 i).trans a4, a5.ag g⟩, ih a6⟩
theorem TxR.ag {lo hi : Nat} {M M' : MM} {b : Nat} {T : Txt} (h : TxR lo hi M b T) (g : AGr lo hi M M') : TxR lo hi M' b T := by
  obtain ⟨h1, h2, h3, h4, lA, sA, cA, a1, a2, a3, b1, b2, b3, c1, c2, c3, d1, d2, d3, e⟩ := h
  refine ⟨h1, (g b h1.1 h1.2).2.2.1.trans h2, ((g b h1.1 h1.2).1 3).trans h3, h4, lA, sA, cA, a1, a2, a3, ((g b h1.1 h1.2).2.1 0).trans b1, (g lA a1.1 a1.2).2.2.1.trans b2, (g lA a1.1 a1.2).2.2.2.trans b3, ((g b h1.1 h1.2).2.1 1).trans c1, (g sA a2.1 a2.2).2.2.1.trans c2, (g sA a2.1 a2.2).2.2.2.trans c3, ((g b h1.1 h1.2).2.1 2).trans d1, (g cA a3.1 a3.2).2.2.1.trans d2, (g cA a3.1 a3.2).2.2.2.trans d3, e.ag a1 a2 a3 g⟩
/-- what the first clause of a letter that holds tells, as it is -/
def byR : Txt → Int32 → (Nat → Int32) → Int32
  | [], _, _ => 0
  | q :: r, c, f => if q.1 = c ∧ (q.2.2 f).getD 0 = 1 then (q.2.1 f).getD 0 else byR r c f
theorem byS_R {c h : Int32} {f : Nat → Int32} (hh : 0 ≤ h) : ∀ T : Txt, byS T c h f = clS h (byR T c f) := by
  intro T
  induction T with
  | nil => unfold byS byR clS; rw [if_pos (show (0 : Int32) ≤ 0 by decide), if_pos hh]
  | cons q r ih =>
    unfold byS byR
    by_cases e : q.1 = c ∧ (q.2.2 f).getD 0 = 1
    · rw [if_pos e, if_pos e]
    · rw [if_neg e, if_neg e]; exact ih
theorem i32_ltle {x y : Int32} (h : x < y) : x ≤ y := by
  rw [Int32.lt_iff_toInt_lt] at h; rw [Int32.le_iff_toInt_le]; omega
theorem i32_eq {x y : Int32} (h : x ≤ y) (g : ¬ x < y) : x = y := by
  rw [Int32.le_iff_toInt_le] at h
  rw [Int32.lt_iff_toInt_lt] at g
  exact Int32.toInt_inj.mp (by omega)
theorem i32_letr {x y z : Int32} (h : x ≤ y) (g : y ≤ z) : x ≤ z := by
  rw [Int32.le_iff_toInt_le] at h g ⊢; omega
theorem held_S {v h : Int32} (hh : 0 ≤ h) : mx_ (0 : Int32) (mn_ h v) = clS h v := by
  unfold mx_ mn_ clS
  by_cases e1 : v < h
  · rw [if_pos e1, if_pos (i32_ltle e1)]
    by_cases e2 : 0 < v
    · rw [if_pos e2, if_pos (i32_ltle e2)]
    · rw [if_neg e2]
      by_cases e3 : 0 ≤ v
      · rw [if_pos e3]; exact i32_eq e3 e2
      · rw [if_neg e3]
  · rw [if_neg e1]
    have e2 : h ≤ v := i32_nlt.mp e1
    rw [if_pos (i32_letr hh e2)]
    by_cases e3 : v ≤ h
    · rw [if_pos e3]
      have e5 : h = v := i32_eq e2 (i32_nlt.mpr e3)
      by_cases e4 : 0 < h
      · rw [if_pos e4]; exact e5
      · rw [if_neg e4, ← e5]; exact i32_eq hh e4
    · rw [if_neg e3]
      by_cases e4 : 0 < h
      · rw [if_pos e4]
      · rw [if_neg e4]; exact i32_eq hh e4
theorem w0_held {M : MM} {v h : Int32} {Post : Int32 → MM → Prop} (hh : 0 ≤ h) : wp_X0_held M v h Post = Post (clS h v) M := by
  unfold wp_X0_held
  rw [held_S hh]
theorem AGr.f0 {lo hi m : Nat} {M M' : MM} (h : fI (f0 m) M M') (hm : m < lo) : AGr lo hi M M' := h.ag (fun a k h1 _ x => by have := x.1; omega)
/-- a text tells -/
theorem w6_tells {lo hi b m : Nat} {M : MM} {T : Txt} {c : Int32} {f : Nat → Int32} {Post : Int32 → MM → Prop} (h : TxR lo hi M b T) (hm : m < lo) (hf : MoE M m f) (hP : ∀ M', fI (f0 m) M M' → Post (byR T c f) M') : wp_X6_tells M b c m Post := by
  have key : ∀ (X34 : MM → Int32 → Prop) (X51 : MM → Prop), (∀ (M' : MM) i q, fI (f0 m) M M' → (∃ sA x, mgR M' b 1 = some sA ∧ mkd M' sA = 106 ∧ mln M' sA = 14 ∧ mgR M' sA i = some x ∧ RepS lo hi M' 40 x q ∧ i < 14) → (∀ M'', fI (f0 m) M' M'' → Post ((q f).getD 0) M'') → X34 M' (nI i)) → (∀ M', Post 0 M' → X51 M') → ∀ (r : Txt) (i : Nat) (M' : MM), i + r.length = T.length → fI (f0 m) M M' → (∃ lA sA cA, (lo ≤ lA ∧ lA < hi) ∧ (lo ≤ sA ∧ sA < hi) ∧ (lo ≤ cA ∧ cA < hi) ∧ mgR M b 0 = some lA ∧ mkd M lA = 100 ∧ mln M lA = 14 ∧ mgR M b 1 = some sA ∧ mkd M sA = 106 ∧ mln M sA = 14 ∧ mgR M b 2 = some cA ∧ mkd M cA = 107 ∧ mln M cA = 14 ∧ TxL lo hi M lA sA cA i r) → (∀ M'', fI (f0 m) M M'' → Post (byR r c f) M'') → wl_X6_tells_2 b c m X34 X51 (r.length + 1) M' (nI i) := by
    intro X34 X51 h34 h51 r
    obtain ⟨t1, t2, t3, t4, _⟩ := h
    induction r with
    | nil =>
      intro i M' hij hF _ hQ
      have hF' : AGr lo hi M M' := .f0 hF hm
      unfold wl_X6_tells_2
      rw [(hF' b t1.1 t1.2).1 3, t3, if_pos (by rw [← hij]; exact nI_le (Nat.le_refl _) (by omega))]
      exact h51 M' (hQ M' hF)
    | cons q r ih =>
      intro i M' hij hF hL hQ
      have hF' : AGr lo hi M M' := .f0 hF hm
      obtain ⟨lA, sA, cA, a1, a2, a3, b1, b2, b3, c1, c2, c3, d1, d2, d3, e1, ⟨x, e2, e3⟩, ⟨y, e4, e5⟩, e6⟩ := hL
      rw [List.length_cons] at hij
      show wl_X6_tells_2 b c m X34 X51 ((r.length + 1) + 1) M' (nI i)
      unfold wl_X6_tells_2
      have g1 : mgR M' b 0 = some lA := ((hF' b t1.1 t1.2).2.1 0).trans b1
      have g2 : mkd M' lA = 100 := (hF' lA a1.1 a1.2).2.2.1.trans b2
      have g3 : mln M' lA = 14 := (hF' lA a1.1 a1.2).2.2.2.trans b3
      have g4 : mgI M' lA i = q.1 := ((hF' lA a1.1 a1.2).1 i).trans e1
      have g5 : mgR M' b 2 = some cA := ((hF' b t1.1 t1.2).2.1 2).trans d1
      have g6 : mkd M' cA = 107 := (hF' cA a3.1 a3.2).2.2.1.trans d2
      have g7 : mln M' cA = 14 := (hF' cA a3.1 a3.2).2.2.2.trans d3
      have g8 : mgR M' cA i = some y := ((hF' cA a3.1 a3.2).2.1 i).trans e4
      rw [(hF' b t1.1 t1.2).1 3, t3, if_neg (nI_ge (by omega) (by omega))]
      simp (disch := first | assumption | omega) only [g1, Option.some.injEq, exists_eq_left', forall_eq, true_and, and_true, Nat.reduceLT, exists_eq_left, g2, g3, vpN, ixN, g4, g5, g6, g7, g8, ap1]
      have hnext : ∀ M2, fI (f0 m) M M2 → (∀ M'', fI (f0 m) M M'' → Post (byR r c f) M'') → wl_X6_tells_2 b c m X34 X51 (r.length + 1) M2 (nI (i + 1)) := fun M2 k1 k2 => ih (i + 1) M2 (by omega) k1 ⟨lA, sA, cA, a1, a2, a3, b1, b2, b3, c1, c2, c3, d1, d2, d3, e6⟩ k2
      unfold byR at hQ
      by_cases ec : q.1 = c
      · rw [if_pos ec]
        refine (e5.ag hF').2.2 M' 40 m f _ AGr.rf (Nat.le_refl _) hm (hf.f0 hF) (fun v M2 k1 k2 => ?_)
        have hF2 := hF.tr k1
        by_cases ed : (q.2.2 f).getD 0 = 1
        · have ev : v = 1 := by
            rcases k2 with ⟨w, w1, _, w3⟩ | ⟨w1, _⟩
            · rw [w1] at ed; rw [w3]; exact ed
            · rw [w1] at ed; exact absurd ed (by decide)
          rw [if_pos ev]
          rw [if_pos ⟨ec, ed⟩] at hQ
          have hF2' : AGr lo hi M M2 := .f0 hF2 hm
          exact h34 M2 i q.2.1 hF2 ⟨sA, x, ((hF2' b t1.1 t1.2).2.1 1).trans c1, (hF2' sA a2.1 a2.2).2.2.1.trans c2, (hF2' sA a2.1 a2.2).2.2.2.trans c3, ((hF2' sA a2.1 a2.2).2.1 i).trans e2, e3.ag hF2', by omega⟩ (fun M'' k => hQ M'' (hF2.tr k))
        · have ev : ¬ v = 1 := by
            rcases k2 with ⟨w, w1, _, w3⟩ | ⟨_, w2⟩
            · rw [w1] at ed; rw [w3]; exact ed
            · rw [w2]; decide
          rw [if_neg ev]
          rw [if_neg (fun x => ed x.2)] at hQ
          exact hnext M2 hF2 hQ
      · rw [if_neg ec]
        rw [if_neg (fun x => ec x.1)] at hQ
        exact hnext M' hF hQ
  unfold wp_X6_tells
  refine ⟨T.length + 1, key _ _ (fun M' i q hF hex hQ => ?_) (fun M' k => k) T 0 M (Nat.zero_add _) fI.rf ?_ hP⟩
  · obtain ⟨sA, x, s1, s2, s3, s4, s5, s6⟩ := hex
    simp (disch := first | assumption | omega) only [s1, Option.some.injEq, exists_eq_left', forall_eq, true_and, and_true, Nat.reduceLT, exists_eq_left, s2, s3, vpN, ixN, s4]
    unfold wpT wp_X9_told
    refine ⟨s5.2.1, ?_⟩
    simp only [forall_eq]
    have hF0 : fI (f0 m) M' (msI M' m 0 0) := fI.rf.s ⟨rfl, rfl⟩
    refine s5.2.2 (msI M' m 0 0) 40 m f _ (.f0 hF0 hm) (Nat.le_refl _) hm ((hf.f0 hF).f0 hF0) (fun v M2 k1 k2 => ?_)
    have := hQ M2 (hF0.tr k1)
    rcases k2 with ⟨w, w1, w2, w3⟩ | ⟨w1, w2⟩
    · rw [w3, fd_e, if_pos rfl, w2]
      rw [w1] at this
      exact this
    · rw [w2, if_neg n10]
      rw [w1] at this
      exact this
  · obtain ⟨_, _, _, _, lA, sA, cA, a1, a2, a3, b1, b2, b3, c1, c2, c3, d1, d2, d3, e⟩ := h
    exact ⟨lA, sA, cA, a1, a2, a3, b1, b2, b3, c1, c2, c3, d1, d2, d3, e⟩
/-- where texts may lie -/
def Prt (o N a : Nat) : Prop := (o + 61 ≤ a ∧ a < o + 65) ∨ (o + 315 ≤ a ∧ a < N)
def TxP (o : Nat) (M : MM) (b : Nat) (T : Txt) : Prop := ∃ lo hi, (∀ a, lo ≤ a → a < hi → Prt o (msz M) a) ∧ o + 1 < lo ∧ TxR lo hi M b T
/-- the component's texts -/
def CT (o : Nat) (M : MM) (T : Nat → Txt) : Prop := (∃ b, mgR M o 6 = some b ∧ TxP o M b (T 0)) ∧ ∀ k, k < 4 → (mgR M (o + 60) k = none ∧ T (k + 1) = []) ∨ ∃ b, mgR M (o + 60) k = some b ∧ mkd M b = 6 ∧ TxP o M b (T (k + 1))
theorem TxP.f {o b : Nat} {M M' : MM} {T : Txt} {P : Nat → Nat → Prop} (h : TxP o M b T) (hF : fI P M M') (hp : ∀ a k, Prt o (msz M) a → ¬ P a k) : TxP o M' b T := by
  obtain ⟨lo, hi, h1, h2, h3⟩ := h
  have hz : msz M' = msz M := by unfold msz; rw [hF.1]
  exact ⟨lo, hi, fun a x y => by rw [hz]; exact h1 a x y, h2, h3.ag (hF.ag (fun a k x y => hp a k (h1 a x y)))⟩
theorem CT.f {o : Nat} {M M' : MM} {T : Nat → Txt} {P : Nat → Nat → Prop} (h : CT o M T) (hF : fI P M M') (hp : ∀ a k, Prt o (msz M) a → ¬ P a k) : CT o M' T := by
  obtain ⟨⟨b, h1, h2⟩, h3⟩ := h
  refine ⟨⟨b, (hF.R _ _).trans h1, h2.f hF hp⟩, fun k hk => ?_⟩
  rcases h3 k hk with ⟨a1, a2⟩ | ⟨b, a1, a2, a3⟩
  · exact Or.inl ⟨(hF.R _ _).trans a1, a2⟩
  · exact Or.inr ⟨b, (hF.R _ _).trans a1, by unfold mkd; rw [hF.1]; exact a2, a3.f hF hp⟩
