/-! the model: the sun, all days -/
set_option maxRecDepth 100000
def deS (T : Nat → Txt) (l : Nat) (th : Int32) (pot br : Nat) (s : Nat → Int32) : Nat → Nat → Nat → Nat := fun sn f k => deN pot br (leN T s l th sn f k) f k
def pVS (T : Nat → Txt) (l : Nat) (th rc rb : Int32) (who : Nat → Nat) (tn : Nat → Int32) (m pot br : Nat) (s : Nat → Int32) (k : Nat) (V : Nat → Int64) : Nat → Int64 := pV (fun i => (tn i).toInt64) (fun i => (10 - tn i).toInt64) (fun i => toN T s l th rc rb (who i) (tn i) pot k) m V
/-- a day's weights, 500 the dead -/
def dW (T : Nat → Txt) (l : Nat) (th rc rb : Int32) (who : Nat → Nat) (tn : Nat → Int32) (m pot br : Nat) (s : Nat → Int32) (w : Nat → Int64) : Nat → Int64 := dayW (fun i => (tn i).toInt64) (fun i => (10 - tn i).toInt64) (fun i k => toN T s l th rc rb (who i) (tn i) pot k) (deS T l th pot br s) m w
theorem dryN_lt {k : Nat} : dryN k < 10 := by unfold dryN; split <;> omega
theorem drnN_lt {k : Nat} (h : k < 20) : drnN k < 10 := by unfold drnN; split <;> omega
theorem w7_sunBy {o l m pot br : Nat} {th rc rb : Int32} {who : Nat → Nat} {tn : Nat → Int32} {T : Nat → Txt} {s : Nat → Int32} {M : MM} {q f : Nat} {sn : Nat} {V A : Nat → Int64} {Post : MM → Prop} (hD : DPc o M l th rc rb who tn m s T) (hl : l < 4) (hr : RuOk s) (hrc : rc = -1 ∨ ∃ r, r ≤ 9 ∧ rc = nI r) (hpot : s l = nI pot) (hpot2 : pot ≤ 24) (hbr : s (8 + l) = nI br) (hbr9 : br ≤ 9) (hm8 : m ≤ 8) (hwho : ∀ i, i < m → who i < 8) (hq : q < 500) (hf : f < 25) (hsn : sn ≤ 1) (hV : aL o 24 M = V) (hA : wdE o M A)
    (h : ∀ M', dF o M M' → aL o 24 M' = V → aL o 22 M' = aL o 22 M → wdE o M' (fun k => A k + if deS T l th pot br s sn f (q % 20) = k then V f * 5 else 0) → Post M') : wp_X7_sunBy M o (nI q) (nI f) (nI sn) Post := by
  unfold wp_X7_sunBy
  have hD0 := hD
  obtain ⟨h1, h2, h3, h4, h5, h6, h7, h8⟩ := hD
  refine w7_feelsState (f := f) h1 hl h3 h4 h5 hq (fun M1 hF1 f1 => ?_)
  refine w7_byText (T := T) (t := 0) (ML_of hF1.e h1) (hF1.tm (fun c a b k => by omega) h2) (by omega) f1 (fun M2 hF2 => ?_)
  obtain ⟨a, ha1, ha2⟩ := by9 (t := T 0) (c := 101) (f := fcX s l th f (q % 20))
  obtain ⟨b, hb1, hb2⟩ := by9 (t := T 0) (c := 104) (f := fcX s l th f (q % 20))
  have go : ∀ M3 less, fI (fun a _ => a = o + 17 ∨ a = o + 18) M M3 → less ≤ 18 → less = leN T s l th sn f (q % 20) → wb_X7_sunBy_35 M3 o (nI q) (nI f) (nI less) Post := by
    intro M3 less hF3 hle hless
    have hD3 := hD0.d hF3.d
    have hL3 : ML o M3 := hD3.1
    have hV3 : aL o 24 M3 = V := (funext fun k => hF3.L _ _).trans hV
    have hA3 : wdE o M3 A := ⟨fun k hk => (hF3.L _ _).trans (hA.1 k hk), (hF3.L _ _).trans hA.2⟩
    have fin : ∀ d r, d = (if f - less = 0 then dryN (q % 20) + 1 else 0) → r = (if f - less = pot then drnN (q % 20) + 1 else 0) → wb_X7_sunBy_88 M3 o (nI f) (nI (f - less)) (nI d) (nI r) Post := by
      intro d r hd hrr
      have hdb : d < 1000 := by have := dryN_lt (k := q % 20); rw [hd]; split <;> omega
      have hrb : r < 1000 := by have := drnN_lt (k := q % 20) (by omega); rw [hrr]; split <;> omega
      refine w7_sb88 (w := f - less) (d := d) (r := r) hD3 hl hf (by omega) hdb hrb hbr hbr9 hV3 hA3 (fun M4 k1 k2 k3 k4 => h M4 (hF3.d.tr k1) k2 (k3.trans (funext fun k => hF3.L _ _)) ?_)
      unfold deS deN
      rw [← hless]
      simp only [← hd, ← hrr]
      exact k4
    have wb60 : ∀ d, d = (if f - less = 0 then dryN (q % 20) + 1 else 0) → wb_X7_sunBy_60 M3 o (nI q) (nI f) (nI (f - less)) (nI d) Post := by
      intro d hd
      unfold wb_X7_sunBy_60
      rw [hD3.2.2.2.1]
      simp (disch := first | assumption | omega) only [mgR_sI, mgR_sL, mkd_sI, mkd_sL, mln_sI, mln_sL, Option.some.injEq, exists_eq_left', forall_eq, true_and, and_true, Nat.reduceLT, exists_eq_left, ML_r0, ML_k1, ML_l1, ML_r1, ML_k2, ML_l2, ML_r2, ML_k3, ML_l3, ML_r3, ML_k4, ML_l4, ML_r13, ML_k5, ML_l5, ML_r14, ML_k6, ML_l6, ML_r15, ML_k7, ML_l7, ML_r16, ML_k8, ML_l8, ML_r17, ML_k9, ML_l9, ML_r18, ML_k10, ML_l10, ML_r19, ML_k11, ML_l11, ML_r20, ML_k12, ML_l12, ML_r21, ML_k13, ML_l13, ML_r22, ML_k14, ML_l14, ML_r23, ML_k15, ML_l15, ML_r24, ML_k16, ML_l16, ML_r25, ML_k17, ML_l17, ML_r26, ML_k18, ML_l18, ML_r30, ML_k19, ML_l19, ML_r35, ML_k20, ML_l20, ML_r36, ML_k21, ML_l21, ML_r37, ML_k22, ML_l22, ML_r38, ML_k23, ML_l23, ML_r40, ML_k24, ML_l24, ML_r41, ML_k25, ML_l25, ML_r42, ML_k26, ML_l26, ML_r43, ML_k27, ML_l27, ML_r44, ML_k28, ML_l28, ML_r45, ML_k29, ML_l29, ML_r48, ML_k30, ML_l30, ML_r51, ML_k31, ML_l31, ML_r52, ML_k32, ML_l32, ia0, ia4, ia8, ia12, ia16, ia20, ia24, ia52, ia60, ia68, im7, im14, ap6, iaN, ap1, ixN, vpN, arE (o := o) (c := 1), hD3.2.2.1, hpot]
      by_cases e : f - less = pot
      · rw [if_pos (by rw [e])]
        refine w7_drownedIn hq ?_
        rw [ap1]
        exact fin d _ hd (if_pos e).symm
      · rw [if_neg (fun x => e ((nI_eq (by omega) (by omega)).mp x))]
        exact fin d 0 hd (if_neg e).symm
    unfold wb_X7_sunBy_35
    rw [w7_max, ma_sub (by omega) (by omega)]
    by_cases e : f - less = 0
    · rw [if_pos (by rw [e]; decide)]
      refine w7_dryIn hq ?_
      rw [ap1]
      exact wb60 _ (if_pos e).symm
    · rw [if_neg (nI_ne0 (by omega) (by omega))]
      exact wb60 0 (if_neg e).symm
  have hF12 : fI (fun a _ => a = o + 17 ∨ a = o + 18) M M2 := (hF1.mono (fun a k e => Or.inr e)).tr (hF2.mono (fun a k e => Or.inl e))
  rw [ha2]
  have : sn = 0 ∨ sn = 1 := by omega
  rcases this with rfl | rfl
  · rw [if_pos (show nI 0 = 0 from rfl)]
    exact go M2 a hF12 (by omega) (by unfold leN; rw [ha2, if_pos rfl, ixN (by omega)]; rfl)
  · rw [if_neg (show ¬ nI 1 = 0 by decide)]
    refine w7_byText (T := T) (t := 0) (ML_of hF12.e h1) (hF12.tm (fun c a b k => by omega) h2) (by omega) (hF2.fc (fun k => by omega) f1) (fun M3 hF3 => ?_)
    rw [hb2]
    simp only [forall_eq, iaN]
    exact go M3 (a + b) (hF12.tr (hF3.mono (fun a k e => Or.inl e))) (by omega) (by unfold leN; rw [ha2, hb2, if_neg (by omega), ixN (by omega), ixN (by omega)])
theorem wdE.eq {o : Nat} {M : MM} {A B : Nat → Int64} (h : wdE o M A) (e : ∀ k, B k = A k) : wdE o M B := by rw [show B = A from funext e]; exact h
theorem L_3 (a b p r : Int64) : a + (b + (p + r)) = a + b + p + r := by rw [← Int64.add_assoc, ← Int64.add_assoc]
theorem L_0 (a b : Int64) {z : Int64} (h : z = 0) : a + (b + z) = a + b := by rw [h, Int64.add_zero]
theorem w7_g167 {o l m pot br : Nat} {th rc rb : Int32} {who : Nat → Nat} {tn : Nat → Int32} {T : Nat → Txt} {s : Nat → Int32} {M : MM} {q : Nat} {x1 x2 x3 x4 : Int32} {V A : Nat → Int64} {X : MM → Prop} (hD : DPc o M l th rc rb who tn m s T) (hl : l < 4) (hr : RuOk s) (hrc : rc = -1 ∨ ∃ r, r ≤ 9 ∧ rc = nI r) (hpot : s l = nI pot) (hpot2 : pot ≤ 24) (hbr : s (8 + l) = nI br) (hbr9 : br ≤ 9) (hm8 : m ≤ 8) (hwho : ∀ i, i < m → who i < 8) (hq : q < 500) (hV : aL o 24 M = V) (hA : wdE o M A)
    (h : ∀ M', dF o M M' → aL o 22 M' = aL o 22 M → wdE o M' (fun k => A k + sm 25 (fun f => sunK (deS T l th pot br s) f (q % 20) k (V f))) → X M') : ∃ n, wl_X7_goesThrough_167 o x1 x2 x3 x4 (nI q) X n M (nI 0) := by
  refine cl_ (fun n M1 j => wl_X7_goesThrough_167 o x1 x2 x3 x4 (nI q) X n M1 (nI j)) (fun j M1 => dF o M M1 ∧ aL o 22 M1 = aL o 22 M ∧ aL o 24 M1 = V ∧ wdE o M1 (fun k => A k + sm j (fun f => sunK (deS T l th pot br s) f (q % 20) k (V f)))) 25 ?_ ?_ M 0 (by omega) ⟨dF.rf, rfl, hV, ?_⟩
  · intro n j M1 hj ⟨hF, h22, hV1, hA1⟩ hs'
    have hD1 := hD.d hF
    show wl_X7_goesThrough_167 o x1 x2 x3 x4 (nI q) X (n + 1) M1 (nI j)
    unfold wl_X7_goesThrough_167
    rw [if_neg (show ¬ (24 : Int32) < nI j from (show ¬ nI 24 < nI j from nI_nlt (by omega) (by omega)))]
    have h1 := hD1.1
    simp (disch := first | assumption | omega) only [mgR_sI, mgR_sL, mkd_sI, mkd_sL, mln_sI, mln_sL, Option.some.injEq, exists_eq_left', forall_eq, true_and, and_true, Nat.reduceLT, exists_eq_left, ML_r0, ML_k1, ML_l1, ML_r1, ML_k2, ML_l2, ML_r2, ML_k3, ML_l3, ML_r3, ML_k4, ML_l4, ML_r13, ML_k5, ML_l5, ML_r14, ML_k6, ML_l6, ML_r15, ML_k7, ML_l7, ML_r16, ML_k8, ML_l8, ML_r17, ML_k9, ML_l9, ML_r18, ML_k10, ML_l10, ML_r19, ML_k11, ML_l11, ML_r20, ML_k12, ML_l12, ML_r21, ML_k13, ML_l13, ML_r22, ML_k14, ML_l14, ML_r23, ML_k15, ML_l15, ML_r24, ML_k16, ML_l16, ML_r25, ML_k17, ML_l17, ML_r26, ML_k18, ML_l18, ML_r30, ML_k19, ML_l19, ML_r35, ML_k20, ML_l20, ML_r36, ML_k21, ML_l21, ML_r37, ML_k22, ML_l22, ML_r38, ML_k23, ML_l23, ML_r40, ML_k24, ML_l24, ML_r41, ML_k25, ML_l25, ML_r42, ML_k26, ML_l26, ML_r43, ML_k27, ML_l27, ML_r44, ML_k28, ML_l28, ML_r45, ML_k29, ML_l29, ML_r48, ML_k30, ML_l30, ML_r51, ML_k31, ML_l31, ML_r52, ML_k32, ML_l32, ia0, ia4, ia8, ia12, ia16, ia20, ia24, ia52, ia60, ia68, im7, im14, ap6, iaN, ap1, ixN, vpN, aLE (o := o) (c := 24), hV1]
    by_cases e : V j = 0
    · rw [if_pos e]
      refine hs' M1 ⟨hF, h22, hV1, ?_⟩
      have hz : ∀ k, sunK (deS T l th pot br s) j (q % 20) k (V j) = 0 := fun k => by rw [e]; exact sunK_0
      exact hA1.eq (fun k => L_0 _ _ (hz k))
    · rw [if_neg e]
      refine w7_sunBy (sn := 1) hD1 hl hr hrc hpot hpot2 hbr hbr9 hm8 hwho hq hj (by omega) hV1 hA1 (fun M2 hF2 hV2 h222 hA2 => ?_)
      refine w7_sunBy (sn := 0) (hD1.d hF2) hl hr hrc hpot hpot2 hbr hbr9 hm8 hwho hq hj (by omega) hV2 hA2 (fun M3 hF3 hV3 h322 hA3 => ?_)
      exact hs' M3 ⟨hF.tr (hF2.tr hF3), (h322.trans h222).trans h22, hV3, hA3.eq (fun k => L_3 _ _ _ _)⟩
  · intro n M1 ⟨hF, h22, hV1, hA1⟩
    show wl_X7_goesThrough_167 o x1 x2 x3 x4 (nI q) X (n + 1) M1 (nI 25)
    unfold wl_X7_goesThrough_167
    rw [if_pos (show (24 : Int32) < nI 25 from by decide)]
    exact h M1 hF h22 hA1
  · exact ⟨fun k hk => by show _ = A k + (0 : Int64); rw [Int64.add_zero]; exact hA.1 k hk, by show _ = A 500 + (0 : Int64); rw [Int64.add_zero]; exact hA.2⟩
theorem w7_g134 {o l m pot br : Nat} {th rc rb : Int32} {who : Nat → Nat} {tn : Nat → Int32} {T : Nat → Txt} {s : Nat → Int32} {M : MM} {x1 x3 x4 : Int32} {w A : Nat → Int64} {X : MM → Prop} (hD : DPc o M l th rc rb who tn m s T) (hl : l < 4) (hr : RuOk s) (hrc : rc = -1 ∨ ∃ r, r ≤ 9 ∧ rc = nI r) (hpot : s l = nI pot) (hpot2 : pot ≤ 24) (hbr : s (8 + l) = nI br) (hbr9 : br ≤ 9) (hm8 : m ≤ 8) (hwho : ∀ i, i < m → who i < 8) (hw : aL o 22 M = w) (hA : wdE o M A)
    (h : ∀ M', dF o M M' → wdE o M' (fun k => A k + dW T l th rc rb who tn m pot br s w k) → X M') : ∃ n, wl_X7_goesThrough_134 o x1 (nI m) x3 x4 X n M (nI 0) := by
  refine cl_ (fun n M1 j => wl_X7_goesThrough_134 o x1 (nI m) x3 x4 X n M1 (nI j)) (fun j M1 => dF o M M1 ∧ aL o 22 M1 = w ∧ wdE o M1 (fun k => A k + sm j (fun q => sm 25 (fun f => sunK (deS T l th pot br s) f (q % 20) k (pVS T l th rc rb who tn m pot br s (q % 20) (dlt (q / 20) (w q)) f))))) 500 ?_ ?_ M 0 (by omega) ⟨dF.rf, hw, ?_⟩
  · intro n j M1 hj ⟨hF, h22, hA1⟩ hs'
    have hD1 := hD.d hF
    have h1 := hD1.1
    show wl_X7_goesThrough_134 o x1 (nI m) x3 x4 X (n + 1) M1 (nI j)
    unfold wl_X7_goesThrough_134
    rw [if_neg (show ¬ (500 : Int32) ≤ nI j from (show ¬ nI 500 ≤ nI j from nI_ge (by omega) (by omega)))]
    simp (disch := first | assumption | omega) only [mgR_sI, mgR_sL, mkd_sI, mkd_sL, mln_sI, mln_sL, Option.some.injEq, exists_eq_left', forall_eq, true_and, and_true, Nat.reduceLT, exists_eq_left, ML_r0, ML_k1, ML_l1, ML_r1, ML_k2, ML_l2, ML_r2, ML_k3, ML_l3, ML_r3, ML_k4, ML_l4, ML_r13, ML_k5, ML_l5, ML_r14, ML_k6, ML_l6, ML_r15, ML_k7, ML_l7, ML_r16, ML_k8, ML_l8, ML_r17, ML_k9, ML_l9, ML_r18, ML_k10, ML_l10, ML_r19, ML_k11, ML_l11, ML_r20, ML_k12, ML_l12, ML_r21, ML_k13, ML_l13, ML_r22, ML_k14, ML_l14, ML_r23, ML_k15, ML_l15, ML_r24, ML_k16, ML_l16, ML_r25, ML_k17, ML_l17, ML_r26, ML_k18, ML_l18, ML_r30, ML_k19, ML_l19, ML_r35, ML_k20, ML_l20, ML_r36, ML_k21, ML_l21, ML_r37, ML_k22, ML_l22, ML_r38, ML_k23, ML_l23, ML_r40, ML_k24, ML_l24, ML_r41, ML_k25, ML_l25, ML_r42, ML_k26, ML_l26, ML_r43, ML_k27, ML_l27, ML_r44, ML_k28, ML_l28, ML_r45, ML_k29, ML_l29, ML_r48, ML_k30, ML_l30, ML_r51, ML_k31, ML_l31, ML_r52, ML_k32, ML_l32, ia0, ia4, ia8, ia12, ia16, ia20, ia24, ia52, ia60, ia68, im7, im14, ap6, iaN, ap1, ixN, vpN, aLE (o := o) (c := 22), h22]
    by_cases e : w j = 0
    · rw [if_pos e]
      have hz : ∀ k, sm 25 (fun f => sunK (deS T l th pot br s) f (j % 20) k (pVS T l th rc rb who tn m pot br s (j % 20) (dlt (j / 20) (w j)) f)) = 0 := fun k => sm_zero (fun f hf => by
        have : pVS T l th rc rb who tn m pot br s (j % 20) (dlt (j / 20) (w j)) f = 0 := pV_0 (fun g hg => by unfold dlt; rw [e]; split <;> rfl) m f hf
        rw [this]; exact sunK_0)
      exact hs' M1 ⟨hF, h22, hA1.eq (fun k => L_0 _ _ (hz k))⟩
    · rw [if_neg e]
      refine w7_comesBy (pot := pot) hD1 hl hj hr hrc hpot hpot2 hm8 hwho h22 (fun M2 hF2 hV2 => ?_)
      have h222 : aL o 22 M2 = w := (funext fun k => hF2.2.2 _ _ (by omega)).trans h22
      have hA2 : wdE o M2 (fun k => A k + sm j (fun q => sm 25 (fun f => sunK (deS T l th pot br s) f (q % 20) k (pVS T l th rc rb who tn m pot br s (q % 20) (dlt (q / 20) (w q)) f)))) := ⟨fun k hk => (hF2.2.2 _ _ (by omega)).trans (hA1.1 k hk), (hF2.2.2 _ _ (by omega)).trans hA1.2⟩
      refine w7_g167 (hD1.d hF2.d) hl hr hrc hpot hpot2 hbr hbr9 hm8 hwho hj rfl hA2 (fun M3 hF3 h322 hA3 => ?_)
      have hsum : ∀ k, sm 25 (fun f => sunK (deS T l th pot br s) f (j % 20) k (aL o 24 M2 f)) = sm 25 (fun f => sunK (deS T l th pot br s) f (j % 20) k (pVS T l th rc rb who tn m pot br s (j % 20) (dlt (j / 20) (w j)) f)) := fun k => sm_congr (fun f hf => by rw [hV2 f hf]; rfl)
      refine hs' M3 ⟨hF.tr (hF2.d.tr hF3), h322.trans h222, hA3.eq (fun k => ?_)⟩
      rw [hsum]
      exact (Int64.add_assoc _ _ _).symm
  · intro n M1 ⟨hF, h22, hA1⟩
    show wl_X7_goesThrough_134 o x1 (nI m) x3 x4 X (n + 1) M1 (nI 500)
    unfold wl_X7_goesThrough_134
    rw [if_pos (show (500 : Int32) ≤ nI 500 from by decide)]
    have hk : ∀ k, sm 500 (fun q => sm 25 (fun f => sunK (deS T l th pot br s) f (q % 20) k (pVS T l th rc rb who tn m pot br s (q % 20) (dlt (q / 20) (w q)) f))) = dW T l th rc rb who tn m pot br s w k := fun k => dayW_start
    exact h M1 hF (hA1.eq (fun k => by rw [← hk]))
  · exact ⟨fun k hk => by show _ = A k + (0 : Int64); rw [Int64.add_zero]; exact hA.1 k hk, by show _ = A 500 + (0 : Int64); rw [Int64.add_zero]; exact hA.2⟩

def tenL : Nat → Int64
  | 0 => 1
  | n + 1 => tenL n * 10
theorem w7_tens {M : MM} {n : Nat} {Post : Int64 → MM → Prop} (hn : n < 2147483648) (h : Post (tenL n) M) : wp_X7_tens M (nI n) Post := by
  unfold wp_X7_tens
  refine cl_ (fun f (v : Int64) j => wl_X7_tens_4 (nI n) (fun M_7 x1_9 => Post x1_9 M_7) f M v (nI j)) (fun j v => v = tenL j) n ?_ ?_ 1 0 (by omega) rfl
  · intro f j v hj hv hs'
    show wl_X7_tens_4 (nI n) _ (f + 1) M v (nI j)
    unfold wl_X7_tens_4
    rw [if_neg (nI_ge hj hn)]
    simp only [forall_eq, ap1]
    exact hs' _ (by rw [hv]; rfl)
  · intro f v hv
    show wl_X7_tens_4 (nI n) _ (f + 1) M v (nI n)
    unfold wl_X7_tens_4
    rw [if_pos (nI_le (Nat.le_refl _) hn), hv]
    exact h
/-- longs of an array go to 0, below 500 -/
theorem w7_g16 {o : Nat} {M : MM} {x1 x2 x3 : Int32} {X : MM → Prop} (hL : ML o M) (h : ∀ M', fL (fun a => a = o + 22) M M' → (∀ k, k < 500 → aL o 22 M' k = 0) → X M') : ∃ n, wl_X7_goesThrough_16 o x1 x2 x3 X n M (nI 0) := by
  refine cl_ (fun n M1 j => wl_X7_goesThrough_16 o x1 x2 x3 X n M1 (nI j)) (fun j M1 => fL (fun a => a = o + 22) M M1 ∧ ∀ k, k < j → aL o 22 M1 k = 0) 500 ?_ ?_ M 0 (by omega) ⟨fL.rf, fun f hf => by omega⟩
  · intro n j M1 hj ⟨hF, hr⟩ hs'
    have h1 : ML o M1 := ML_of hF.2.1 hL
    show wl_X7_goesThrough_16 o x1 x2 x3 X (n + 1) M1 (nI j)
    unfold wl_X7_goesThrough_16
    rw [if_neg (show ¬ (500 : Int32) ≤ nI j from (show ¬ nI 500 ≤ nI j from nI_ge (by omega) (by omega)))]
    simp (disch := first | assumption | omega) only [mgR_sI, mgR_sL, mkd_sI, mkd_sL, mln_sI, mln_sL, Option.some.injEq, exists_eq_left', forall_eq, true_and, and_true, Nat.reduceLT, exists_eq_left, ML_r0, ML_k1, ML_l1, ML_r1, ML_k2, ML_l2, ML_r2, ML_k3, ML_l3, ML_r3, ML_k4, ML_l4, ML_r13, ML_k5, ML_l5, ML_r14, ML_k6, ML_l6, ML_r15, ML_k7, ML_l7, ML_r16, ML_k8, ML_l8, ML_r17, ML_k9, ML_l9, ML_r18, ML_k10, ML_l10, ML_r19, ML_k11, ML_l11, ML_r20, ML_k12, ML_l12, ML_r21, ML_k13, ML_l13, ML_r22, ML_k14, ML_l14, ML_r23, ML_k15, ML_l15, ML_r24, ML_k16, ML_l16, ML_r25, ML_k17, ML_l17, ML_r26, ML_k18, ML_l18, ML_r30, ML_k19, ML_l19, ML_r35, ML_k20, ML_l20, ML_r36, ML_k21, ML_l21, ML_r37, ML_k22, ML_l22, ML_r38, ML_k23, ML_l23, ML_r40, ML_k24, ML_l24, ML_r41, ML_k25, ML_l25, ML_r42, ML_k26, ML_l26, ML_r43, ML_k27, ML_l27, ML_r44, ML_k28, ML_l28, ML_r45, ML_k29, ML_l29, ML_r48, ML_k30, ML_l30, ML_r51, ML_k31, ML_l31, ML_r52, ML_k32, ML_l32, ia0, ia4, ia8, ia12, ia16, ia20, ia24, ia52, ia60, ia68, im7, im14, ap6, iaN, ap1, ixN, vpN]
    refine hs' _ ⟨hF.s rfl, fun f hf => ?_⟩
    rw [aL_s, if_pos rfl]
    unfold upL
    by_cases e : f = j
    · rw [if_pos e]
    · rw [if_neg e]; exact hr f (by omega)
  · intro n M1 ⟨hF, hr⟩
    show wl_X7_goesThrough_16 o x1 x2 x3 X (n + 1) M1 (nI 500)
    unfold wl_X7_goesThrough_16
    rw [if_pos (show (500 : Int32) ≤ nI 500 from by decide)]
    exact h M1 hF hr
theorem w7_g109 {o : Nat} {M : MM} {x1 x2 x3 x4 : Int32} {X : MM → Prop} (hL : ML o M) (h : ∀ M', fL (fun a => a = o + 23) M M' → (∀ k, k < 500 → aL o 23 M' k = 0) → X M') : ∃ n, wl_X7_goesThrough_109 o x1 x2 x3 x4 X n M (nI 0) := by
  refine cl_ (fun n M1 j => wl_X7_goesThrough_109 o x1 x2 x3 x4 X n M1 (nI j)) (fun j M1 => fL (fun a => a = o + 23) M M1 ∧ ∀ k, k < j → aL o 23 M1 k = 0) 500 ?_ ?_ M 0 (by omega) ⟨fL.rf, fun f hf => by omega⟩
  · intro n j M1 hj ⟨hF, hr⟩ hs'
    have h1 : ML o M1 := ML_of hF.2.1 hL
    show wl_X7_goesThrough_109 o x1 x2 x3 x4 X (n + 1) M1 (nI j)
    unfold wl_X7_goesThrough_109
    rw [if_neg (show ¬ (500 : Int32) ≤ nI j from (show ¬ nI 500 ≤ nI j from nI_ge (by omega) (by omega)))]
    simp (disch := first | assumption | omega) only [mgR_sI, mgR_sL, mkd_sI, mkd_sL, mln_sI, mln_sL, Option.some.injEq, exists_eq_left', forall_eq, true_and, and_true, Nat.reduceLT, exists_eq_left, ML_r0, ML_k1, ML_l1, ML_r1, ML_k2, ML_l2, ML_r2, ML_k3, ML_l3, ML_r3, ML_k4, ML_l4, ML_r13, ML_k5, ML_l5, ML_r14, ML_k6, ML_l6, ML_r15, ML_k7, ML_l7, ML_r16, ML_k8, ML_l8, ML_r17, ML_k9, ML_l9, ML_r18, ML_k10, ML_l10, ML_r19, ML_k11, ML_l11, ML_r20, ML_k12, ML_l12, ML_r21, ML_k13, ML_l13, ML_r22, ML_k14, ML_l14, ML_r23, ML_k15, ML_l15, ML_r24, ML_k16, ML_l16, ML_r25, ML_k17, ML_l17, ML_r26, ML_k18, ML_l18, ML_r30, ML_k19, ML_l19, ML_r35, ML_k20, ML_l20, ML_r36, ML_k21, ML_l21, ML_r37, ML_k22, ML_l22, ML_r38, ML_k23, ML_l23, ML_r40, ML_k24, ML_l24, ML_r41, ML_k25, ML_l25, ML_r42, ML_k26, ML_l26, ML_r43, ML_k27, ML_l27, ML_r44, ML_k28, ML_l28, ML_r45, ML_k29, ML_l29, ML_r48, ML_k30, ML_l30, ML_r51, ML_k31, ML_l31, ML_r52, ML_k32, ML_l32, ia0, ia4, ia8, ia12, ia16, ia20, ia24, ia52, ia60, ia68, im7, im14, ap6, iaN, ap1, ixN, vpN]
    refine hs' _ ⟨hF.s rfl, fun f hf => ?_⟩
    rw [aL_s, if_pos rfl]
    unfold upL
    by_cases e : f = j
    · rw [if_pos e]
    · rw [if_neg e]; exact hr f (by omega)
  · intro n M1 ⟨hF, hr⟩
    show wl_X7_goesThrough_109 o x1 x2 x3 x4 X (n + 1) M1 (nI 500)
    unfold wl_X7_goesThrough_109
    rw [if_pos (show (500 : Int32) ≤ nI 500 from by decide)]
    exact h M1 hF hr
theorem w7_g222 {o : Nat} {M : MM} {x1 x2 x3 x4 : Int32} {X : MM → Prop} (hL : ML o M) (h : ∀ M', fL (fun a => a = o + 22) M M' → (∀ k, k < 500 → aL o 22 M' k = aL o 23 M k) → X M') : ∃ n, wl_X7_goesThrough_222 o x1 x2 x3 x4 X n M (nI 0) := by
  refine cl_ (fun n M1 j => wl_X7_goesThrough_222 o x1 x2 x3 x4 X n M1 (nI j)) (fun j M1 => fL (fun a => a = o + 22) M M1 ∧ ∀ k, k < j → aL o 22 M1 k = aL o 23 M k) 500 ?_ ?_ M 0 (by omega) ⟨fL.rf, fun f hf => by omega⟩
  · intro n j M1 hj ⟨hF, hr⟩ hs'
    have h1 : ML o M1 := ML_of hF.2.1 hL
    have e23 : aL o 23 M1 = aL o 23 M := funext fun k => hF.2.2 _ _ (by omega)
    show wl_X7_goesThrough_222 o x1 x2 x3 x4 X (n + 1) M1 (nI j)
    unfold wl_X7_goesThrough_222
    rw [if_neg (show ¬ (500 : Int32) ≤ nI j from (show ¬ nI 500 ≤ nI j from nI_ge (by omega) (by omega)))]
    simp (disch := first | assumption | omega) only [mgR_sI, mgR_sL, mkd_sI, mkd_sL, mln_sI, mln_sL, Option.some.injEq, exists_eq_left', forall_eq, true_and, and_true, Nat.reduceLT, exists_eq_left, ML_r0, ML_k1, ML_l1, ML_r1, ML_k2, ML_l2, ML_r2, ML_k3, ML_l3, ML_r3, ML_k4, ML_l4, ML_r13, ML_k5, ML_l5, ML_r14, ML_k6, ML_l6, ML_r15, ML_k7, ML_l7, ML_r16, ML_k8, ML_l8, ML_r17, ML_k9, ML_l9, ML_r18, ML_k10, ML_l10, ML_r19, ML_k11, ML_l11, ML_r20, ML_k12, ML_l12, ML_r21, ML_k13, ML_l13, ML_r22, ML_k14, ML_l14, ML_r23, ML_k15, ML_l15, ML_r24, ML_k16, ML_l16, ML_r25, ML_k17, ML_l17, ML_r26, ML_k18, ML_l18, ML_r30, ML_k19, ML_l19, ML_r35, ML_k20, ML_l20, ML_r36, ML_k21, ML_l21, ML_r37, ML_k22, ML_l22, ML_r38, ML_k23, ML_l23, ML_r40, ML_k24, ML_l24, ML_r41, ML_k25, ML_l25, ML_r42, ML_k26, ML_l26, ML_r43, ML_k27, ML_l27, ML_r44, ML_k28, ML_l28, ML_r45, ML_k29, ML_l29, ML_r48, ML_k30, ML_l30, ML_r51, ML_k31, ML_l31, ML_r52, ML_k32, ML_l32, ia0, ia4, ia8, ia12, ia16, ia20, ia24, ia52, ia60, ia68, im7, im14, ap6, iaN, ap1, ixN, vpN, aLE (o := o) (c := 23), e23]
    refine hs' _ ⟨hF.s rfl, fun f hf => ?_⟩
    rw [aL_s, if_pos rfl]
    unfold upL
    by_cases e : f = j
    · rw [if_pos e, e]
    · rw [if_neg e]; exact hr f (by omega)
  · intro n M1 ⟨hF, hr⟩
    show wl_X7_goesThrough_222 o x1 x2 x3 x4 X (n + 1) M1 (nI 500)
    unfold wl_X7_goesThrough_222
    rw [if_pos (show (500 : Int32) ≤ nI 500 from by decide)]
    exact h M1 hF hr
theorem dayW_congr {t u : Nat → Int64} {to : Nat → Nat → Nat → Nat} {de : Nat → Nat → Nat → Nat} {m : Nat} {w w' : Nat → Int64} (e : ∀ k, k < 500 → w k = w' k) : dayW t u to de m w = dayW t u to de m w' := by
  funext k
  unfold dayW
  refine sm_congr (fun f hf => sm_congr (fun s hs => ?_))
  rw [pV_congr (fun g hg => e (20 * g + s) (by omega)) m f hf]
def dUp (s : Nat → Int32) : Nat → Int32 := up s 79 (s 79 + 1)
/-- weights and the dead behind n days -/
def gtN (T : Nat → Txt) (l : Nat) (th rc rb : Int32) (who : Nat → Nat) (tn : Nat → Int32) (m pot br : Nat) : Nat → (Nat → Int32) → (Nat → Int64) × Int64 → (Nat → Int64) × Int64
  | 0, _, A => A
  | n + 1, s, A => gtN T l th rc rb who tn m pot br n (dUp s) (dW T l th rc rb who tn m pot br s A.1, A.2 * tenL (m + 1) + dW T l th rc rb who tn m pot br s A.1 500)
/-- weights below 500 and the dead -/
def wwE (o : Nat) (M : MM) (A : (Nat → Int64) × Int64) : Prop := (∀ k, k < 500 → aL o 22 M k = A.1 k) ∧ mgL M o 39 = A.2
/-- frame of the whole: the row's day may change -/
def eF (o : Nat) (M M' : MM) : Prop := gF o M M' ∧ (∀ c, 19 ≤ c → c < 33 → ar o c M' = ar o c M) ∧ (∀ k, mgI M' o k = mgI M o k) ∧ ar o 2 M' = ar o 2 M
theorem eF.rf {o : Nat} {M : MM} : eF o M M := ⟨gF.rf, fun _ _ _ => rfl, fun _ => rfl, rfl⟩
theorem eF.tr {o : Nat} {M M1 M2 : MM} (h : eF o M M1) (g : eF o M1 M2) : eF o M M2 := ⟨h.1.tr g.1, fun c a b => (g.2.1 c a b).trans (h.2.1 c a b), fun k => (g.2.2.1 k).trans (h.2.2.1 k), g.2.2.2.trans h.2.2.2⟩
theorem dF.ef {o : Nat} {M M1 : MM} (h : dF o M M1) : eF o M M1 := ⟨h.g, fun c a b => h.ar (by omega), fun k => h.2.1 _ _ (by omega) (by omega), h.ar (by omega)⟩
theorem eF.s {o k : Nat} {M M1 : MM} {v : Int32} (h : eF o M M1) : eF o M (msI M1 (o + 1) k v) := ⟨h.1.s PSc1, fun c a b => by rw [ar_s, if_neg (by omega)]; exact h.2.1 c a b, fun k => by rw [fd_c (by omega)]; exact h.2.2.1 k, by rw [ar_s, if_neg (by omega)]; exact h.2.2.2⟩
theorem DPc.e {o : Nat} {M M1 : MM} {l : Nat} {th rc rb : Int32} {who : Nat → Nat} {tn : Nat → Int32} {m : Nat} {s s' : Nat → Int32} {T : Nat → Txt} (h : DPc o M l th rc rb who tn m s T) (hF : eF o M M1) (hs : ar o 1 M1 = s') : DPc o M1 l th rc rb who tn m s' T := by
  obtain ⟨h1, h2, h3, h4, h5, h6, h7, h8⟩ := h
  refine ⟨ML_of hF.1.1 h1, h2.of (fun c a b k => hF.1.2.1 _ _ (by unfold PSc; omega)), hs, (hF.2.2.1 _).trans h4, (hF.2.2.1 _).trans h5, (hF.2.2.1 _).trans h6, h7.imp id (fun h7 => (hF.2.2.1 _).trans h7), fun i hi => ?_⟩
  rw [hF.2.1 20 (by omega) (by omega), hF.2.1 21 (by omega) (by omega)]
  exact h8 i hi
theorem l7_g85 {o l m pot br n : Nat} {th rc rb x3 : Int32} {who : Nat → Nat} {tn : Nat → Int32} {T : Nat → Txt} {X : MM → Prop} (hl : l < 4) (hrc : rc = -1 ∨ ∃ r, r ≤ 9 ∧ rc = nI r) (hpot2 : pot ≤ 24) (hbr9 : br ≤ 9) (hm8 : m ≤ 8) (hwho : ∀ i, i < m → who i < 8) (hn : n < 100) :
    ∀ j d M s A, d + j = n → DPc o M l th rc rb who tn m s T → RuOk s → s l = nI pot → s (8 + l) = nI br → wwE o M A → (∀ M' s', eF o M M' → ar o 1 M' = s' → (∀ k, k ≠ 79 → s' k = s k) → wwE o M' (gtN T l th rc rb who tn m pot br j s A) → X M') → wl_X7_goesThrough_85 o (nI n) (nI m) x3 X (j + 1) M (nI d) := by
  intro j
  induction j with
  | zero =>
    intro d M s A hd hD hr hp hb hA h
    unfold wl_X7_goesThrough_85
    rw [if_pos (nI_le (by omega) (by omega))]
    exact h M s eF.rf hD.2.2.1 (fun _ _ => rfl) hA
  | succ j ih =>
    intro d M s A hd hD hr hp hb hA h
    unfold wl_X7_goesThrough_85
    rw [if_neg (nI_ge (by omega) (by omega)), ap1]
    refine w7_tens (by omega) ?_
    simp only [forall_eq]
    have hFa : dF o M (msL M o 39 (mgL M o 39 * tenL (m + 1))) := dF.rf.s39
    have hDa := hD.d hFa
    refine w7_g109 hDa.1 (fun M2 hF2 hz => ?_)
    have hF02 : dF o M M2 := hFa.tr (hF2.d (fun a e => by omega))
    have hw2 : aL o 22 M2 = aL o 22 M := by
      refine (funext fun k => hF2.2.2 _ _ (by omega)).trans ?_
      exact aL_0 (by omega)
    have hA2 : wdE o M2 (fun k => if k = 500 then A.2 * tenL (m + 1) else 0) := by
      refine ⟨fun k hk => ?_, ?_⟩
      · dsimp only; rw [if_neg (by omega)]; exact hz k hk
      · rw [hF2.2.2 _ _ (by omega), mgL_sL, if_pos ⟨rfl, rfl⟩, hA.2]; rfl
    refine w7_g134 (hD.d hF02) hl hr hrc hp hpot2 hb hbr9 hm8 hwho hw2 hA2 (fun M3 hF3 hA3 => ?_)
    have hF03 := hF02.tr hF3
    refine w7_g222 (hD.d hF03).1 (fun M4 hF4 hw4 => ?_)
    have hF04 := hF03.tr (hF4.d (fun a e => by omega))
    have hD4 := hD.d hF04
    have hL4 : ML o M4 := hD4.1
    have ha4 : ar o 1 M4 = s := hD4.2.2.1
    simp (disch := first | assumption | omega) only [mgR_sI, mgR_sL, mkd_sI, mkd_sL, mln_sI, mln_sL, Option.some.injEq, exists_eq_left', forall_eq, true_and, and_true, Nat.reduceLT, exists_eq_left, ML_r0, ML_k1, ML_l1, ML_r1, ML_k2, ML_l2, ML_r2, ML_k3, ML_l3, ML_r3, ML_k4, ML_l4, ML_r13, ML_k5, ML_l5, ML_r14, ML_k6, ML_l6, ML_r15, ML_k7, ML_l7, ML_r16, ML_k8, ML_l8, ML_r17, ML_k9, ML_l9, ML_r18, ML_k10, ML_l10, ML_r19, ML_k11, ML_l11, ML_r20, ML_k12, ML_l12, ML_r21, ML_k13, ML_l13, ML_r22, ML_k14, ML_l14, ML_r23, ML_k15, ML_l15, ML_r24, ML_k16, ML_l16, ML_r25, ML_k17, ML_l17, ML_r26, ML_k18, ML_l18, ML_r30, ML_k19, ML_l19, ML_r35, ML_k20, ML_l20, ML_r36, ML_k21, ML_l21, ML_r37, ML_k22, ML_l22, ML_r38, ML_k23, ML_l23, ML_r40, ML_k24, ML_l24, ML_r41, ML_k25, ML_l25, ML_r42, ML_k26, ML_l26, ML_r43, ML_k27, ML_l27, ML_r44, ML_k28, ML_l28, ML_r45, ML_k29, ML_l29, ML_r48, ML_k30, ML_l30, ML_r51, ML_k31, ML_l31, ML_r52, ML_k32, ML_l32, arE (o := o) (c := 1), ha4, ap1]
    have hF5 : eF o M (msI M4 (o + 1) 79 (s 79 + 1)) := hF04.ef.s
    have ha5 : ar o 1 (msI M4 (o + 1) 79 (s 79 + 1)) = dUp s := by rw [ar_s, if_pos rfl, ha4]; rfl
    have hdw : dW T l th rc rb who tn m pot br s (aL o 22 M) = dW T l th rc rb who tn m pot br s A.1 := dayW_congr hA.1
    refine ih (d + 1) _ (dUp s) (dW T l th rc rb who tn m pot br s A.1, A.2 * tenL (m + 1) + dW T l th rc rb who tn m pot br s A.1 500) (by omega) (hD.e hF5 ha5) ?_ ?_ ?_ ?_ (fun M' s' k1 k2 k3 k4 => h M' s' (hF5.tr k1) k2 (fun k hk => (k3 k hk).trans (up_ne (by omega))) k4)
    · intro p hp8
      obtain ⟨r, h1, h2⟩ := hr p hp8
      exact ⟨r, h1, (up_ne (by omega)).trans h2⟩
    · exact (up_ne (by omega)).trans hp
    · exact (up_ne (by omega)).trans hb
    · refine ⟨fun k hk => ?_, ?_⟩
      · show aL o 22 M4 k = _
        rw [hw4 k hk, hA3.1 k hk, hdw]
        dsimp only
        rw [if_neg (by omega), Int64.zero_add]
      · show mgL M4 o 39 = _
        rw [hF4.2.2 _ _ (by omega), hA3.2, hdw]
        dsimp only
        rw [if_pos rfl]
